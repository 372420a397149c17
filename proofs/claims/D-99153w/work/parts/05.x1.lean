/-! FrostBox -/
set_option maxRecDepth 100000
def RX1 : String := "FrostBox"
def TX1 : u_T := fun k => match k with
  | 0 => ("FrostBox", "fault", "LFrostBox$Fault;", true)
  | 1 => ("FrostBox", "tape", "[B", true)
  | 2 => ("FrostBox", "taped", "I", false)
  | 3 => ("FrostBox", "place", "I", false)
  | 4 => ("FrostBox", "deep", "I", false)
  | 5 => ("FrostBox", "letters", "[I", true)
  | 6 => ("FrostBox", "readRule", "[I", true)
  | 7 => ("FrostBox", "readKind", "[I", true)
  | 8 => ("FrostBox", "readBox", "[I", true)
  | 9 => ("FrostBox", "rules", "[I", true)
  | 10 => ("FrostBox", "kinds", "[I", true)
  | 11 => ("FrostBox", "readKinds", "I", false)
  | 12 => ("FrostBox", "readBoxes", "I", false)
  | 13 => ("FrostBox", "kindMany", "I", false)
  | 14 => ("FrostBox", "plans", "[I", true)
  | 15 => ("FrostBox", "planLong", "[I", true)
  | 16 => ("FrostBox", "planMany", "I", false)
  | 17 => ("FrostBox", "laws", "[LFrostBox$Clause;", true)
  | 18 => ("FrostBox", "lawMany", "I", false)
  | 19 => ("FrostBox", "holding", "I", false)
  | 20 => ("FrostBox", "habits", "I", false)
  | 21 => ("FrostBox", "now", "[I", true)
  | 22 => ("FrostBox", "kept", "[I", true)
  | 23 => ("FrostBox", "acts", "I", false)
  | 24 => ("FrostBox", "draws", "J", false)
  | 25 => ("FrostBox", "aside", "[I", true)
  | 26 => ("FrostBox", "mostBy", "[I", true)
  | 27 => ("FrostBox", "peekSort", "[I", true)
  | 28 => ("FrostBox", "peekSeemed", "[I", true)
  | 29 => ("FrostBox", "peeks", "I", false)
  | 30 => ("FrostBox", "foundAt", "[I", true)
  | 31 => ("FrostBox", "foundKind", "[I", true)
  | 32 => ("FrostBox", "foundIs", "[Z", true)
  | 33 => ("FrostBox", "founds", "I", false)
  | 34 => ("FrostBox", "leftOf", "[I", true)
  | 35 => ("FrostBox", "rowOf", "[I", true)
  | 36 => ("FrostBox", "shareOf", "[I", true)
  | 37 => ("FrostBox", "rowMany", "I", false)
  | 38 => ("FrostBox", "rowWanted", "I", false)
  | 39 => ("FrostBox", "rowFound", "I", false)
  | 40 => ("FrostBox", "image", "[I", true)
  | _ => ("FrostBox", "hasImage", "Z", false)
def tyX1 : Nat → FieldType := fun k => match k with
  | 0 => .object "FrostBox$Fault"
  | 1 => .array .byte
  | 2 => .int
  | 3 => .int
  | 4 => .int
  | 5 => .array .int
  | 6 => .array .int
  | 7 => .array .int
  | 8 => .array .int
  | 9 => .array .int
  | 10 => .array .int
  | 11 => .int
  | 12 => .int
  | 13 => .int
  | 14 => .array .int
  | 15 => .array .int
  | 16 => .int
  | 17 => .array (.object "FrostBox$Clause")
  | 18 => .int
  | 19 => .int
  | 20 => .int
  | 21 => .array .int
  | 22 => .array .int
  | 23 => .int
  | 24 => .long
  | 25 => .array .int
  | 26 => .array .int
  | 27 => .array .int
  | 28 => .array .int
  | 29 => .int
  | 30 => .array .int
  | 31 => .array .int
  | 32 => .array .boolean
  | 33 => .int
  | 34 => .array .int
  | 35 => .array .int
  | 36 => .array .int
  | 37 => .int
  | 38 => .int
  | 39 => .int
  | 40 => .array .int
  | _ => .boolean
abbrev wsX10 : List Cond := u_ws RX1 TX1 42
set_option maxRecDepth 100000 in
theorem nmX1 : ∀ a, a < 42 → ∀ b, b < 42 → a ≠ b → (TX1 a).2.1 ≠ (TX1 b).2.1 := by decide +kernel
set_option maxRecDepth 100000 in
theorem tyX1_ok : ∀ k, k < 42 → parseFieldDescriptor (TX1 k).2.2.1 = some (tyX1 k) := by decide +kernel
abbrev cX1_init : ByteArray := prog_1_method_3_code
def yX1_init : MethodName := ⟨RX1, "<init>", "()V"⟩
def dkwX1_init_8 : List UInt8 := [188, 10, 181, 0, 89, 42, 16, 6, 188, 10, 181, 0, 92, 42, 17, 1, 19, 188, 10, 181, 0, 95, 177]
abbrev dktX1_init_8 : List UInt8 := dkwX1_init_8 ++ []
def dkwX1_init_7 : List UInt8 := [188, 10, 181, 0, 79, 42, 16, 10, 188, 4, 181, 0, 82, 42, 16, 6, 188, 10, 181, 0, 86, 42, 16, 6]
abbrev dktX1_init_7 : List UInt8 := dkwX1_init_7 ++ dktX1_init_8
def dkwX1_init_6 : List UInt8 := [188, 10, 181, 0, 70, 42, 16, 12, 188, 10, 181, 0, 73, 42, 16, 10, 188, 10, 181, 0, 76, 42, 16, 10]
abbrev dktX1_init_6 : List UInt8 := dkwX1_init_6 ++ dktX1_init_7
def dkwX1_init_5 : List UInt8 := [181, 0, 61, 42, 17, 1, 19, 188, 10, 181, 0, 64, 42, 17, 1, 0, 188, 10, 181, 0, 67, 42, 16, 12]
abbrev dktX1_init_5 : List UInt8 := dkwX1_init_5 ++ dktX1_init_6
def dkwX1_init_4 : List UInt8 := [2, 181, 0, 51, 42, 8, 181, 0, 55, 42, 17, 1, 19, 188, 10, 181, 0, 58, 42, 17, 42, 248, 188, 10]
abbrev dktX1_init_4 : List UInt8 := dkwX1_init_4 ++ dktX1_init_5
def dkwX1_init_3 : List UInt8 := [17, 1, 64, 188, 10, 181, 0, 39, 42, 8, 188, 10, 181, 0, 42, 42, 7, 189, 0, 45, 181, 0, 47, 42]
abbrev dktX1_init_3 : List UInt8 := dkwX1_init_3 ++ dktX1_init_4
def dkwX1_init_2 : List UInt8 := [42, 16, 32, 188, 10, 181, 0, 30, 42, 7, 188, 10, 181, 0, 33, 42, 16, 30, 188, 10, 181, 0, 36, 42]
abbrev dktX1_init_2 : List UInt8 := dkwX1_init_2 ++ dktX1_init_3
def dkwX1_init_1 : List UInt8 := [42, 17, 0, 128, 188, 10, 181, 0, 20, 42, 7, 188, 10, 181, 0, 24, 42, 16, 30, 188, 10, 181, 0, 27]
abbrev dktX1_init_1 : List UInt8 := dkwX1_init_1 ++ dktX1_init_2
def dkwX1_init_0 : List UInt8 := [42, 183, 0, 3, 42, 187, 0, 9, 89, 183, 0, 11, 181, 0, 12, 42, 17, 0, 240, 188, 8, 181, 0, 16]
abbrev dktX1_init_0 : List UInt8 := dkwX1_init_0 ++ dktX1_init_1
theorem dksX1_init_0 : cX1_init.data.toList.drop 0 = dktX1_init_0 := by decide +kernel
theorem dksX1_init_1 : cX1_init.data.toList.drop 24 = dktX1_init_1 := dk_seg dksX1_init_0 24 rfl rfl
theorem dksX1_init_2 : cX1_init.data.toList.drop 48 = dktX1_init_2 := dk_seg dksX1_init_1 24 rfl rfl
theorem dksX1_init_3 : cX1_init.data.toList.drop 72 = dktX1_init_3 := dk_seg dksX1_init_2 24 rfl rfl
theorem dksX1_init_4 : cX1_init.data.toList.drop 96 = dktX1_init_4 := dk_seg dksX1_init_3 24 rfl rfl
theorem dksX1_init_5 : cX1_init.data.toList.drop 120 = dktX1_init_5 := dk_seg dksX1_init_4 24 rfl rfl
theorem dksX1_init_6 : cX1_init.data.toList.drop 144 = dktX1_init_6 := dk_seg dksX1_init_5 24 rfl rfl
theorem dksX1_init_7 : cX1_init.data.toList.drop 168 = dktX1_init_7 := dk_seg dksX1_init_6 24 rfl rfl
theorem dksX1_init_8 : cX1_init.data.toList.drop 192 = dktX1_init_8 := dk_seg dksX1_init_7 24 rfl rfl
theorem dX1_init_0 : decode cX1_init 0 = .ok (.aload_n 0, 1) := dk_42 (dk_at dksX1_init_0 0 rfl rfl)
theorem dX1_init_1 : decode cX1_init 1 = .ok (.invokespecial 3, 3) := dk_183 0 3 (dk_at dksX1_init_0 1 rfl rfl)
theorem dX1_init_4 : decode cX1_init 4 = .ok (.aload_n 0, 1) := dk_42 (dk_at dksX1_init_0 4 rfl rfl)
theorem dX1_init_5 : decode cX1_init 5 = .ok (.new 9, 3) := dk_187 0 9 (dk_at dksX1_init_0 5 rfl rfl)
theorem dX1_init_8 : decode cX1_init 8 = .ok (.dup, 1) := dk_89 (dk_at dksX1_init_0 8 rfl rfl)
theorem dX1_init_9 : decode cX1_init 9 = .ok (.invokespecial 11, 3) := dk_183 0 11 (dk_at dksX1_init_0 9 rfl rfl)
theorem dX1_init_12 : decode cX1_init 12 = .ok (.putfield 12, 3) := dk_181 0 12 (dk_at dksX1_init_0 12 rfl rfl)
theorem dX1_init_15 : decode cX1_init 15 = .ok (.aload_n 0, 1) := dk_42 (dk_at dksX1_init_0 15 rfl rfl)
theorem dX1_init_16 : decode cX1_init 16 = .ok (.sipush 240, 3) := dk_17 0 240 (dk_at dksX1_init_0 16 rfl rfl)
theorem dX1_init_19 : decode cX1_init 19 = .ok (.newarray .byte, 2) := dk_188_8 (dk_at dksX1_init_0 19 rfl rfl)
theorem dX1_init_21 : decode cX1_init 21 = .ok (.putfield 16, 3) := dk_181 0 16 (dk_at dksX1_init_0 21 rfl rfl)
theorem dX1_init_24 : decode cX1_init 24 = .ok (.aload_n 0, 1) := dk_42 (dk_at dksX1_init_1 0 rfl rfl)
theorem dX1_init_25 : decode cX1_init 25 = .ok (.sipush 128, 3) := dk_17 0 128 (dk_at dksX1_init_1 1 rfl rfl)
theorem dX1_init_28 : decode cX1_init 28 = .ok (.newarray .int, 2) := dk_188_10 (dk_at dksX1_init_1 4 rfl rfl)
theorem dX1_init_30 : decode cX1_init 30 = .ok (.putfield 20, 3) := dk_181 0 20 (dk_at dksX1_init_1 6 rfl rfl)
theorem dX1_init_33 : decode cX1_init 33 = .ok (.aload_n 0, 1) := dk_42 (dk_at dksX1_init_1 9 rfl rfl)
theorem dX1_init_34 : decode cX1_init 34 = .ok (.iconst 4, 1) := dk_7 (dk_at dksX1_init_1 10 rfl rfl)
theorem dX1_init_35 : decode cX1_init 35 = .ok (.newarray .int, 2) := dk_188_10 (dk_at dksX1_init_1 11 rfl rfl)
theorem dX1_init_37 : decode cX1_init 37 = .ok (.putfield 24, 3) := dk_181 0 24 (dk_at dksX1_init_1 13 rfl rfl)
theorem dX1_init_40 : decode cX1_init 40 = .ok (.aload_n 0, 1) := dk_42 (dk_at dksX1_init_1 16 rfl rfl)
theorem dX1_init_41 : decode cX1_init 41 = .ok (.bipush 30, 2) := dk_16 30 (dk_at dksX1_init_1 17 rfl rfl)
theorem dX1_init_43 : decode cX1_init 43 = .ok (.newarray .int, 2) := dk_188_10 (dk_at dksX1_init_1 19 rfl rfl)
theorem dX1_init_45 : decode cX1_init 45 = .ok (.putfield 27, 3) := dk_181 0 27 (dk_at dksX1_init_1 21 rfl rfl)
theorem dX1_init_48 : decode cX1_init 48 = .ok (.aload_n 0, 1) := dk_42 (dk_at dksX1_init_2 0 rfl rfl)
theorem dX1_init_49 : decode cX1_init 49 = .ok (.bipush 32, 2) := dk_16 32 (dk_at dksX1_init_2 1 rfl rfl)
theorem dX1_init_51 : decode cX1_init 51 = .ok (.newarray .int, 2) := dk_188_10 (dk_at dksX1_init_2 3 rfl rfl)
theorem dX1_init_53 : decode cX1_init 53 = .ok (.putfield 30, 3) := dk_181 0 30 (dk_at dksX1_init_2 5 rfl rfl)
theorem dX1_init_56 : decode cX1_init 56 = .ok (.aload_n 0, 1) := dk_42 (dk_at dksX1_init_2 8 rfl rfl)
theorem dX1_init_57 : decode cX1_init 57 = .ok (.iconst 4, 1) := dk_7 (dk_at dksX1_init_2 9 rfl rfl)
theorem dX1_init_58 : decode cX1_init 58 = .ok (.newarray .int, 2) := dk_188_10 (dk_at dksX1_init_2 10 rfl rfl)
theorem dX1_init_60 : decode cX1_init 60 = .ok (.putfield 33, 3) := dk_181 0 33 (dk_at dksX1_init_2 12 rfl rfl)
theorem dX1_init_63 : decode cX1_init 63 = .ok (.aload_n 0, 1) := dk_42 (dk_at dksX1_init_2 15 rfl rfl)
theorem dX1_init_64 : decode cX1_init 64 = .ok (.bipush 30, 2) := dk_16 30 (dk_at dksX1_init_2 16 rfl rfl)
theorem dX1_init_66 : decode cX1_init 66 = .ok (.newarray .int, 2) := dk_188_10 (dk_at dksX1_init_2 18 rfl rfl)
theorem dX1_init_68 : decode cX1_init 68 = .ok (.putfield 36, 3) := dk_181 0 36 (dk_at dksX1_init_2 20 rfl rfl)
theorem dX1_init_71 : decode cX1_init 71 = .ok (.aload_n 0, 1) := dk_42 (dk_at dksX1_init_2 23 rfl rfl)
theorem dX1_init_72 : decode cX1_init 72 = .ok (.sipush 320, 3) := dk_17 1 64 (dk_at dksX1_init_3 0 rfl rfl)
theorem dX1_init_75 : decode cX1_init 75 = .ok (.newarray .int, 2) := dk_188_10 (dk_at dksX1_init_3 3 rfl rfl)
theorem dX1_init_77 : decode cX1_init 77 = .ok (.putfield 39, 3) := dk_181 0 39 (dk_at dksX1_init_3 5 rfl rfl)
theorem dX1_init_80 : decode cX1_init 80 = .ok (.aload_n 0, 1) := dk_42 (dk_at dksX1_init_3 8 rfl rfl)
theorem dX1_init_81 : decode cX1_init 81 = .ok (.iconst 5, 1) := dk_8 (dk_at dksX1_init_3 9 rfl rfl)
theorem dX1_init_82 : decode cX1_init 82 = .ok (.newarray .int, 2) := dk_188_10 (dk_at dksX1_init_3 10 rfl rfl)
theorem dX1_init_84 : decode cX1_init 84 = .ok (.putfield 42, 3) := dk_181 0 42 (dk_at dksX1_init_3 12 rfl rfl)
theorem dX1_init_87 : decode cX1_init 87 = .ok (.aload_n 0, 1) := dk_42 (dk_at dksX1_init_3 15 rfl rfl)
theorem dX1_init_88 : decode cX1_init 88 = .ok (.iconst 4, 1) := dk_7 (dk_at dksX1_init_3 16 rfl rfl)
theorem dX1_init_89 : decode cX1_init 89 = .ok (.anewarray 45, 3) := dk_189 0 45 (dk_at dksX1_init_3 17 rfl rfl)
theorem dX1_init_92 : decode cX1_init 92 = .ok (.putfield 47, 3) := dk_181 0 47 (dk_at dksX1_init_3 20 rfl rfl)
theorem dX1_init_95 : decode cX1_init 95 = .ok (.aload_n 0, 1) := dk_42 (dk_at dksX1_init_3 23 rfl rfl)
theorem dX1_init_96 : decode cX1_init 96 = .ok (.iconst (-1), 1) := dk_2 (dk_at dksX1_init_4 0 rfl rfl)
theorem dX1_init_97 : decode cX1_init 97 = .ok (.putfield 51, 3) := dk_181 0 51 (dk_at dksX1_init_4 1 rfl rfl)
theorem dX1_init_100 : decode cX1_init 100 = .ok (.aload_n 0, 1) := dk_42 (dk_at dksX1_init_4 4 rfl rfl)
theorem dX1_init_101 : decode cX1_init 101 = .ok (.iconst 5, 1) := dk_8 (dk_at dksX1_init_4 5 rfl rfl)
theorem dX1_init_102 : decode cX1_init 102 = .ok (.putfield 55, 3) := dk_181 0 55 (dk_at dksX1_init_4 6 rfl rfl)
theorem dX1_init_105 : decode cX1_init 105 = .ok (.aload_n 0, 1) := dk_42 (dk_at dksX1_init_4 9 rfl rfl)
theorem dX1_init_106 : decode cX1_init 106 = .ok (.sipush 275, 3) := dk_17 1 19 (dk_at dksX1_init_4 10 rfl rfl)
theorem dX1_init_109 : decode cX1_init 109 = .ok (.newarray .int, 2) := dk_188_10 (dk_at dksX1_init_4 13 rfl rfl)
theorem dX1_init_111 : decode cX1_init 111 = .ok (.putfield 58, 3) := dk_181 0 58 (dk_at dksX1_init_4 15 rfl rfl)
theorem dX1_init_114 : decode cX1_init 114 = .ok (.aload_n 0, 1) := dk_42 (dk_at dksX1_init_4 18 rfl rfl)
theorem dX1_init_115 : decode cX1_init 115 = .ok (.sipush 11000, 3) := dk_17 42 248 (dk_at dksX1_init_4 19 rfl rfl)
theorem dX1_init_118 : decode cX1_init 118 = .ok (.newarray .int, 2) := dk_188_10 (dk_at dksX1_init_4 22 rfl rfl)
theorem dX1_init_120 : decode cX1_init 120 = .ok (.putfield 61, 3) := dk_181 0 61 (dk_at dksX1_init_5 0 rfl rfl)
theorem dX1_init_123 : decode cX1_init 123 = .ok (.aload_n 0, 1) := dk_42 (dk_at dksX1_init_5 3 rfl rfl)
theorem dX1_init_124 : decode cX1_init 124 = .ok (.sipush 275, 3) := dk_17 1 19 (dk_at dksX1_init_5 4 rfl rfl)
theorem dX1_init_127 : decode cX1_init 127 = .ok (.newarray .int, 2) := dk_188_10 (dk_at dksX1_init_5 7 rfl rfl)
theorem dX1_init_129 : decode cX1_init 129 = .ok (.putfield 64, 3) := dk_181 0 64 (dk_at dksX1_init_5 9 rfl rfl)
theorem dX1_init_132 : decode cX1_init 132 = .ok (.aload_n 0, 1) := dk_42 (dk_at dksX1_init_5 12 rfl rfl)
theorem dX1_init_133 : decode cX1_init 133 = .ok (.sipush 256, 3) := dk_17 1 0 (dk_at dksX1_init_5 13 rfl rfl)
theorem dX1_init_136 : decode cX1_init 136 = .ok (.newarray .int, 2) := dk_188_10 (dk_at dksX1_init_5 16 rfl rfl)
theorem dX1_init_138 : decode cX1_init 138 = .ok (.putfield 67, 3) := dk_181 0 67 (dk_at dksX1_init_5 18 rfl rfl)
theorem dX1_init_141 : decode cX1_init 141 = .ok (.aload_n 0, 1) := dk_42 (dk_at dksX1_init_5 21 rfl rfl)
theorem dX1_init_142 : decode cX1_init 142 = .ok (.bipush 12, 2) := dk_16 12 (dk_at dksX1_init_5 22 rfl rfl)
theorem dX1_init_144 : decode cX1_init 144 = .ok (.newarray .int, 2) := dk_188_10 (dk_at dksX1_init_6 0 rfl rfl)
theorem dX1_init_146 : decode cX1_init 146 = .ok (.putfield 70, 3) := dk_181 0 70 (dk_at dksX1_init_6 2 rfl rfl)
theorem dX1_init_149 : decode cX1_init 149 = .ok (.aload_n 0, 1) := dk_42 (dk_at dksX1_init_6 5 rfl rfl)
theorem dX1_init_150 : decode cX1_init 150 = .ok (.bipush 12, 2) := dk_16 12 (dk_at dksX1_init_6 6 rfl rfl)
theorem dX1_init_152 : decode cX1_init 152 = .ok (.newarray .int, 2) := dk_188_10 (dk_at dksX1_init_6 8 rfl rfl)
theorem dX1_init_154 : decode cX1_init 154 = .ok (.putfield 73, 3) := dk_181 0 73 (dk_at dksX1_init_6 10 rfl rfl)
theorem dX1_init_157 : decode cX1_init 157 = .ok (.aload_n 0, 1) := dk_42 (dk_at dksX1_init_6 13 rfl rfl)
theorem dX1_init_158 : decode cX1_init 158 = .ok (.bipush 10, 2) := dk_16 10 (dk_at dksX1_init_6 14 rfl rfl)
theorem dX1_init_160 : decode cX1_init 160 = .ok (.newarray .int, 2) := dk_188_10 (dk_at dksX1_init_6 16 rfl rfl)
theorem dX1_init_162 : decode cX1_init 162 = .ok (.putfield 76, 3) := dk_181 0 76 (dk_at dksX1_init_6 18 rfl rfl)
theorem dX1_init_165 : decode cX1_init 165 = .ok (.aload_n 0, 1) := dk_42 (dk_at dksX1_init_6 21 rfl rfl)
theorem dX1_init_166 : decode cX1_init 166 = .ok (.bipush 10, 2) := dk_16 10 (dk_at dksX1_init_6 22 rfl rfl)
theorem dX1_init_168 : decode cX1_init 168 = .ok (.newarray .int, 2) := dk_188_10 (dk_at dksX1_init_7 0 rfl rfl)
theorem dX1_init_170 : decode cX1_init 170 = .ok (.putfield 79, 3) := dk_181 0 79 (dk_at dksX1_init_7 2 rfl rfl)
theorem dX1_init_173 : decode cX1_init 173 = .ok (.aload_n 0, 1) := dk_42 (dk_at dksX1_init_7 5 rfl rfl)
theorem dX1_init_174 : decode cX1_init 174 = .ok (.bipush 10, 2) := dk_16 10 (dk_at dksX1_init_7 6 rfl rfl)
theorem dX1_init_176 : decode cX1_init 176 = .ok (.newarray .boolean, 2) := dk_188_4 (dk_at dksX1_init_7 8 rfl rfl)
theorem dX1_init_178 : decode cX1_init 178 = .ok (.putfield 82, 3) := dk_181 0 82 (dk_at dksX1_init_7 10 rfl rfl)
theorem dX1_init_181 : decode cX1_init 181 = .ok (.aload_n 0, 1) := dk_42 (dk_at dksX1_init_7 13 rfl rfl)
theorem dX1_init_182 : decode cX1_init 182 = .ok (.bipush 6, 2) := dk_16 6 (dk_at dksX1_init_7 14 rfl rfl)
theorem dX1_init_184 : decode cX1_init 184 = .ok (.newarray .int, 2) := dk_188_10 (dk_at dksX1_init_7 16 rfl rfl)
theorem dX1_init_186 : decode cX1_init 186 = .ok (.putfield 86, 3) := dk_181 0 86 (dk_at dksX1_init_7 18 rfl rfl)
theorem dX1_init_189 : decode cX1_init 189 = .ok (.aload_n 0, 1) := dk_42 (dk_at dksX1_init_7 21 rfl rfl)
theorem dX1_init_190 : decode cX1_init 190 = .ok (.bipush 6, 2) := dk_16 6 (dk_at dksX1_init_7 22 rfl rfl)
theorem dX1_init_192 : decode cX1_init 192 = .ok (.newarray .int, 2) := dk_188_10 (dk_at dksX1_init_8 0 rfl rfl)
theorem dX1_init_194 : decode cX1_init 194 = .ok (.putfield 89, 3) := dk_181 0 89 (dk_at dksX1_init_8 2 rfl rfl)
theorem dX1_init_197 : decode cX1_init 197 = .ok (.aload_n 0, 1) := dk_42 (dk_at dksX1_init_8 5 rfl rfl)
theorem dX1_init_198 : decode cX1_init 198 = .ok (.bipush 6, 2) := dk_16 6 (dk_at dksX1_init_8 6 rfl rfl)
theorem dX1_init_200 : decode cX1_init 200 = .ok (.newarray .int, 2) := dk_188_10 (dk_at dksX1_init_8 8 rfl rfl)
theorem dX1_init_202 : decode cX1_init 202 = .ok (.putfield 92, 3) := dk_181 0 92 (dk_at dksX1_init_8 10 rfl rfl)
theorem dX1_init_205 : decode cX1_init 205 = .ok (.aload_n 0, 1) := dk_42 (dk_at dksX1_init_8 13 rfl rfl)
theorem dX1_init_206 : decode cX1_init 206 = .ok (.sipush 275, 3) := dk_17 1 19 (dk_at dksX1_init_8 14 rfl rfl)
theorem dX1_init_209 : decode cX1_init 209 = .ok (.newarray .int, 2) := dk_188_10 (dk_at dksX1_init_8 17 rfl rfl)
theorem dX1_init_211 : decode cX1_init 211 = .ok (.putfield 95, 3) := dk_181 0 95 (dk_at dksX1_init_8 19 rfl rfl)
theorem dX1_init_214 : decode cX1_init 214 = .ok (.return_, 1) := dk_177 (dk_at dksX1_init_8 22 rfl rfl)
abbrev cX1_feed : ByteArray := prog_1_method_5_code
def yX1_feed : MethodName := ⟨RX1, "feed", "(IIIII)I"⟩
def dkwX1_feed_4 : List UInt8 := [4, 96, 181, 0, 102, 21, 8, 145, 84, 132, 7, 1, 167, 255, 208, 42, 180, 0, 102, 172]
abbrev dktX1_feed_4 : List UInt8 := dkwX1_feed_4 ++ []
def dkwX1_feed_3 : List UInt8 := [21, 5, 21, 7, 184, 0, 98, 54, 8, 21, 8, 153, 0, 22, 42, 180, 0, 16, 42, 89, 180, 0, 102, 90]
abbrev dktX1_feed_3 : List UInt8 := dkwX1_feed_3 ++ dktX1_feed_4
def dkwX1_feed_2 : List UInt8 := [17, 0, 240, 164, 0, 5, 2, 172, 3, 54, 7, 21, 7, 16, 20, 162, 0, 47, 27, 28, 29, 21, 4]
abbrev dktX1_feed_2 : List UInt8 := dkwX1_feed_2 ++ dktX1_feed_3
def dkwX1_feed_1 : List UInt8 := [184, 0, 98, 153, 0, 6, 132, 6, 1, 132, 7, 1, 167, 255, 228, 42, 180, 0, 102, 21, 6, 96]
abbrev dktX1_feed_1 : List UInt8 := dkwX1_feed_1 ++ dktX1_feed_2
def dkwX1_feed_0 : List UInt8 := [3, 54, 6, 3, 54, 7, 21, 7, 16, 20, 162, 0, 27, 27, 28, 29, 21, 4, 21, 5, 21, 7]
abbrev dktX1_feed_0 : List UInt8 := dkwX1_feed_0 ++ dktX1_feed_1
theorem dksX1_feed_0 : cX1_feed.data.toList.drop 0 = dktX1_feed_0 := by decide +kernel
theorem dksX1_feed_1 : cX1_feed.data.toList.drop 22 = dktX1_feed_1 := dk_seg dksX1_feed_0 22 rfl rfl
theorem dksX1_feed_2 : cX1_feed.data.toList.drop 44 = dktX1_feed_2 := dk_seg dksX1_feed_1 22 rfl rfl
theorem dksX1_feed_3 : cX1_feed.data.toList.drop 67 = dktX1_feed_3 := dk_seg dksX1_feed_2 23 rfl rfl
theorem dksX1_feed_4 : cX1_feed.data.toList.drop 91 = dktX1_feed_4 := dk_seg dksX1_feed_3 24 rfl rfl
theorem dX1_feed_0 : decode cX1_feed 0 = .ok (.iconst 0, 1) := dk_3 (dk_at dksX1_feed_0 0 rfl rfl)
theorem dX1_feed_1 : decode cX1_feed 1 = .ok (.istore 6, 2) := dk_54 6 (dk_at dksX1_feed_0 1 rfl rfl)
theorem dX1_feed_3 : decode cX1_feed 3 = .ok (.iconst 0, 1) := dk_3 (dk_at dksX1_feed_0 3 rfl rfl)
theorem dX1_feed_4 : decode cX1_feed 4 = .ok (.istore 7, 2) := dk_54 7 (dk_at dksX1_feed_0 4 rfl rfl)
theorem dX1_feed_6 : decode cX1_feed 6 = .ok (.iload 7, 2) := dk_21 7 (dk_at dksX1_feed_0 6 rfl rfl)
theorem dX1_feed_8 : decode cX1_feed 8 = .ok (.bipush 20, 2) := dk_16 20 (dk_at dksX1_feed_0 8 rfl rfl)
theorem dX1_feed_10 : decode cX1_feed 10 = .ok (.if_icmp .ge 27, 3) := dk_162 0 27 (dk_at dksX1_feed_0 10 rfl rfl)
theorem dX1_feed_13 : decode cX1_feed 13 = .ok (.iload_n 1, 1) := dk_27 (dk_at dksX1_feed_0 13 rfl rfl)
theorem dX1_feed_14 : decode cX1_feed 14 = .ok (.iload_n 2, 1) := dk_28 (dk_at dksX1_feed_0 14 rfl rfl)
theorem dX1_feed_15 : decode cX1_feed 15 = .ok (.iload_n 3, 1) := dk_29 (dk_at dksX1_feed_0 15 rfl rfl)
theorem dX1_feed_16 : decode cX1_feed 16 = .ok (.iload 4, 2) := dk_21 4 (dk_at dksX1_feed_0 16 rfl rfl)
theorem dX1_feed_18 : decode cX1_feed 18 = .ok (.iload 5, 2) := dk_21 5 (dk_at dksX1_feed_0 18 rfl rfl)
theorem dX1_feed_20 : decode cX1_feed 20 = .ok (.iload 7, 2) := dk_21 7 (dk_at dksX1_feed_0 20 rfl rfl)
theorem dX1_feed_22 : decode cX1_feed 22 = .ok (.invokestatic 98, 3) := dk_184 0 98 (dk_at dksX1_feed_1 0 rfl rfl)
theorem dX1_feed_25 : decode cX1_feed 25 = .ok (.ifCond .eq 6, 3) := dk_153 0 6 (dk_at dksX1_feed_1 3 rfl rfl)
theorem dX1_feed_28 : decode cX1_feed 28 = .ok (.iinc 6 1, 3) := dk_132 6 1 (dk_at dksX1_feed_1 6 rfl rfl)
theorem dX1_feed_31 : decode cX1_feed 31 = .ok (.iinc 7 1, 3) := dk_132 7 1 (dk_at dksX1_feed_1 9 rfl rfl)
theorem dX1_feed_34 : decode cX1_feed 34 = .ok (.goto (-28), 3) := dk_167 255 228 (dk_at dksX1_feed_1 12 rfl rfl)
theorem dX1_feed_37 : decode cX1_feed 37 = .ok (.aload_n 0, 1) := dk_42 (dk_at dksX1_feed_1 15 rfl rfl)
theorem dX1_feed_38 : decode cX1_feed 38 = .ok (.getfield 102, 3) := dk_180 0 102 (dk_at dksX1_feed_1 16 rfl rfl)
theorem dX1_feed_41 : decode cX1_feed 41 = .ok (.iload 6, 2) := dk_21 6 (dk_at dksX1_feed_1 19 rfl rfl)
theorem dX1_feed_43 : decode cX1_feed 43 = .ok (.iadd, 1) := dk_96 (dk_at dksX1_feed_1 21 rfl rfl)
theorem dX1_feed_44 : decode cX1_feed 44 = .ok (.sipush 240, 3) := dk_17 0 240 (dk_at dksX1_feed_2 0 rfl rfl)
theorem dX1_feed_47 : decode cX1_feed 47 = .ok (.if_icmp .le 5, 3) := dk_164 0 5 (dk_at dksX1_feed_2 3 rfl rfl)
theorem dX1_feed_50 : decode cX1_feed 50 = .ok (.iconst (-1), 1) := dk_2 (dk_at dksX1_feed_2 6 rfl rfl)
theorem dX1_feed_51 : decode cX1_feed 51 = .ok (.ireturn, 1) := dk_172 (dk_at dksX1_feed_2 7 rfl rfl)
theorem dX1_feed_52 : decode cX1_feed 52 = .ok (.iconst 0, 1) := dk_3 (dk_at dksX1_feed_2 8 rfl rfl)
theorem dX1_feed_53 : decode cX1_feed 53 = .ok (.istore 7, 2) := dk_54 7 (dk_at dksX1_feed_2 9 rfl rfl)
theorem dX1_feed_55 : decode cX1_feed 55 = .ok (.iload 7, 2) := dk_21 7 (dk_at dksX1_feed_2 11 rfl rfl)
theorem dX1_feed_57 : decode cX1_feed 57 = .ok (.bipush 20, 2) := dk_16 20 (dk_at dksX1_feed_2 13 rfl rfl)
theorem dX1_feed_59 : decode cX1_feed 59 = .ok (.if_icmp .ge 47, 3) := dk_162 0 47 (dk_at dksX1_feed_2 15 rfl rfl)
theorem dX1_feed_62 : decode cX1_feed 62 = .ok (.iload_n 1, 1) := dk_27 (dk_at dksX1_feed_2 18 rfl rfl)
theorem dX1_feed_63 : decode cX1_feed 63 = .ok (.iload_n 2, 1) := dk_28 (dk_at dksX1_feed_2 19 rfl rfl)
theorem dX1_feed_64 : decode cX1_feed 64 = .ok (.iload_n 3, 1) := dk_29 (dk_at dksX1_feed_2 20 rfl rfl)
theorem dX1_feed_65 : decode cX1_feed 65 = .ok (.iload 4, 2) := dk_21 4 (dk_at dksX1_feed_2 21 rfl rfl)
theorem dX1_feed_67 : decode cX1_feed 67 = .ok (.iload 5, 2) := dk_21 5 (dk_at dksX1_feed_3 0 rfl rfl)
theorem dX1_feed_69 : decode cX1_feed 69 = .ok (.iload 7, 2) := dk_21 7 (dk_at dksX1_feed_3 2 rfl rfl)
theorem dX1_feed_71 : decode cX1_feed 71 = .ok (.invokestatic 98, 3) := dk_184 0 98 (dk_at dksX1_feed_3 4 rfl rfl)
theorem dX1_feed_74 : decode cX1_feed 74 = .ok (.istore 8, 2) := dk_54 8 (dk_at dksX1_feed_3 7 rfl rfl)
theorem dX1_feed_76 : decode cX1_feed 76 = .ok (.iload 8, 2) := dk_21 8 (dk_at dksX1_feed_3 9 rfl rfl)
theorem dX1_feed_78 : decode cX1_feed 78 = .ok (.ifCond .eq 22, 3) := dk_153 0 22 (dk_at dksX1_feed_3 11 rfl rfl)
theorem dX1_feed_81 : decode cX1_feed 81 = .ok (.aload_n 0, 1) := dk_42 (dk_at dksX1_feed_3 14 rfl rfl)
theorem dX1_feed_82 : decode cX1_feed 82 = .ok (.getfield 16, 3) := dk_180 0 16 (dk_at dksX1_feed_3 15 rfl rfl)
theorem dX1_feed_85 : decode cX1_feed 85 = .ok (.aload_n 0, 1) := dk_42 (dk_at dksX1_feed_3 18 rfl rfl)
theorem dX1_feed_86 : decode cX1_feed 86 = .ok (.dup, 1) := dk_89 (dk_at dksX1_feed_3 19 rfl rfl)
theorem dX1_feed_87 : decode cX1_feed 87 = .ok (.getfield 102, 3) := dk_180 0 102 (dk_at dksX1_feed_3 20 rfl rfl)
theorem dX1_feed_90 : decode cX1_feed 90 = .ok (.dup_x1, 1) := dk_90 (dk_at dksX1_feed_3 23 rfl rfl)
theorem dX1_feed_91 : decode cX1_feed 91 = .ok (.iconst 1, 1) := dk_4 (dk_at dksX1_feed_4 0 rfl rfl)
theorem dX1_feed_92 : decode cX1_feed 92 = .ok (.iadd, 1) := dk_96 (dk_at dksX1_feed_4 1 rfl rfl)
theorem dX1_feed_93 : decode cX1_feed 93 = .ok (.putfield 102, 3) := dk_181 0 102 (dk_at dksX1_feed_4 2 rfl rfl)
theorem dX1_feed_96 : decode cX1_feed 96 = .ok (.iload 8, 2) := dk_21 8 (dk_at dksX1_feed_4 5 rfl rfl)
theorem dX1_feed_98 : decode cX1_feed 98 = .ok (.i2b, 1) := dk_145 (dk_at dksX1_feed_4 7 rfl rfl)
theorem dX1_feed_99 : decode cX1_feed 99 = .ok (.bastore, 1) := dk_84 (dk_at dksX1_feed_4 8 rfl rfl)
theorem dX1_feed_100 : decode cX1_feed 100 = .ok (.iinc 7 1, 3) := dk_132 7 1 (dk_at dksX1_feed_4 9 rfl rfl)
theorem dX1_feed_103 : decode cX1_feed 103 = .ok (.goto (-48), 3) := dk_167 255 208 (dk_at dksX1_feed_4 12 rfl rfl)
theorem dX1_feed_106 : decode cX1_feed 106 = .ok (.aload_n 0, 1) := dk_42 (dk_at dksX1_feed_4 15 rfl rfl)
theorem dX1_feed_107 : decode cX1_feed 107 = .ok (.getfield 102, 3) := dk_180 0 102 (dk_at dksX1_feed_4 16 rfl rfl)
theorem dX1_feed_110 : decode cX1_feed 110 = .ok (.ireturn, 1) := dk_172 (dk_at dksX1_feed_4 19 rfl rfl)
abbrev cX1_byteOf : ByteArray := prog_1_method_4_code
def yX1_byteOf : MethodName := ⟨RX1, "byteOf", "(IIIIII)I"⟩
def dkwX1_byteOf_2 : List UInt8 := [21, 6, 16, 24, 16, 8, 21, 5, 7, 112, 104, 100, 122, 17, 0, 255, 126, 172]
abbrev dktX1_byteOf_2 : List UInt8 := dkwX1_byteOf_2 ++ []
def dkwX1_byteOf_1 : List UInt8 := [16, 12, 162, 0, 7, 28, 167, 0, 16, 21, 5, 16, 16, 162, 0, 7, 29, 167, 0, 5, 21, 4, 54, 6]
abbrev dktX1_byteOf_1 : List UInt8 := dkwX1_byteOf_1 ++ dktX1_byteOf_2
def dkwX1_byteOf_0 : List UInt8 := [21, 5, 7, 162, 0, 7, 26, 167, 0, 38, 21, 5, 16, 8, 162, 0, 7, 27, 167, 0, 27, 21, 5]
abbrev dktX1_byteOf_0 : List UInt8 := dkwX1_byteOf_0 ++ dktX1_byteOf_1
theorem dksX1_byteOf_0 : cX1_byteOf.data.toList.drop 0 = dktX1_byteOf_0 := by decide +kernel
theorem dksX1_byteOf_1 : cX1_byteOf.data.toList.drop 23 = dktX1_byteOf_1 := dk_seg dksX1_byteOf_0 23 rfl rfl
theorem dksX1_byteOf_2 : cX1_byteOf.data.toList.drop 47 = dktX1_byteOf_2 := dk_seg dksX1_byteOf_1 24 rfl rfl
theorem dX1_byteOf_0 : decode cX1_byteOf 0 = .ok (.iload 5, 2) := dk_21 5 (dk_at dksX1_byteOf_0 0 rfl rfl)
theorem dX1_byteOf_2 : decode cX1_byteOf 2 = .ok (.iconst 4, 1) := dk_7 (dk_at dksX1_byteOf_0 2 rfl rfl)
theorem dX1_byteOf_3 : decode cX1_byteOf 3 = .ok (.if_icmp .ge 7, 3) := dk_162 0 7 (dk_at dksX1_byteOf_0 3 rfl rfl)
theorem dX1_byteOf_6 : decode cX1_byteOf 6 = .ok (.iload_n 0, 1) := dk_26 (dk_at dksX1_byteOf_0 6 rfl rfl)
theorem dX1_byteOf_7 : decode cX1_byteOf 7 = .ok (.goto 38, 3) := dk_167 0 38 (dk_at dksX1_byteOf_0 7 rfl rfl)
theorem dX1_byteOf_10 : decode cX1_byteOf 10 = .ok (.iload 5, 2) := dk_21 5 (dk_at dksX1_byteOf_0 10 rfl rfl)
theorem dX1_byteOf_12 : decode cX1_byteOf 12 = .ok (.bipush 8, 2) := dk_16 8 (dk_at dksX1_byteOf_0 12 rfl rfl)
theorem dX1_byteOf_14 : decode cX1_byteOf 14 = .ok (.if_icmp .ge 7, 3) := dk_162 0 7 (dk_at dksX1_byteOf_0 14 rfl rfl)
theorem dX1_byteOf_17 : decode cX1_byteOf 17 = .ok (.iload_n 1, 1) := dk_27 (dk_at dksX1_byteOf_0 17 rfl rfl)
theorem dX1_byteOf_18 : decode cX1_byteOf 18 = .ok (.goto 27, 3) := dk_167 0 27 (dk_at dksX1_byteOf_0 18 rfl rfl)
theorem dX1_byteOf_21 : decode cX1_byteOf 21 = .ok (.iload 5, 2) := dk_21 5 (dk_at dksX1_byteOf_0 21 rfl rfl)
theorem dX1_byteOf_23 : decode cX1_byteOf 23 = .ok (.bipush 12, 2) := dk_16 12 (dk_at dksX1_byteOf_1 0 rfl rfl)
theorem dX1_byteOf_25 : decode cX1_byteOf 25 = .ok (.if_icmp .ge 7, 3) := dk_162 0 7 (dk_at dksX1_byteOf_1 2 rfl rfl)
theorem dX1_byteOf_28 : decode cX1_byteOf 28 = .ok (.iload_n 2, 1) := dk_28 (dk_at dksX1_byteOf_1 5 rfl rfl)
theorem dX1_byteOf_29 : decode cX1_byteOf 29 = .ok (.goto 16, 3) := dk_167 0 16 (dk_at dksX1_byteOf_1 6 rfl rfl)
theorem dX1_byteOf_32 : decode cX1_byteOf 32 = .ok (.iload 5, 2) := dk_21 5 (dk_at dksX1_byteOf_1 9 rfl rfl)
theorem dX1_byteOf_34 : decode cX1_byteOf 34 = .ok (.bipush 16, 2) := dk_16 16 (dk_at dksX1_byteOf_1 11 rfl rfl)
theorem dX1_byteOf_36 : decode cX1_byteOf 36 = .ok (.if_icmp .ge 7, 3) := dk_162 0 7 (dk_at dksX1_byteOf_1 13 rfl rfl)
theorem dX1_byteOf_39 : decode cX1_byteOf 39 = .ok (.iload_n 3, 1) := dk_29 (dk_at dksX1_byteOf_1 16 rfl rfl)
theorem dX1_byteOf_40 : decode cX1_byteOf 40 = .ok (.goto 5, 3) := dk_167 0 5 (dk_at dksX1_byteOf_1 17 rfl rfl)
theorem dX1_byteOf_43 : decode cX1_byteOf 43 = .ok (.iload 4, 2) := dk_21 4 (dk_at dksX1_byteOf_1 20 rfl rfl)
theorem dX1_byteOf_45 : decode cX1_byteOf 45 = .ok (.istore 6, 2) := dk_54 6 (dk_at dksX1_byteOf_1 22 rfl rfl)
theorem dX1_byteOf_47 : decode cX1_byteOf 47 = .ok (.iload 6, 2) := dk_21 6 (dk_at dksX1_byteOf_2 0 rfl rfl)
theorem dX1_byteOf_49 : decode cX1_byteOf 49 = .ok (.bipush 24, 2) := dk_16 24 (dk_at dksX1_byteOf_2 2 rfl rfl)
theorem dX1_byteOf_51 : decode cX1_byteOf 51 = .ok (.bipush 8, 2) := dk_16 8 (dk_at dksX1_byteOf_2 4 rfl rfl)
theorem dX1_byteOf_53 : decode cX1_byteOf 53 = .ok (.iload 5, 2) := dk_21 5 (dk_at dksX1_byteOf_2 6 rfl rfl)
theorem dX1_byteOf_55 : decode cX1_byteOf 55 = .ok (.iconst 4, 1) := dk_7 (dk_at dksX1_byteOf_2 8 rfl rfl)
theorem dX1_byteOf_56 : decode cX1_byteOf 56 = .ok (.irem, 1) := dk_112 (dk_at dksX1_byteOf_2 9 rfl rfl)
theorem dX1_byteOf_57 : decode cX1_byteOf 57 = .ok (.imul, 1) := dk_104 (dk_at dksX1_byteOf_2 10 rfl rfl)
theorem dX1_byteOf_58 : decode cX1_byteOf 58 = .ok (.isub, 1) := dk_100 (dk_at dksX1_byteOf_2 11 rfl rfl)
theorem dX1_byteOf_59 : decode cX1_byteOf 59 = .ok (.ishr, 1) := dk_122 (dk_at dksX1_byteOf_2 12 rfl rfl)
theorem dX1_byteOf_60 : decode cX1_byteOf 60 = .ok (.sipush 255, 3) := dk_17 0 255 (dk_at dksX1_byteOf_2 13 rfl rfl)
theorem dX1_byteOf_63 : decode cX1_byteOf 63 = .ok (.iand, 1) := dk_126 (dk_at dksX1_byteOf_2 16 rfl rfl)
theorem dX1_byteOf_64 : decode cX1_byteOf 64 = .ok (.ireturn, 1) := dk_172 (dk_at dksX1_byteOf_2 17 rfl rfl)
abbrev cX1_end : ByteArray := prog_1_method_6_code
def yX1_end : MethodName := ⟨RX1, "end", "(I)Z"⟩
def dkwX1_end_0 : List UInt8 := [27, 155, 0, 11, 27, 42, 180, 0, 102, 164, 0, 5, 3, 172, 42, 27, 181, 0, 102, 4, 172]
abbrev dktX1_end_0 : List UInt8 := dkwX1_end_0 ++ []
theorem dksX1_end_0 : cX1_end.data.toList.drop 0 = dktX1_end_0 := by decide +kernel
theorem dX1_end_0 : decode cX1_end 0 = .ok (.iload_n 1, 1) := dk_27 (dk_at dksX1_end_0 0 rfl rfl)
theorem dX1_end_1 : decode cX1_end 1 = .ok (.ifCond .lt 11, 3) := dk_155 0 11 (dk_at dksX1_end_0 1 rfl rfl)
theorem dX1_end_4 : decode cX1_end 4 = .ok (.iload_n 1, 1) := dk_27 (dk_at dksX1_end_0 4 rfl rfl)
theorem dX1_end_5 : decode cX1_end 5 = .ok (.aload_n 0, 1) := dk_42 (dk_at dksX1_end_0 5 rfl rfl)
theorem dX1_end_6 : decode cX1_end 6 = .ok (.getfield 102, 3) := dk_180 0 102 (dk_at dksX1_end_0 6 rfl rfl)
theorem dX1_end_9 : decode cX1_end 9 = .ok (.if_icmp .le 5, 3) := dk_164 0 5 (dk_at dksX1_end_0 9 rfl rfl)
theorem dX1_end_12 : decode cX1_end 12 = .ok (.iconst 0, 1) := dk_3 (dk_at dksX1_end_0 12 rfl rfl)
theorem dX1_end_13 : decode cX1_end 13 = .ok (.ireturn, 1) := dk_172 (dk_at dksX1_end_0 13 rfl rfl)
theorem dX1_end_14 : decode cX1_end 14 = .ok (.aload_n 0, 1) := dk_42 (dk_at dksX1_end_0 14 rfl rfl)
theorem dX1_end_15 : decode cX1_end 15 = .ok (.iload_n 1, 1) := dk_27 (dk_at dksX1_end_0 15 rfl rfl)
theorem dX1_end_16 : decode cX1_end 16 = .ok (.putfield 102, 3) := dk_181 0 102 (dk_at dksX1_end_0 16 rfl rfl)
theorem dX1_end_19 : decode cX1_end 19 = .ok (.iconst 1, 1) := dk_4 (dk_at dksX1_end_0 19 rfl rfl)
theorem dX1_end_20 : decode cX1_end 20 = .ok (.ireturn, 1) := dk_172 (dk_at dksX1_end_0 20 rfl rfl)
abbrev cX1_fault : ByteArray := prog_1_method_38_code
def yX1_fault : MethodName := ⟨RX1, "fault", "(I)I"⟩
def dkwX1_fault_1 : List UInt8 := [182, 1, 51, 2, 172, 77, 42, 180, 0, 105, 172]
abbrev dktX1_fault_1 : List UInt8 := dkwX1_fault_1 ++ []
def dkwX1_fault_0 : List UInt8 := [27, 4, 160, 0, 8, 42, 182, 1, 48, 172, 27, 153, 0, 11, 27, 5, 159, 0, 6, 16, 254, 172, 42, 27]
abbrev dktX1_fault_0 : List UInt8 := dkwX1_fault_0 ++ dktX1_fault_1
theorem dksX1_fault_0 : cX1_fault.data.toList.drop 0 = dktX1_fault_0 := by decide +kernel
theorem dksX1_fault_1 : cX1_fault.data.toList.drop 24 = dktX1_fault_1 := dk_seg dksX1_fault_0 24 rfl rfl
theorem dX1_fault_0 : decode cX1_fault 0 = .ok (.iload_n 1, 1) := dk_27 (dk_at dksX1_fault_0 0 rfl rfl)
theorem dX1_fault_1 : decode cX1_fault 1 = .ok (.iconst 1, 1) := dk_4 (dk_at dksX1_fault_0 1 rfl rfl)
theorem dX1_fault_2 : decode cX1_fault 2 = .ok (.if_icmp .ne 8, 3) := dk_160 0 8 (dk_at dksX1_fault_0 2 rfl rfl)
theorem dX1_fault_5 : decode cX1_fault 5 = .ok (.aload_n 0, 1) := dk_42 (dk_at dksX1_fault_0 5 rfl rfl)
theorem dX1_fault_6 : decode cX1_fault 6 = .ok (.invokevirtual 304, 3) := dk_182 1 48 (dk_at dksX1_fault_0 6 rfl rfl)
theorem dX1_fault_9 : decode cX1_fault 9 = .ok (.ireturn, 1) := dk_172 (dk_at dksX1_fault_0 9 rfl rfl)
theorem dX1_fault_10 : decode cX1_fault 10 = .ok (.iload_n 1, 1) := dk_27 (dk_at dksX1_fault_0 10 rfl rfl)
theorem dX1_fault_11 : decode cX1_fault 11 = .ok (.ifCond .eq 11, 3) := dk_153 0 11 (dk_at dksX1_fault_0 11 rfl rfl)
theorem dX1_fault_14 : decode cX1_fault 14 = .ok (.iload_n 1, 1) := dk_27 (dk_at dksX1_fault_0 14 rfl rfl)
theorem dX1_fault_15 : decode cX1_fault 15 = .ok (.iconst 2, 1) := dk_5 (dk_at dksX1_fault_0 15 rfl rfl)
theorem dX1_fault_16 : decode cX1_fault 16 = .ok (.if_icmp .eq 6, 3) := dk_159 0 6 (dk_at dksX1_fault_0 16 rfl rfl)
theorem dX1_fault_19 : decode cX1_fault 19 = .ok (.bipush (-2), 2) := dk_16 254 (dk_at dksX1_fault_0 19 rfl rfl)
theorem dX1_fault_21 : decode cX1_fault 21 = .ok (.ireturn, 1) := dk_172 (dk_at dksX1_fault_0 21 rfl rfl)
theorem dX1_fault_22 : decode cX1_fault 22 = .ok (.aload_n 0, 1) := dk_42 (dk_at dksX1_fault_0 22 rfl rfl)
theorem dX1_fault_23 : decode cX1_fault 23 = .ok (.iload_n 1, 1) := dk_27 (dk_at dksX1_fault_0 23 rfl rfl)
theorem dX1_fault_24 : decode cX1_fault 24 = .ok (.invokevirtual 307, 3) := dk_182 1 51 (dk_at dksX1_fault_1 0 rfl rfl)
theorem dX1_fault_27 : decode cX1_fault 27 = .ok (.iconst (-1), 1) := dk_2 (dk_at dksX1_fault_1 3 rfl rfl)
theorem dX1_fault_28 : decode cX1_fault 28 = .ok (.ireturn, 1) := dk_172 (dk_at dksX1_fault_1 4 rfl rfl)
theorem dX1_fault_29 : decode cX1_fault 29 = .ok (.astore_n 2, 1) := dk_77 (dk_at dksX1_fault_1 5 rfl rfl)
theorem dX1_fault_30 : decode cX1_fault 30 = .ok (.aload_n 0, 1) := dk_42 (dk_at dksX1_fault_1 6 rfl rfl)
theorem dX1_fault_31 : decode cX1_fault 31 = .ok (.getfield 105, 3) := dk_180 0 105 (dk_at dksX1_fault_1 7 rfl rfl)
theorem dX1_fault_34 : decode cX1_fault 34 = .ok (.ireturn, 1) := dk_172 (dk_at dksX1_fault_1 10 rfl rfl)
abbrev cX1_lawFault : ByteArray := prog_1_method_22_code
def yX1_lawFault : MethodName := ⟨RX1, "lawFault", "()I"⟩
def dkwX1_lawFault_0 : List UInt8 := [42, 182, 0, 211, 87, 2, 172, 76, 42, 180, 0, 105, 172]
abbrev dktX1_lawFault_0 : List UInt8 := dkwX1_lawFault_0 ++ []
theorem dksX1_lawFault_0 : cX1_lawFault.data.toList.drop 0 = dktX1_lawFault_0 := by decide +kernel
theorem dX1_lawFault_0 : decode cX1_lawFault 0 = .ok (.aload_n 0, 1) := dk_42 (dk_at dksX1_lawFault_0 0 rfl rfl)
theorem dX1_lawFault_1 : decode cX1_lawFault 1 = .ok (.invokevirtual 211, 3) := dk_182 0 211 (dk_at dksX1_lawFault_0 1 rfl rfl)
theorem dX1_lawFault_4 : decode cX1_lawFault 4 = .ok (.pop, 1) := dk_87 (dk_at dksX1_lawFault_0 4 rfl rfl)
theorem dX1_lawFault_5 : decode cX1_lawFault 5 = .ok (.iconst (-1), 1) := dk_2 (dk_at dksX1_lawFault_0 5 rfl rfl)
theorem dX1_lawFault_6 : decode cX1_lawFault 6 = .ok (.ireturn, 1) := dk_172 (dk_at dksX1_lawFault_0 6 rfl rfl)
theorem dX1_lawFault_7 : decode cX1_lawFault 7 = .ok (.astore_n 1, 1) := dk_76 (dk_at dksX1_lawFault_0 7 rfl rfl)
theorem dX1_lawFault_8 : decode cX1_lawFault 8 = .ok (.aload_n 0, 1) := dk_42 (dk_at dksX1_lawFault_0 8 rfl rfl)
theorem dX1_lawFault_9 : decode cX1_lawFault 9 = .ok (.getfield 105, 3) := dk_180 0 105 (dk_at dksX1_lawFault_0 9 rfl rfl)
theorem dX1_lawFault_12 : decode cX1_lawFault 12 = .ok (.ireturn, 1) := dk_172 (dk_at dksX1_lawFault_0 12 rfl rfl)
abbrev cX1_wholeLaw : ByteArray := prog_1_method_21_code
def yX1_wholeLaw : MethodName := ⟨RX1, "wholeLaw", "()LFrostBox$Clause;"⟩
def dkwX1_wholeLaw_3 : List UInt8 := [43, 176]
abbrev dktX1_wholeLaw_3 : List UInt8 := dkwX1_wholeLaw_3 ++ []
def dkwX1_wholeLaw_2 : List UInt8 := [180, 0, 207, 77, 167, 255, 224, 42, 42, 182, 0, 115, 2, 160, 0, 7, 4, 167, 0, 4, 3, 182, 0, 111]
abbrev dktX1_wholeLaw_2 : List UInt8 := dkwX1_wholeLaw_2 ++ dktX1_wholeLaw_3
def dkwX1_wholeLaw_1 : List UInt8 := [160, 0, 29, 42, 89, 180, 0, 105, 4, 96, 181, 0, 105, 44, 42, 182, 0, 203, 181, 0, 207, 44]
abbrev dktX1_wholeLaw_1 : List UInt8 := dkwX1_wholeLaw_1 ++ dktX1_wholeLaw_2
def dkwX1_wholeLaw_0 : List UInt8 := [42, 3, 181, 0, 105, 42, 3, 181, 0, 108, 42, 182, 0, 203, 76, 43, 77, 42, 182, 0, 115, 16, 59]
abbrev dktX1_wholeLaw_0 : List UInt8 := dkwX1_wholeLaw_0 ++ dktX1_wholeLaw_1
theorem dksX1_wholeLaw_0 : cX1_wholeLaw.data.toList.drop 0 = dktX1_wholeLaw_0 := by decide +kernel
theorem dksX1_wholeLaw_1 : cX1_wholeLaw.data.toList.drop 23 = dktX1_wholeLaw_1 := dk_seg dksX1_wholeLaw_0 23 rfl rfl
theorem dksX1_wholeLaw_2 : cX1_wholeLaw.data.toList.drop 45 = dktX1_wholeLaw_2 := dk_seg dksX1_wholeLaw_1 22 rfl rfl
theorem dksX1_wholeLaw_3 : cX1_wholeLaw.data.toList.drop 69 = dktX1_wholeLaw_3 := dk_seg dksX1_wholeLaw_2 24 rfl rfl
theorem dX1_wholeLaw_0 : decode cX1_wholeLaw 0 = .ok (.aload_n 0, 1) := dk_42 (dk_at dksX1_wholeLaw_0 0 rfl rfl)
theorem dX1_wholeLaw_1 : decode cX1_wholeLaw 1 = .ok (.iconst 0, 1) := dk_3 (dk_at dksX1_wholeLaw_0 1 rfl rfl)
theorem dX1_wholeLaw_2 : decode cX1_wholeLaw 2 = .ok (.putfield 105, 3) := dk_181 0 105 (dk_at dksX1_wholeLaw_0 2 rfl rfl)
theorem dX1_wholeLaw_5 : decode cX1_wholeLaw 5 = .ok (.aload_n 0, 1) := dk_42 (dk_at dksX1_wholeLaw_0 5 rfl rfl)
theorem dX1_wholeLaw_6 : decode cX1_wholeLaw 6 = .ok (.iconst 0, 1) := dk_3 (dk_at dksX1_wholeLaw_0 6 rfl rfl)
theorem dX1_wholeLaw_7 : decode cX1_wholeLaw 7 = .ok (.putfield 108, 3) := dk_181 0 108 (dk_at dksX1_wholeLaw_0 7 rfl rfl)
theorem dX1_wholeLaw_10 : decode cX1_wholeLaw 10 = .ok (.aload_n 0, 1) := dk_42 (dk_at dksX1_wholeLaw_0 10 rfl rfl)
theorem dX1_wholeLaw_11 : decode cX1_wholeLaw 11 = .ok (.invokevirtual 203, 3) := dk_182 0 203 (dk_at dksX1_wholeLaw_0 11 rfl rfl)
theorem dX1_wholeLaw_14 : decode cX1_wholeLaw 14 = .ok (.astore_n 1, 1) := dk_76 (dk_at dksX1_wholeLaw_0 14 rfl rfl)
theorem dX1_wholeLaw_15 : decode cX1_wholeLaw 15 = .ok (.aload_n 1, 1) := dk_43 (dk_at dksX1_wholeLaw_0 15 rfl rfl)
theorem dX1_wholeLaw_16 : decode cX1_wholeLaw 16 = .ok (.astore_n 2, 1) := dk_77 (dk_at dksX1_wholeLaw_0 16 rfl rfl)
theorem dX1_wholeLaw_17 : decode cX1_wholeLaw 17 = .ok (.aload_n 0, 1) := dk_42 (dk_at dksX1_wholeLaw_0 17 rfl rfl)
theorem dX1_wholeLaw_18 : decode cX1_wholeLaw 18 = .ok (.invokevirtual 115, 3) := dk_182 0 115 (dk_at dksX1_wholeLaw_0 18 rfl rfl)
theorem dX1_wholeLaw_21 : decode cX1_wholeLaw 21 = .ok (.bipush 59, 2) := dk_16 59 (dk_at dksX1_wholeLaw_0 21 rfl rfl)
theorem dX1_wholeLaw_23 : decode cX1_wholeLaw 23 = .ok (.if_icmp .ne 29, 3) := dk_160 0 29 (dk_at dksX1_wholeLaw_1 0 rfl rfl)
theorem dX1_wholeLaw_26 : decode cX1_wholeLaw 26 = .ok (.aload_n 0, 1) := dk_42 (dk_at dksX1_wholeLaw_1 3 rfl rfl)
theorem dX1_wholeLaw_27 : decode cX1_wholeLaw 27 = .ok (.dup, 1) := dk_89 (dk_at dksX1_wholeLaw_1 4 rfl rfl)
theorem dX1_wholeLaw_28 : decode cX1_wholeLaw 28 = .ok (.getfield 105, 3) := dk_180 0 105 (dk_at dksX1_wholeLaw_1 5 rfl rfl)
theorem dX1_wholeLaw_31 : decode cX1_wholeLaw 31 = .ok (.iconst 1, 1) := dk_4 (dk_at dksX1_wholeLaw_1 8 rfl rfl)
theorem dX1_wholeLaw_32 : decode cX1_wholeLaw 32 = .ok (.iadd, 1) := dk_96 (dk_at dksX1_wholeLaw_1 9 rfl rfl)
theorem dX1_wholeLaw_33 : decode cX1_wholeLaw 33 = .ok (.putfield 105, 3) := dk_181 0 105 (dk_at dksX1_wholeLaw_1 10 rfl rfl)
theorem dX1_wholeLaw_36 : decode cX1_wholeLaw 36 = .ok (.aload_n 2, 1) := dk_44 (dk_at dksX1_wholeLaw_1 13 rfl rfl)
theorem dX1_wholeLaw_37 : decode cX1_wholeLaw 37 = .ok (.aload_n 0, 1) := dk_42 (dk_at dksX1_wholeLaw_1 14 rfl rfl)
theorem dX1_wholeLaw_38 : decode cX1_wholeLaw 38 = .ok (.invokevirtual 203, 3) := dk_182 0 203 (dk_at dksX1_wholeLaw_1 15 rfl rfl)
theorem dX1_wholeLaw_41 : decode cX1_wholeLaw 41 = .ok (.putfield 207, 3) := dk_181 0 207 (dk_at dksX1_wholeLaw_1 18 rfl rfl)
theorem dX1_wholeLaw_44 : decode cX1_wholeLaw 44 = .ok (.aload_n 2, 1) := dk_44 (dk_at dksX1_wholeLaw_1 21 rfl rfl)
theorem dX1_wholeLaw_45 : decode cX1_wholeLaw 45 = .ok (.getfield 207, 3) := dk_180 0 207 (dk_at dksX1_wholeLaw_2 0 rfl rfl)
theorem dX1_wholeLaw_48 : decode cX1_wholeLaw 48 = .ok (.astore_n 2, 1) := dk_77 (dk_at dksX1_wholeLaw_2 3 rfl rfl)
theorem dX1_wholeLaw_49 : decode cX1_wholeLaw 49 = .ok (.goto (-32), 3) := dk_167 255 224 (dk_at dksX1_wholeLaw_2 4 rfl rfl)
theorem dX1_wholeLaw_52 : decode cX1_wholeLaw 52 = .ok (.aload_n 0, 1) := dk_42 (dk_at dksX1_wholeLaw_2 7 rfl rfl)
theorem dX1_wholeLaw_53 : decode cX1_wholeLaw 53 = .ok (.aload_n 0, 1) := dk_42 (dk_at dksX1_wholeLaw_2 8 rfl rfl)
theorem dX1_wholeLaw_54 : decode cX1_wholeLaw 54 = .ok (.invokevirtual 115, 3) := dk_182 0 115 (dk_at dksX1_wholeLaw_2 9 rfl rfl)
theorem dX1_wholeLaw_57 : decode cX1_wholeLaw 57 = .ok (.iconst (-1), 1) := dk_2 (dk_at dksX1_wholeLaw_2 12 rfl rfl)
theorem dX1_wholeLaw_58 : decode cX1_wholeLaw 58 = .ok (.if_icmp .ne 7, 3) := dk_160 0 7 (dk_at dksX1_wholeLaw_2 13 rfl rfl)
theorem dX1_wholeLaw_61 : decode cX1_wholeLaw 61 = .ok (.iconst 1, 1) := dk_4 (dk_at dksX1_wholeLaw_2 16 rfl rfl)
theorem dX1_wholeLaw_62 : decode cX1_wholeLaw 62 = .ok (.goto 4, 3) := dk_167 0 4 (dk_at dksX1_wholeLaw_2 17 rfl rfl)
theorem dX1_wholeLaw_65 : decode cX1_wholeLaw 65 = .ok (.iconst 0, 1) := dk_3 (dk_at dksX1_wholeLaw_2 20 rfl rfl)
theorem dX1_wholeLaw_66 : decode cX1_wholeLaw 66 = .ok (.invokevirtual 111, 3) := dk_182 0 111 (dk_at dksX1_wholeLaw_2 21 rfl rfl)
theorem dX1_wholeLaw_69 : decode cX1_wholeLaw 69 = .ok (.aload_n 1, 1) := dk_43 (dk_at dksX1_wholeLaw_3 0 rfl rfl)
theorem dX1_wholeLaw_70 : decode cX1_wholeLaw 70 = .ok (.areturn, 1) := dk_176 (dk_at dksX1_wholeLaw_3 1 rfl rfl)
abbrev cX1_clause : ByteArray := prog_1_method_20_code
def yX1_clause : MethodName := ⟨RX1, "clause", "()LFrostBox$Clause;"⟩
def dkwX1_clause_6 : List UInt8 := [89, 180, 0, 105, 4, 96, 181, 0, 105, 187, 0, 45, 89, 27, 25, 4, 42, 182, 0, 122, 183, 0, 200, 176]
abbrev dktX1_clause_6 : List UInt8 := dkwX1_clause_6 ++ []
def dkwX1_clause_5 : List UInt8 := [182, 0, 181, 58, 4, 42, 42, 182, 0, 115, 16, 63, 160, 0, 7, 4, 167, 0, 4, 3, 182, 0, 111, 42]
abbrev dktX1_clause_5 : List UInt8 := dkwX1_clause_5 ++ dktX1_clause_6
def dkwX1_clause_4 : List UInt8 := [42, 182, 0, 115, 184, 0, 164, 154, 0, 14, 187, 0, 45, 89, 27, 1, 45, 183, 0, 200, 176, 42, 45]
abbrev dktX1_clause_4 : List UInt8 := dkwX1_clause_4 ++ dktX1_clause_5
def dkwX1_clause_3 : List UInt8 := [16, 33, 159, 0, 9, 28, 16, 40, 160, 0, 7, 1, 167, 0, 7, 42, 182, 0, 122, 78, 45, 198, 0, 24]
abbrev dktX1_clause_3 : List UInt8 := dkwX1_clause_3 ++ dktX1_clause_4
def dkwX1_clause_2 : List UInt8 := [167, 0, 4, 3, 182, 0, 111, 42, 89, 180, 0, 105, 4, 96, 181, 0, 105, 42, 182, 0, 115, 61, 28]
abbrev dktX1_clause_2 : List UInt8 := dkwX1_clause_2 ++ dktX1_clause_3
def dkwX1_clause_1 : List UInt8 := [182, 0, 111, 42, 89, 180, 0, 105, 4, 96, 181, 0, 105, 42, 42, 182, 0, 115, 16, 58, 160, 0, 7, 4]
abbrev dktX1_clause_1 : List UInt8 := dkwX1_clause_1 ++ dktX1_clause_2
def dkwX1_clause_0 : List UInt8 := [42, 182, 0, 115, 60, 42, 27, 158, 0, 16, 18, 198, 27, 182, 0, 132, 155, 0, 7, 4, 167, 0, 4, 3]
abbrev dktX1_clause_0 : List UInt8 := dkwX1_clause_0 ++ dktX1_clause_1
theorem dksX1_clause_0 : cX1_clause.data.toList.drop 0 = dktX1_clause_0 := by decide +kernel
theorem dksX1_clause_1 : cX1_clause.data.toList.drop 24 = dktX1_clause_1 := dk_seg dksX1_clause_0 24 rfl rfl
theorem dksX1_clause_2 : cX1_clause.data.toList.drop 48 = dktX1_clause_2 := dk_seg dksX1_clause_1 24 rfl rfl
theorem dksX1_clause_3 : cX1_clause.data.toList.drop 71 = dktX1_clause_3 := dk_seg dksX1_clause_2 23 rfl rfl
theorem dksX1_clause_4 : cX1_clause.data.toList.drop 95 = dktX1_clause_4 := dk_seg dksX1_clause_3 24 rfl rfl
theorem dksX1_clause_5 : cX1_clause.data.toList.drop 118 = dktX1_clause_5 := dk_seg dksX1_clause_4 23 rfl rfl
theorem dksX1_clause_6 : cX1_clause.data.toList.drop 142 = dktX1_clause_6 := dk_seg dksX1_clause_5 24 rfl rfl
theorem dX1_clause_0 : decode cX1_clause 0 = .ok (.aload_n 0, 1) := dk_42 (dk_at dksX1_clause_0 0 rfl rfl)
theorem dX1_clause_1 : decode cX1_clause 1 = .ok (.invokevirtual 115, 3) := dk_182 0 115 (dk_at dksX1_clause_0 1 rfl rfl)
theorem dX1_clause_4 : decode cX1_clause 4 = .ok (.istore_n 1, 1) := dk_60 (dk_at dksX1_clause_0 4 rfl rfl)
theorem dX1_clause_5 : decode cX1_clause 5 = .ok (.aload_n 0, 1) := dk_42 (dk_at dksX1_clause_0 5 rfl rfl)
theorem dX1_clause_6 : decode cX1_clause 6 = .ok (.iload_n 1, 1) := dk_27 (dk_at dksX1_clause_0 6 rfl rfl)
theorem dX1_clause_7 : decode cX1_clause 7 = .ok (.ifCond .le 16, 3) := dk_158 0 16 (dk_at dksX1_clause_0 7 rfl rfl)
theorem dX1_clause_10 : decode cX1_clause 10 = .ok (.ldc 198, 2) := dk_18 198 (dk_at dksX1_clause_0 10 rfl rfl)
theorem dX1_clause_12 : decode cX1_clause 12 = .ok (.iload_n 1, 1) := dk_27 (dk_at dksX1_clause_0 12 rfl rfl)
theorem dX1_clause_13 : decode cX1_clause 13 = .ok (.invokevirtual 132, 3) := dk_182 0 132 (dk_at dksX1_clause_0 13 rfl rfl)
theorem dX1_clause_16 : decode cX1_clause 16 = .ok (.ifCond .lt 7, 3) := dk_155 0 7 (dk_at dksX1_clause_0 16 rfl rfl)
theorem dX1_clause_19 : decode cX1_clause 19 = .ok (.iconst 1, 1) := dk_4 (dk_at dksX1_clause_0 19 rfl rfl)
theorem dX1_clause_20 : decode cX1_clause 20 = .ok (.goto 4, 3) := dk_167 0 4 (dk_at dksX1_clause_0 20 rfl rfl)
theorem dX1_clause_23 : decode cX1_clause 23 = .ok (.iconst 0, 1) := dk_3 (dk_at dksX1_clause_0 23 rfl rfl)
theorem dX1_clause_24 : decode cX1_clause 24 = .ok (.invokevirtual 111, 3) := dk_182 0 111 (dk_at dksX1_clause_1 0 rfl rfl)
theorem dX1_clause_27 : decode cX1_clause 27 = .ok (.aload_n 0, 1) := dk_42 (dk_at dksX1_clause_1 3 rfl rfl)
theorem dX1_clause_28 : decode cX1_clause 28 = .ok (.dup, 1) := dk_89 (dk_at dksX1_clause_1 4 rfl rfl)
theorem dX1_clause_29 : decode cX1_clause 29 = .ok (.getfield 105, 3) := dk_180 0 105 (dk_at dksX1_clause_1 5 rfl rfl)
theorem dX1_clause_32 : decode cX1_clause 32 = .ok (.iconst 1, 1) := dk_4 (dk_at dksX1_clause_1 8 rfl rfl)
theorem dX1_clause_33 : decode cX1_clause 33 = .ok (.iadd, 1) := dk_96 (dk_at dksX1_clause_1 9 rfl rfl)
theorem dX1_clause_34 : decode cX1_clause 34 = .ok (.putfield 105, 3) := dk_181 0 105 (dk_at dksX1_clause_1 10 rfl rfl)
theorem dX1_clause_37 : decode cX1_clause 37 = .ok (.aload_n 0, 1) := dk_42 (dk_at dksX1_clause_1 13 rfl rfl)
theorem dX1_clause_38 : decode cX1_clause 38 = .ok (.aload_n 0, 1) := dk_42 (dk_at dksX1_clause_1 14 rfl rfl)
theorem dX1_clause_39 : decode cX1_clause 39 = .ok (.invokevirtual 115, 3) := dk_182 0 115 (dk_at dksX1_clause_1 15 rfl rfl)
theorem dX1_clause_42 : decode cX1_clause 42 = .ok (.bipush 58, 2) := dk_16 58 (dk_at dksX1_clause_1 18 rfl rfl)
theorem dX1_clause_44 : decode cX1_clause 44 = .ok (.if_icmp .ne 7, 3) := dk_160 0 7 (dk_at dksX1_clause_1 20 rfl rfl)
theorem dX1_clause_47 : decode cX1_clause 47 = .ok (.iconst 1, 1) := dk_4 (dk_at dksX1_clause_1 23 rfl rfl)
theorem dX1_clause_48 : decode cX1_clause 48 = .ok (.goto 4, 3) := dk_167 0 4 (dk_at dksX1_clause_2 0 rfl rfl)
theorem dX1_clause_51 : decode cX1_clause 51 = .ok (.iconst 0, 1) := dk_3 (dk_at dksX1_clause_2 3 rfl rfl)
theorem dX1_clause_52 : decode cX1_clause 52 = .ok (.invokevirtual 111, 3) := dk_182 0 111 (dk_at dksX1_clause_2 4 rfl rfl)
theorem dX1_clause_55 : decode cX1_clause 55 = .ok (.aload_n 0, 1) := dk_42 (dk_at dksX1_clause_2 7 rfl rfl)
theorem dX1_clause_56 : decode cX1_clause 56 = .ok (.dup, 1) := dk_89 (dk_at dksX1_clause_2 8 rfl rfl)
theorem dX1_clause_57 : decode cX1_clause 57 = .ok (.getfield 105, 3) := dk_180 0 105 (dk_at dksX1_clause_2 9 rfl rfl)
theorem dX1_clause_60 : decode cX1_clause 60 = .ok (.iconst 1, 1) := dk_4 (dk_at dksX1_clause_2 12 rfl rfl)
theorem dX1_clause_61 : decode cX1_clause 61 = .ok (.iadd, 1) := dk_96 (dk_at dksX1_clause_2 13 rfl rfl)
theorem dX1_clause_62 : decode cX1_clause 62 = .ok (.putfield 105, 3) := dk_181 0 105 (dk_at dksX1_clause_2 14 rfl rfl)
theorem dX1_clause_65 : decode cX1_clause 65 = .ok (.aload_n 0, 1) := dk_42 (dk_at dksX1_clause_2 17 rfl rfl)
theorem dX1_clause_66 : decode cX1_clause 66 = .ok (.invokevirtual 115, 3) := dk_182 0 115 (dk_at dksX1_clause_2 18 rfl rfl)
theorem dX1_clause_69 : decode cX1_clause 69 = .ok (.istore_n 2, 1) := dk_61 (dk_at dksX1_clause_2 21 rfl rfl)
theorem dX1_clause_70 : decode cX1_clause 70 = .ok (.iload_n 2, 1) := dk_28 (dk_at dksX1_clause_2 22 rfl rfl)
theorem dX1_clause_71 : decode cX1_clause 71 = .ok (.bipush 33, 2) := dk_16 33 (dk_at dksX1_clause_3 0 rfl rfl)
theorem dX1_clause_73 : decode cX1_clause 73 = .ok (.if_icmp .eq 9, 3) := dk_159 0 9 (dk_at dksX1_clause_3 2 rfl rfl)
theorem dX1_clause_76 : decode cX1_clause 76 = .ok (.iload_n 2, 1) := dk_28 (dk_at dksX1_clause_3 5 rfl rfl)
theorem dX1_clause_77 : decode cX1_clause 77 = .ok (.bipush 40, 2) := dk_16 40 (dk_at dksX1_clause_3 6 rfl rfl)
theorem dX1_clause_79 : decode cX1_clause 79 = .ok (.if_icmp .ne 7, 3) := dk_160 0 7 (dk_at dksX1_clause_3 8 rfl rfl)
theorem dX1_clause_82 : decode cX1_clause 82 = .ok (.aconst_null, 1) := dk_1 (dk_at dksX1_clause_3 11 rfl rfl)
theorem dX1_clause_83 : decode cX1_clause 83 = .ok (.goto 7, 3) := dk_167 0 7 (dk_at dksX1_clause_3 12 rfl rfl)
theorem dX1_clause_86 : decode cX1_clause 86 = .ok (.aload_n 0, 1) := dk_42 (dk_at dksX1_clause_3 15 rfl rfl)
theorem dX1_clause_87 : decode cX1_clause 87 = .ok (.invokevirtual 122, 3) := dk_182 0 122 (dk_at dksX1_clause_3 16 rfl rfl)
theorem dX1_clause_90 : decode cX1_clause 90 = .ok (.astore_n 3, 1) := dk_78 (dk_at dksX1_clause_3 19 rfl rfl)
theorem dX1_clause_91 : decode cX1_clause 91 = .ok (.aload_n 3, 1) := dk_45 (dk_at dksX1_clause_3 20 rfl rfl)
theorem dX1_clause_92 : decode cX1_clause 92 = .ok (.ifnull 24, 3) := dk_198 0 24 (dk_at dksX1_clause_3 21 rfl rfl)
theorem dX1_clause_95 : decode cX1_clause 95 = .ok (.aload_n 0, 1) := dk_42 (dk_at dksX1_clause_4 0 rfl rfl)
theorem dX1_clause_96 : decode cX1_clause 96 = .ok (.invokevirtual 115, 3) := dk_182 0 115 (dk_at dksX1_clause_4 1 rfl rfl)
theorem dX1_clause_99 : decode cX1_clause 99 = .ok (.invokestatic 164, 3) := dk_184 0 164 (dk_at dksX1_clause_4 4 rfl rfl)
theorem dX1_clause_102 : decode cX1_clause 102 = .ok (.ifCond .ne 14, 3) := dk_154 0 14 (dk_at dksX1_clause_4 7 rfl rfl)
theorem dX1_clause_105 : decode cX1_clause 105 = .ok (.new 45, 3) := dk_187 0 45 (dk_at dksX1_clause_4 10 rfl rfl)
theorem dX1_clause_108 : decode cX1_clause 108 = .ok (.dup, 1) := dk_89 (dk_at dksX1_clause_4 13 rfl rfl)
theorem dX1_clause_109 : decode cX1_clause 109 = .ok (.iload_n 1, 1) := dk_27 (dk_at dksX1_clause_4 14 rfl rfl)
theorem dX1_clause_110 : decode cX1_clause 110 = .ok (.aconst_null, 1) := dk_1 (dk_at dksX1_clause_4 15 rfl rfl)
theorem dX1_clause_111 : decode cX1_clause 111 = .ok (.aload_n 3, 1) := dk_45 (dk_at dksX1_clause_4 16 rfl rfl)
theorem dX1_clause_112 : decode cX1_clause 112 = .ok (.invokespecial 200, 3) := dk_183 0 200 (dk_at dksX1_clause_4 17 rfl rfl)
theorem dX1_clause_115 : decode cX1_clause 115 = .ok (.areturn, 1) := dk_176 (dk_at dksX1_clause_4 20 rfl rfl)
theorem dX1_clause_116 : decode cX1_clause 116 = .ok (.aload_n 0, 1) := dk_42 (dk_at dksX1_clause_4 21 rfl rfl)
theorem dX1_clause_117 : decode cX1_clause 117 = .ok (.aload_n 3, 1) := dk_45 (dk_at dksX1_clause_4 22 rfl rfl)
theorem dX1_clause_118 : decode cX1_clause 118 = .ok (.invokevirtual 181, 3) := dk_182 0 181 (dk_at dksX1_clause_5 0 rfl rfl)
theorem dX1_clause_121 : decode cX1_clause 121 = .ok (.astore 4, 2) := dk_58 4 (dk_at dksX1_clause_5 3 rfl rfl)
theorem dX1_clause_123 : decode cX1_clause 123 = .ok (.aload_n 0, 1) := dk_42 (dk_at dksX1_clause_5 5 rfl rfl)
theorem dX1_clause_124 : decode cX1_clause 124 = .ok (.aload_n 0, 1) := dk_42 (dk_at dksX1_clause_5 6 rfl rfl)
theorem dX1_clause_125 : decode cX1_clause 125 = .ok (.invokevirtual 115, 3) := dk_182 0 115 (dk_at dksX1_clause_5 7 rfl rfl)
theorem dX1_clause_128 : decode cX1_clause 128 = .ok (.bipush 63, 2) := dk_16 63 (dk_at dksX1_clause_5 10 rfl rfl)
theorem dX1_clause_130 : decode cX1_clause 130 = .ok (.if_icmp .ne 7, 3) := dk_160 0 7 (dk_at dksX1_clause_5 12 rfl rfl)
theorem dX1_clause_133 : decode cX1_clause 133 = .ok (.iconst 1, 1) := dk_4 (dk_at dksX1_clause_5 15 rfl rfl)
theorem dX1_clause_134 : decode cX1_clause 134 = .ok (.goto 4, 3) := dk_167 0 4 (dk_at dksX1_clause_5 16 rfl rfl)
theorem dX1_clause_137 : decode cX1_clause 137 = .ok (.iconst 0, 1) := dk_3 (dk_at dksX1_clause_5 19 rfl rfl)
theorem dX1_clause_138 : decode cX1_clause 138 = .ok (.invokevirtual 111, 3) := dk_182 0 111 (dk_at dksX1_clause_5 20 rfl rfl)
theorem dX1_clause_141 : decode cX1_clause 141 = .ok (.aload_n 0, 1) := dk_42 (dk_at dksX1_clause_5 23 rfl rfl)
theorem dX1_clause_142 : decode cX1_clause 142 = .ok (.dup, 1) := dk_89 (dk_at dksX1_clause_6 0 rfl rfl)
theorem dX1_clause_143 : decode cX1_clause 143 = .ok (.getfield 105, 3) := dk_180 0 105 (dk_at dksX1_clause_6 1 rfl rfl)
theorem dX1_clause_146 : decode cX1_clause 146 = .ok (.iconst 1, 1) := dk_4 (dk_at dksX1_clause_6 4 rfl rfl)
theorem dX1_clause_147 : decode cX1_clause 147 = .ok (.iadd, 1) := dk_96 (dk_at dksX1_clause_6 5 rfl rfl)
theorem dX1_clause_148 : decode cX1_clause 148 = .ok (.putfield 105, 3) := dk_181 0 105 (dk_at dksX1_clause_6 6 rfl rfl)
theorem dX1_clause_151 : decode cX1_clause 151 = .ok (.new 45, 3) := dk_187 0 45 (dk_at dksX1_clause_6 9 rfl rfl)
theorem dX1_clause_154 : decode cX1_clause 154 = .ok (.dup, 1) := dk_89 (dk_at dksX1_clause_6 12 rfl rfl)
theorem dX1_clause_155 : decode cX1_clause 155 = .ok (.iload_n 1, 1) := dk_27 (dk_at dksX1_clause_6 13 rfl rfl)
theorem dX1_clause_156 : decode cX1_clause 156 = .ok (.aload 4, 2) := dk_25 4 (dk_at dksX1_clause_6 14 rfl rfl)
theorem dX1_clause_158 : decode cX1_clause 158 = .ok (.aload_n 0, 1) := dk_42 (dk_at dksX1_clause_6 16 rfl rfl)
theorem dX1_clause_159 : decode cX1_clause 159 = .ok (.invokevirtual 122, 3) := dk_182 0 122 (dk_at dksX1_clause_6 17 rfl rfl)
theorem dX1_clause_162 : decode cX1_clause 162 = .ok (.invokespecial 200, 3) := dk_183 0 200 (dk_at dksX1_clause_6 20 rfl rfl)
theorem dX1_clause_165 : decode cX1_clause 165 = .ok (.areturn, 1) := dk_176 (dk_at dksX1_clause_6 23 rfl rfl)
abbrev cX1_look : ByteArray := prog_1_method_7_code
def yX1_look : MethodName := ⟨RX1, "look", "()I"⟩
def dkwX1_look_2 : List UInt8 := [162, 0, 19, 42, 180, 0, 16, 42, 180, 0, 105, 51, 17, 0, 255, 126, 167, 0, 4, 2, 172]
abbrev dktX1_look_2 : List UInt8 := dkwX1_look_2 ++ []
def dkwX1_look_1 : List UInt8 := [160, 0, 16, 42, 89, 180, 0, 105, 4, 96, 181, 0, 105, 167, 255, 221, 42, 180, 0, 105, 42, 180, 0, 102]
abbrev dktX1_look_1 : List UInt8 := dkwX1_look_1 ++ dktX1_look_2
def dkwX1_look_0 : List UInt8 := [42, 180, 0, 105, 42, 180, 0, 102, 162, 0, 30, 42, 180, 0, 16, 42, 180, 0, 105, 51, 16, 32]
abbrev dktX1_look_0 : List UInt8 := dkwX1_look_0 ++ dktX1_look_1
theorem dksX1_look_0 : cX1_look.data.toList.drop 0 = dktX1_look_0 := by decide +kernel
theorem dksX1_look_1 : cX1_look.data.toList.drop 22 = dktX1_look_1 := dk_seg dksX1_look_0 22 rfl rfl
theorem dksX1_look_2 : cX1_look.data.toList.drop 46 = dktX1_look_2 := dk_seg dksX1_look_1 24 rfl rfl
theorem dX1_look_0 : decode cX1_look 0 = .ok (.aload_n 0, 1) := dk_42 (dk_at dksX1_look_0 0 rfl rfl)
theorem dX1_look_1 : decode cX1_look 1 = .ok (.getfield 105, 3) := dk_180 0 105 (dk_at dksX1_look_0 1 rfl rfl)
theorem dX1_look_4 : decode cX1_look 4 = .ok (.aload_n 0, 1) := dk_42 (dk_at dksX1_look_0 4 rfl rfl)
theorem dX1_look_5 : decode cX1_look 5 = .ok (.getfield 102, 3) := dk_180 0 102 (dk_at dksX1_look_0 5 rfl rfl)
theorem dX1_look_8 : decode cX1_look 8 = .ok (.if_icmp .ge 30, 3) := dk_162 0 30 (dk_at dksX1_look_0 8 rfl rfl)
theorem dX1_look_11 : decode cX1_look 11 = .ok (.aload_n 0, 1) := dk_42 (dk_at dksX1_look_0 11 rfl rfl)
theorem dX1_look_12 : decode cX1_look 12 = .ok (.getfield 16, 3) := dk_180 0 16 (dk_at dksX1_look_0 12 rfl rfl)
theorem dX1_look_15 : decode cX1_look 15 = .ok (.aload_n 0, 1) := dk_42 (dk_at dksX1_look_0 15 rfl rfl)
theorem dX1_look_16 : decode cX1_look 16 = .ok (.getfield 105, 3) := dk_180 0 105 (dk_at dksX1_look_0 16 rfl rfl)
theorem dX1_look_19 : decode cX1_look 19 = .ok (.baload, 1) := dk_51 (dk_at dksX1_look_0 19 rfl rfl)
theorem dX1_look_20 : decode cX1_look 20 = .ok (.bipush 32, 2) := dk_16 32 (dk_at dksX1_look_0 20 rfl rfl)
theorem dX1_look_22 : decode cX1_look 22 = .ok (.if_icmp .ne 16, 3) := dk_160 0 16 (dk_at dksX1_look_1 0 rfl rfl)
theorem dX1_look_25 : decode cX1_look 25 = .ok (.aload_n 0, 1) := dk_42 (dk_at dksX1_look_1 3 rfl rfl)
theorem dX1_look_26 : decode cX1_look 26 = .ok (.dup, 1) := dk_89 (dk_at dksX1_look_1 4 rfl rfl)
theorem dX1_look_27 : decode cX1_look 27 = .ok (.getfield 105, 3) := dk_180 0 105 (dk_at dksX1_look_1 5 rfl rfl)
theorem dX1_look_30 : decode cX1_look 30 = .ok (.iconst 1, 1) := dk_4 (dk_at dksX1_look_1 8 rfl rfl)
theorem dX1_look_31 : decode cX1_look 31 = .ok (.iadd, 1) := dk_96 (dk_at dksX1_look_1 9 rfl rfl)
theorem dX1_look_32 : decode cX1_look 32 = .ok (.putfield 105, 3) := dk_181 0 105 (dk_at dksX1_look_1 10 rfl rfl)
theorem dX1_look_35 : decode cX1_look 35 = .ok (.goto (-35), 3) := dk_167 255 221 (dk_at dksX1_look_1 13 rfl rfl)
theorem dX1_look_38 : decode cX1_look 38 = .ok (.aload_n 0, 1) := dk_42 (dk_at dksX1_look_1 16 rfl rfl)
theorem dX1_look_39 : decode cX1_look 39 = .ok (.getfield 105, 3) := dk_180 0 105 (dk_at dksX1_look_1 17 rfl rfl)
theorem dX1_look_42 : decode cX1_look 42 = .ok (.aload_n 0, 1) := dk_42 (dk_at dksX1_look_1 20 rfl rfl)
theorem dX1_look_43 : decode cX1_look 43 = .ok (.getfield 102, 3) := dk_180 0 102 (dk_at dksX1_look_1 21 rfl rfl)
theorem dX1_look_46 : decode cX1_look 46 = .ok (.if_icmp .ge 19, 3) := dk_162 0 19 (dk_at dksX1_look_2 0 rfl rfl)
theorem dX1_look_49 : decode cX1_look 49 = .ok (.aload_n 0, 1) := dk_42 (dk_at dksX1_look_2 3 rfl rfl)
theorem dX1_look_50 : decode cX1_look 50 = .ok (.getfield 16, 3) := dk_180 0 16 (dk_at dksX1_look_2 4 rfl rfl)
theorem dX1_look_53 : decode cX1_look 53 = .ok (.aload_n 0, 1) := dk_42 (dk_at dksX1_look_2 7 rfl rfl)
theorem dX1_look_54 : decode cX1_look 54 = .ok (.getfield 105, 3) := dk_180 0 105 (dk_at dksX1_look_2 8 rfl rfl)
theorem dX1_look_57 : decode cX1_look 57 = .ok (.baload, 1) := dk_51 (dk_at dksX1_look_2 11 rfl rfl)
theorem dX1_look_58 : decode cX1_look 58 = .ok (.sipush 255, 3) := dk_17 0 255 (dk_at dksX1_look_2 12 rfl rfl)
theorem dX1_look_61 : decode cX1_look 61 = .ok (.iand, 1) := dk_126 (dk_at dksX1_look_2 15 rfl rfl)
theorem dX1_look_62 : decode cX1_look 62 = .ok (.goto 4, 3) := dk_167 0 4 (dk_at dksX1_look_2 16 rfl rfl)
theorem dX1_look_65 : decode cX1_look 65 = .ok (.iconst (-1), 1) := dk_2 (dk_at dksX1_look_2 19 rfl rfl)
theorem dX1_look_66 : decode cX1_look 66 = .ok (.ireturn, 1) := dk_172 (dk_at dksX1_look_2 20 rfl rfl)
abbrev cX1_need : ByteArray := prog_1_method_9_code
def yX1_need : MethodName := ⟨RX1, "need", "(Z)V"⟩
def dkwX1_need_0 : List UInt8 := [27, 154, 0, 8, 42, 180, 0, 12, 191, 177]
abbrev dktX1_need_0 : List UInt8 := dkwX1_need_0 ++ []
theorem dksX1_need_0 : cX1_need.data.toList.drop 0 = dktX1_need_0 := by decide +kernel
theorem dX1_need_0 : decode cX1_need 0 = .ok (.iload_n 1, 1) := dk_27 (dk_at dksX1_need_0 0 rfl rfl)
theorem dX1_need_1 : decode cX1_need 1 = .ok (.ifCond .ne 8, 3) := dk_154 0 8 (dk_at dksX1_need_0 1 rfl rfl)
theorem dX1_need_4 : decode cX1_need 4 = .ok (.aload_n 0, 1) := dk_42 (dk_at dksX1_need_0 4 rfl rfl)
theorem dX1_need_5 : decode cX1_need 5 = .ok (.getfield 12, 3) := dk_180 0 12 (dk_at dksX1_need_0 5 rfl rfl)
theorem dX1_need_8 : decode cX1_need 8 = .ok (.athrow, 1) := dk_191 (dk_at dksX1_need_0 8 rfl rfl)
theorem dX1_need_9 : decode cX1_need 9 = .ok (.return_, 1) := dk_177 (dk_at dksX1_need_0 9 rfl rfl)
abbrev cX1_sum : ByteArray := prog_1_method_14_code
def yX1_sum : MethodName := ⟨RX1, "sum", "()LFrostBox$Sum;"⟩
def dkwX1_sum_3 : List UInt8 := [44, 176]
abbrev dktX1_sum_3 : List UInt8 := dkwX1_sum_3 ++ []
def dkwX1_sum_2 : List UInt8 := [29, 42, 182, 0, 161, 182, 0, 157, 42, 182, 0, 115, 62, 167, 255, 207, 44, 199, 0, 7, 43, 167, 0, 4]
abbrev dktX1_sum_2 : List UInt8 := dkwX1_sum_2 ++ dktX1_sum_3
def dkwX1_sum_1 : List UInt8 := [42, 89, 180, 0, 105, 4, 96, 181, 0, 105, 44, 199, 0, 12, 187, 0, 152, 89, 43, 183, 0, 154, 77, 44]
abbrev dktX1_sum_1 : List UInt8 := dkwX1_sum_1 ++ dktX1_sum_2
def dkwX1_sum_0 : List UInt8 := [42, 182, 0, 161, 76, 1, 77, 42, 182, 0, 115, 62, 29, 16, 43, 159, 0, 9, 29, 16, 45, 160, 0, 43]
abbrev dktX1_sum_0 : List UInt8 := dkwX1_sum_0 ++ dktX1_sum_1
theorem dksX1_sum_0 : cX1_sum.data.toList.drop 0 = dktX1_sum_0 := by decide +kernel
theorem dksX1_sum_1 : cX1_sum.data.toList.drop 24 = dktX1_sum_1 := dk_seg dksX1_sum_0 24 rfl rfl
theorem dksX1_sum_2 : cX1_sum.data.toList.drop 48 = dktX1_sum_2 := dk_seg dksX1_sum_1 24 rfl rfl
theorem dksX1_sum_3 : cX1_sum.data.toList.drop 72 = dktX1_sum_3 := dk_seg dksX1_sum_2 24 rfl rfl
theorem dX1_sum_0 : decode cX1_sum 0 = .ok (.aload_n 0, 1) := dk_42 (dk_at dksX1_sum_0 0 rfl rfl)
theorem dX1_sum_1 : decode cX1_sum 1 = .ok (.invokevirtual 161, 3) := dk_182 0 161 (dk_at dksX1_sum_0 1 rfl rfl)
theorem dX1_sum_4 : decode cX1_sum 4 = .ok (.astore_n 1, 1) := dk_76 (dk_at dksX1_sum_0 4 rfl rfl)
theorem dX1_sum_5 : decode cX1_sum 5 = .ok (.aconst_null, 1) := dk_1 (dk_at dksX1_sum_0 5 rfl rfl)
theorem dX1_sum_6 : decode cX1_sum 6 = .ok (.astore_n 2, 1) := dk_77 (dk_at dksX1_sum_0 6 rfl rfl)
theorem dX1_sum_7 : decode cX1_sum 7 = .ok (.aload_n 0, 1) := dk_42 (dk_at dksX1_sum_0 7 rfl rfl)
theorem dX1_sum_8 : decode cX1_sum 8 = .ok (.invokevirtual 115, 3) := dk_182 0 115 (dk_at dksX1_sum_0 8 rfl rfl)
theorem dX1_sum_11 : decode cX1_sum 11 = .ok (.istore_n 3, 1) := dk_62 (dk_at dksX1_sum_0 11 rfl rfl)
theorem dX1_sum_12 : decode cX1_sum 12 = .ok (.iload_n 3, 1) := dk_29 (dk_at dksX1_sum_0 12 rfl rfl)
theorem dX1_sum_13 : decode cX1_sum 13 = .ok (.bipush 43, 2) := dk_16 43 (dk_at dksX1_sum_0 13 rfl rfl)
theorem dX1_sum_15 : decode cX1_sum 15 = .ok (.if_icmp .eq 9, 3) := dk_159 0 9 (dk_at dksX1_sum_0 15 rfl rfl)
theorem dX1_sum_18 : decode cX1_sum 18 = .ok (.iload_n 3, 1) := dk_29 (dk_at dksX1_sum_0 18 rfl rfl)
theorem dX1_sum_19 : decode cX1_sum 19 = .ok (.bipush 45, 2) := dk_16 45 (dk_at dksX1_sum_0 19 rfl rfl)
theorem dX1_sum_21 : decode cX1_sum 21 = .ok (.if_icmp .ne 43, 3) := dk_160 0 43 (dk_at dksX1_sum_0 21 rfl rfl)
theorem dX1_sum_24 : decode cX1_sum 24 = .ok (.aload_n 0, 1) := dk_42 (dk_at dksX1_sum_1 0 rfl rfl)
theorem dX1_sum_25 : decode cX1_sum 25 = .ok (.dup, 1) := dk_89 (dk_at dksX1_sum_1 1 rfl rfl)
theorem dX1_sum_26 : decode cX1_sum 26 = .ok (.getfield 105, 3) := dk_180 0 105 (dk_at dksX1_sum_1 2 rfl rfl)
theorem dX1_sum_29 : decode cX1_sum 29 = .ok (.iconst 1, 1) := dk_4 (dk_at dksX1_sum_1 5 rfl rfl)
theorem dX1_sum_30 : decode cX1_sum 30 = .ok (.iadd, 1) := dk_96 (dk_at dksX1_sum_1 6 rfl rfl)
theorem dX1_sum_31 : decode cX1_sum 31 = .ok (.putfield 105, 3) := dk_181 0 105 (dk_at dksX1_sum_1 7 rfl rfl)
theorem dX1_sum_34 : decode cX1_sum 34 = .ok (.aload_n 2, 1) := dk_44 (dk_at dksX1_sum_1 10 rfl rfl)
theorem dX1_sum_35 : decode cX1_sum 35 = .ok (.ifnonnull 12, 3) := dk_199 0 12 (dk_at dksX1_sum_1 11 rfl rfl)
theorem dX1_sum_38 : decode cX1_sum 38 = .ok (.new 152, 3) := dk_187 0 152 (dk_at dksX1_sum_1 14 rfl rfl)
theorem dX1_sum_41 : decode cX1_sum 41 = .ok (.dup, 1) := dk_89 (dk_at dksX1_sum_1 17 rfl rfl)
theorem dX1_sum_42 : decode cX1_sum 42 = .ok (.aload_n 1, 1) := dk_43 (dk_at dksX1_sum_1 18 rfl rfl)
theorem dX1_sum_43 : decode cX1_sum 43 = .ok (.invokespecial 154, 3) := dk_183 0 154 (dk_at dksX1_sum_1 19 rfl rfl)
theorem dX1_sum_46 : decode cX1_sum 46 = .ok (.astore_n 2, 1) := dk_77 (dk_at dksX1_sum_1 22 rfl rfl)
theorem dX1_sum_47 : decode cX1_sum 47 = .ok (.aload_n 2, 1) := dk_44 (dk_at dksX1_sum_1 23 rfl rfl)
theorem dX1_sum_48 : decode cX1_sum 48 = .ok (.iload_n 3, 1) := dk_29 (dk_at dksX1_sum_2 0 rfl rfl)
theorem dX1_sum_49 : decode cX1_sum 49 = .ok (.aload_n 0, 1) := dk_42 (dk_at dksX1_sum_2 1 rfl rfl)
theorem dX1_sum_50 : decode cX1_sum 50 = .ok (.invokevirtual 161, 3) := dk_182 0 161 (dk_at dksX1_sum_2 2 rfl rfl)
theorem dX1_sum_53 : decode cX1_sum 53 = .ok (.invokevirtual 157, 3) := dk_182 0 157 (dk_at dksX1_sum_2 5 rfl rfl)
theorem dX1_sum_56 : decode cX1_sum 56 = .ok (.aload_n 0, 1) := dk_42 (dk_at dksX1_sum_2 8 rfl rfl)
theorem dX1_sum_57 : decode cX1_sum 57 = .ok (.invokevirtual 115, 3) := dk_182 0 115 (dk_at dksX1_sum_2 9 rfl rfl)
theorem dX1_sum_60 : decode cX1_sum 60 = .ok (.istore_n 3, 1) := dk_62 (dk_at dksX1_sum_2 12 rfl rfl)
theorem dX1_sum_61 : decode cX1_sum 61 = .ok (.goto (-49), 3) := dk_167 255 207 (dk_at dksX1_sum_2 13 rfl rfl)
theorem dX1_sum_64 : decode cX1_sum 64 = .ok (.aload_n 2, 1) := dk_44 (dk_at dksX1_sum_2 16 rfl rfl)
theorem dX1_sum_65 : decode cX1_sum 65 = .ok (.ifnonnull 7, 3) := dk_199 0 7 (dk_at dksX1_sum_2 17 rfl rfl)
theorem dX1_sum_68 : decode cX1_sum 68 = .ok (.aload_n 1, 1) := dk_43 (dk_at dksX1_sum_2 20 rfl rfl)
theorem dX1_sum_69 : decode cX1_sum 69 = .ok (.goto 4, 3) := dk_167 0 4 (dk_at dksX1_sum_2 21 rfl rfl)
theorem dX1_sum_72 : decode cX1_sum 72 = .ok (.aload_n 2, 1) := dk_44 (dk_at dksX1_sum_3 0 rfl rfl)
theorem dX1_sum_73 : decode cX1_sum 73 = .ok (.areturn, 1) := dk_176 (dk_at dksX1_sum_3 1 rfl rfl)
abbrev cX1_term : ByteArray := prog_1_method_13_code
def yX1_term : MethodName := ⟨RX1, "term", "()LFrostBox$Sum;"⟩
def dkwX1_term_3 : List UInt8 := [44, 176]
abbrev dktX1_term_3 : List UInt8 := dkwX1_term_3 ++ []
def dkwX1_term_2 : List UInt8 := [29, 42, 182, 0, 149, 182, 0, 157, 42, 182, 0, 115, 62, 167, 255, 207, 44, 199, 0, 7, 43, 167, 0, 4]
abbrev dktX1_term_2 : List UInt8 := dkwX1_term_2 ++ dktX1_term_3
def dkwX1_term_1 : List UInt8 := [42, 89, 180, 0, 105, 4, 96, 181, 0, 105, 44, 199, 0, 12, 187, 0, 152, 89, 43, 183, 0, 154, 77, 44]
abbrev dktX1_term_1 : List UInt8 := dkwX1_term_1 ++ dktX1_term_2
def dkwX1_term_0 : List UInt8 := [42, 182, 0, 149, 76, 1, 77, 42, 182, 0, 115, 62, 29, 16, 42, 159, 0, 9, 29, 16, 47, 160, 0, 43]
abbrev dktX1_term_0 : List UInt8 := dkwX1_term_0 ++ dktX1_term_1
theorem dksX1_term_0 : cX1_term.data.toList.drop 0 = dktX1_term_0 := by decide +kernel
theorem dksX1_term_1 : cX1_term.data.toList.drop 24 = dktX1_term_1 := dk_seg dksX1_term_0 24 rfl rfl
theorem dksX1_term_2 : cX1_term.data.toList.drop 48 = dktX1_term_2 := dk_seg dksX1_term_1 24 rfl rfl
theorem dksX1_term_3 : cX1_term.data.toList.drop 72 = dktX1_term_3 := dk_seg dksX1_term_2 24 rfl rfl
theorem dX1_term_0 : decode cX1_term 0 = .ok (.aload_n 0, 1) := dk_42 (dk_at dksX1_term_0 0 rfl rfl)
theorem dX1_term_1 : decode cX1_term 1 = .ok (.invokevirtual 149, 3) := dk_182 0 149 (dk_at dksX1_term_0 1 rfl rfl)
theorem dX1_term_4 : decode cX1_term 4 = .ok (.astore_n 1, 1) := dk_76 (dk_at dksX1_term_0 4 rfl rfl)
theorem dX1_term_5 : decode cX1_term 5 = .ok (.aconst_null, 1) := dk_1 (dk_at dksX1_term_0 5 rfl rfl)
theorem dX1_term_6 : decode cX1_term 6 = .ok (.astore_n 2, 1) := dk_77 (dk_at dksX1_term_0 6 rfl rfl)
theorem dX1_term_7 : decode cX1_term 7 = .ok (.aload_n 0, 1) := dk_42 (dk_at dksX1_term_0 7 rfl rfl)
theorem dX1_term_8 : decode cX1_term 8 = .ok (.invokevirtual 115, 3) := dk_182 0 115 (dk_at dksX1_term_0 8 rfl rfl)
theorem dX1_term_11 : decode cX1_term 11 = .ok (.istore_n 3, 1) := dk_62 (dk_at dksX1_term_0 11 rfl rfl)
theorem dX1_term_12 : decode cX1_term 12 = .ok (.iload_n 3, 1) := dk_29 (dk_at dksX1_term_0 12 rfl rfl)
theorem dX1_term_13 : decode cX1_term 13 = .ok (.bipush 42, 2) := dk_16 42 (dk_at dksX1_term_0 13 rfl rfl)
theorem dX1_term_15 : decode cX1_term 15 = .ok (.if_icmp .eq 9, 3) := dk_159 0 9 (dk_at dksX1_term_0 15 rfl rfl)
theorem dX1_term_18 : decode cX1_term 18 = .ok (.iload_n 3, 1) := dk_29 (dk_at dksX1_term_0 18 rfl rfl)
theorem dX1_term_19 : decode cX1_term 19 = .ok (.bipush 47, 2) := dk_16 47 (dk_at dksX1_term_0 19 rfl rfl)
theorem dX1_term_21 : decode cX1_term 21 = .ok (.if_icmp .ne 43, 3) := dk_160 0 43 (dk_at dksX1_term_0 21 rfl rfl)
theorem dX1_term_24 : decode cX1_term 24 = .ok (.aload_n 0, 1) := dk_42 (dk_at dksX1_term_1 0 rfl rfl)
theorem dX1_term_25 : decode cX1_term 25 = .ok (.dup, 1) := dk_89 (dk_at dksX1_term_1 1 rfl rfl)
theorem dX1_term_26 : decode cX1_term 26 = .ok (.getfield 105, 3) := dk_180 0 105 (dk_at dksX1_term_1 2 rfl rfl)
theorem dX1_term_29 : decode cX1_term 29 = .ok (.iconst 1, 1) := dk_4 (dk_at dksX1_term_1 5 rfl rfl)
theorem dX1_term_30 : decode cX1_term 30 = .ok (.iadd, 1) := dk_96 (dk_at dksX1_term_1 6 rfl rfl)
theorem dX1_term_31 : decode cX1_term 31 = .ok (.putfield 105, 3) := dk_181 0 105 (dk_at dksX1_term_1 7 rfl rfl)
theorem dX1_term_34 : decode cX1_term 34 = .ok (.aload_n 2, 1) := dk_44 (dk_at dksX1_term_1 10 rfl rfl)
theorem dX1_term_35 : decode cX1_term 35 = .ok (.ifnonnull 12, 3) := dk_199 0 12 (dk_at dksX1_term_1 11 rfl rfl)
theorem dX1_term_38 : decode cX1_term 38 = .ok (.new 152, 3) := dk_187 0 152 (dk_at dksX1_term_1 14 rfl rfl)
theorem dX1_term_41 : decode cX1_term 41 = .ok (.dup, 1) := dk_89 (dk_at dksX1_term_1 17 rfl rfl)
theorem dX1_term_42 : decode cX1_term 42 = .ok (.aload_n 1, 1) := dk_43 (dk_at dksX1_term_1 18 rfl rfl)
theorem dX1_term_43 : decode cX1_term 43 = .ok (.invokespecial 154, 3) := dk_183 0 154 (dk_at dksX1_term_1 19 rfl rfl)
theorem dX1_term_46 : decode cX1_term 46 = .ok (.astore_n 2, 1) := dk_77 (dk_at dksX1_term_1 22 rfl rfl)
theorem dX1_term_47 : decode cX1_term 47 = .ok (.aload_n 2, 1) := dk_44 (dk_at dksX1_term_1 23 rfl rfl)
theorem dX1_term_48 : decode cX1_term 48 = .ok (.iload_n 3, 1) := dk_29 (dk_at dksX1_term_2 0 rfl rfl)
theorem dX1_term_49 : decode cX1_term 49 = .ok (.aload_n 0, 1) := dk_42 (dk_at dksX1_term_2 1 rfl rfl)
theorem dX1_term_50 : decode cX1_term 50 = .ok (.invokevirtual 149, 3) := dk_182 0 149 (dk_at dksX1_term_2 2 rfl rfl)
theorem dX1_term_53 : decode cX1_term 53 = .ok (.invokevirtual 157, 3) := dk_182 0 157 (dk_at dksX1_term_2 5 rfl rfl)
theorem dX1_term_56 : decode cX1_term 56 = .ok (.aload_n 0, 1) := dk_42 (dk_at dksX1_term_2 8 rfl rfl)
theorem dX1_term_57 : decode cX1_term 57 = .ok (.invokevirtual 115, 3) := dk_182 0 115 (dk_at dksX1_term_2 9 rfl rfl)
theorem dX1_term_60 : decode cX1_term 60 = .ok (.istore_n 3, 1) := dk_62 (dk_at dksX1_term_2 12 rfl rfl)
theorem dX1_term_61 : decode cX1_term 61 = .ok (.goto (-49), 3) := dk_167 255 207 (dk_at dksX1_term_2 13 rfl rfl)
theorem dX1_term_64 : decode cX1_term 64 = .ok (.aload_n 2, 1) := dk_44 (dk_at dksX1_term_2 16 rfl rfl)
theorem dX1_term_65 : decode cX1_term 65 = .ok (.ifnonnull 7, 3) := dk_199 0 7 (dk_at dksX1_term_2 17 rfl rfl)
theorem dX1_term_68 : decode cX1_term 68 = .ok (.aload_n 1, 1) := dk_43 (dk_at dksX1_term_2 20 rfl rfl)
theorem dX1_term_69 : decode cX1_term 69 = .ok (.goto 4, 3) := dk_167 0 4 (dk_at dksX1_term_2 21 rfl rfl)
theorem dX1_term_72 : decode cX1_term 72 = .ok (.aload_n 2, 1) := dk_44 (dk_at dksX1_term_3 0 rfl rfl)
theorem dX1_term_73 : decode cX1_term 73 = .ok (.areturn, 1) := dk_176 (dk_at dksX1_term_3 1 rfl rfl)
abbrev cX1_atom : ByteArray := prog_1_method_12_code
def yX1_atom : MethodName := ⟨RX1, "atom", "()LFrostBox$Sum;"⟩
def dkwX1_atom_6 : List UInt8 := [132, 3, 1, 167, 255, 185, 187, 0, 146, 89, 28, 183, 0, 148, 176]
abbrev dktX1_atom_6 : List UInt8 := dkwX1_atom_6 ++ []
def dkwX1_atom_5 : List UInt8 := [180, 0, 16, 42, 180, 0, 105, 51, 96, 16, 48, 100, 61, 42, 89, 180, 0, 105, 4, 96, 181, 0, 105]
abbrev dktX1_atom_5 : List UInt8 := dkwX1_atom_5 ++ dktX1_atom_6
def dkwX1_atom_4 : List UInt8 := [153, 0, 51, 42, 29, 7, 162, 0, 7, 4, 167, 0, 4, 3, 182, 0, 111, 16, 10, 28, 104, 42]
abbrev dktX1_atom_4 : List UInt8 := dkwX1_atom_4 ++ dktX1_atom_5
def dkwX1_atom_3 : List UInt8 := [62, 42, 180, 0, 105, 42, 180, 0, 102, 162, 0, 66, 42, 180, 0, 16, 42, 180, 0, 105, 51, 184, 0, 142]
abbrev dktX1_atom_3 : List UInt8 := dkwX1_atom_3 ++ dktX1_atom_4
def dkwX1_atom_2 : List UInt8 := [96, 181, 0, 105, 187, 0, 138, 89, 27, 183, 0, 140, 176, 42, 27, 184, 0, 142, 182, 0, 111, 3, 61, 3]
abbrev dktX1_atom_2 : List UInt8 := dkwX1_atom_2 ++ dktX1_atom_3
def dkwX1_atom_1 : List UInt8 := [182, 0, 126, 44, 176, 27, 158, 0, 31, 18, 130, 27, 182, 0, 132, 155, 0, 22, 42, 89, 180, 0, 105, 4]
abbrev dktX1_atom_1 : List UInt8 := dkwX1_atom_1 ++ dktX1_atom_2
def dkwX1_atom_0 : List UInt8 := [42, 182, 0, 115, 60, 27, 16, 91, 160, 0, 20, 42, 182, 0, 119, 42, 182, 0, 122, 77, 42, 16, 93]
abbrev dktX1_atom_0 : List UInt8 := dkwX1_atom_0 ++ dktX1_atom_1
theorem dksX1_atom_0 : cX1_atom.data.toList.drop 0 = dktX1_atom_0 := by decide +kernel
theorem dksX1_atom_1 : cX1_atom.data.toList.drop 23 = dktX1_atom_1 := dk_seg dksX1_atom_0 23 rfl rfl
theorem dksX1_atom_2 : cX1_atom.data.toList.drop 47 = dktX1_atom_2 := dk_seg dksX1_atom_1 24 rfl rfl
theorem dksX1_atom_3 : cX1_atom.data.toList.drop 71 = dktX1_atom_3 := dk_seg dksX1_atom_2 24 rfl rfl
theorem dksX1_atom_4 : cX1_atom.data.toList.drop 95 = dktX1_atom_4 := dk_seg dksX1_atom_3 24 rfl rfl
theorem dksX1_atom_5 : cX1_atom.data.toList.drop 117 = dktX1_atom_5 := dk_seg dksX1_atom_4 22 rfl rfl
theorem dksX1_atom_6 : cX1_atom.data.toList.drop 140 = dktX1_atom_6 := dk_seg dksX1_atom_5 23 rfl rfl
theorem dX1_atom_0 : decode cX1_atom 0 = .ok (.aload_n 0, 1) := dk_42 (dk_at dksX1_atom_0 0 rfl rfl)
theorem dX1_atom_1 : decode cX1_atom 1 = .ok (.invokevirtual 115, 3) := dk_182 0 115 (dk_at dksX1_atom_0 1 rfl rfl)
theorem dX1_atom_4 : decode cX1_atom 4 = .ok (.istore_n 1, 1) := dk_60 (dk_at dksX1_atom_0 4 rfl rfl)
theorem dX1_atom_5 : decode cX1_atom 5 = .ok (.iload_n 1, 1) := dk_27 (dk_at dksX1_atom_0 5 rfl rfl)
theorem dX1_atom_6 : decode cX1_atom 6 = .ok (.bipush 91, 2) := dk_16 91 (dk_at dksX1_atom_0 6 rfl rfl)
theorem dX1_atom_8 : decode cX1_atom 8 = .ok (.if_icmp .ne 20, 3) := dk_160 0 20 (dk_at dksX1_atom_0 8 rfl rfl)
theorem dX1_atom_11 : decode cX1_atom 11 = .ok (.aload_n 0, 1) := dk_42 (dk_at dksX1_atom_0 11 rfl rfl)
theorem dX1_atom_12 : decode cX1_atom 12 = .ok (.invokevirtual 119, 3) := dk_182 0 119 (dk_at dksX1_atom_0 12 rfl rfl)
theorem dX1_atom_15 : decode cX1_atom 15 = .ok (.aload_n 0, 1) := dk_42 (dk_at dksX1_atom_0 15 rfl rfl)
theorem dX1_atom_16 : decode cX1_atom 16 = .ok (.invokevirtual 122, 3) := dk_182 0 122 (dk_at dksX1_atom_0 16 rfl rfl)
theorem dX1_atom_19 : decode cX1_atom 19 = .ok (.astore_n 2, 1) := dk_77 (dk_at dksX1_atom_0 19 rfl rfl)
theorem dX1_atom_20 : decode cX1_atom 20 = .ok (.aload_n 0, 1) := dk_42 (dk_at dksX1_atom_0 20 rfl rfl)
theorem dX1_atom_21 : decode cX1_atom 21 = .ok (.bipush 93, 2) := dk_16 93 (dk_at dksX1_atom_0 21 rfl rfl)
theorem dX1_atom_23 : decode cX1_atom 23 = .ok (.invokevirtual 126, 3) := dk_182 0 126 (dk_at dksX1_atom_1 0 rfl rfl)
theorem dX1_atom_26 : decode cX1_atom 26 = .ok (.aload_n 2, 1) := dk_44 (dk_at dksX1_atom_1 3 rfl rfl)
theorem dX1_atom_27 : decode cX1_atom 27 = .ok (.areturn, 1) := dk_176 (dk_at dksX1_atom_1 4 rfl rfl)
theorem dX1_atom_28 : decode cX1_atom 28 = .ok (.iload_n 1, 1) := dk_27 (dk_at dksX1_atom_1 5 rfl rfl)
theorem dX1_atom_29 : decode cX1_atom 29 = .ok (.ifCond .le 31, 3) := dk_158 0 31 (dk_at dksX1_atom_1 6 rfl rfl)
theorem dX1_atom_32 : decode cX1_atom 32 = .ok (.ldc 130, 2) := dk_18 130 (dk_at dksX1_atom_1 9 rfl rfl)
theorem dX1_atom_34 : decode cX1_atom 34 = .ok (.iload_n 1, 1) := dk_27 (dk_at dksX1_atom_1 11 rfl rfl)
theorem dX1_atom_35 : decode cX1_atom 35 = .ok (.invokevirtual 132, 3) := dk_182 0 132 (dk_at dksX1_atom_1 12 rfl rfl)
theorem dX1_atom_38 : decode cX1_atom 38 = .ok (.ifCond .lt 22, 3) := dk_155 0 22 (dk_at dksX1_atom_1 15 rfl rfl)
theorem dX1_atom_41 : decode cX1_atom 41 = .ok (.aload_n 0, 1) := dk_42 (dk_at dksX1_atom_1 18 rfl rfl)
theorem dX1_atom_42 : decode cX1_atom 42 = .ok (.dup, 1) := dk_89 (dk_at dksX1_atom_1 19 rfl rfl)
theorem dX1_atom_43 : decode cX1_atom 43 = .ok (.getfield 105, 3) := dk_180 0 105 (dk_at dksX1_atom_1 20 rfl rfl)
theorem dX1_atom_46 : decode cX1_atom 46 = .ok (.iconst 1, 1) := dk_4 (dk_at dksX1_atom_1 23 rfl rfl)
theorem dX1_atom_47 : decode cX1_atom 47 = .ok (.iadd, 1) := dk_96 (dk_at dksX1_atom_2 0 rfl rfl)
theorem dX1_atom_48 : decode cX1_atom 48 = .ok (.putfield 105, 3) := dk_181 0 105 (dk_at dksX1_atom_2 1 rfl rfl)
theorem dX1_atom_51 : decode cX1_atom 51 = .ok (.new 138, 3) := dk_187 0 138 (dk_at dksX1_atom_2 4 rfl rfl)
theorem dX1_atom_54 : decode cX1_atom 54 = .ok (.dup, 1) := dk_89 (dk_at dksX1_atom_2 7 rfl rfl)
theorem dX1_atom_55 : decode cX1_atom 55 = .ok (.iload_n 1, 1) := dk_27 (dk_at dksX1_atom_2 8 rfl rfl)
theorem dX1_atom_56 : decode cX1_atom 56 = .ok (.invokespecial 140, 3) := dk_183 0 140 (dk_at dksX1_atom_2 9 rfl rfl)
theorem dX1_atom_59 : decode cX1_atom 59 = .ok (.areturn, 1) := dk_176 (dk_at dksX1_atom_2 12 rfl rfl)
theorem dX1_atom_60 : decode cX1_atom 60 = .ok (.aload_n 0, 1) := dk_42 (dk_at dksX1_atom_2 13 rfl rfl)
theorem dX1_atom_61 : decode cX1_atom 61 = .ok (.iload_n 1, 1) := dk_27 (dk_at dksX1_atom_2 14 rfl rfl)
theorem dX1_atom_62 : decode cX1_atom 62 = .ok (.invokestatic 142, 3) := dk_184 0 142 (dk_at dksX1_atom_2 15 rfl rfl)
theorem dX1_atom_65 : decode cX1_atom 65 = .ok (.invokevirtual 111, 3) := dk_182 0 111 (dk_at dksX1_atom_2 18 rfl rfl)
theorem dX1_atom_68 : decode cX1_atom 68 = .ok (.iconst 0, 1) := dk_3 (dk_at dksX1_atom_2 21 rfl rfl)
theorem dX1_atom_69 : decode cX1_atom 69 = .ok (.istore_n 2, 1) := dk_61 (dk_at dksX1_atom_2 22 rfl rfl)
theorem dX1_atom_70 : decode cX1_atom 70 = .ok (.iconst 0, 1) := dk_3 (dk_at dksX1_atom_2 23 rfl rfl)
theorem dX1_atom_71 : decode cX1_atom 71 = .ok (.istore_n 3, 1) := dk_62 (dk_at dksX1_atom_3 0 rfl rfl)
theorem dX1_atom_72 : decode cX1_atom 72 = .ok (.aload_n 0, 1) := dk_42 (dk_at dksX1_atom_3 1 rfl rfl)
theorem dX1_atom_73 : decode cX1_atom 73 = .ok (.getfield 105, 3) := dk_180 0 105 (dk_at dksX1_atom_3 2 rfl rfl)
theorem dX1_atom_76 : decode cX1_atom 76 = .ok (.aload_n 0, 1) := dk_42 (dk_at dksX1_atom_3 5 rfl rfl)
theorem dX1_atom_77 : decode cX1_atom 77 = .ok (.getfield 102, 3) := dk_180 0 102 (dk_at dksX1_atom_3 6 rfl rfl)
theorem dX1_atom_80 : decode cX1_atom 80 = .ok (.if_icmp .ge 66, 3) := dk_162 0 66 (dk_at dksX1_atom_3 9 rfl rfl)
theorem dX1_atom_83 : decode cX1_atom 83 = .ok (.aload_n 0, 1) := dk_42 (dk_at dksX1_atom_3 12 rfl rfl)
theorem dX1_atom_84 : decode cX1_atom 84 = .ok (.getfield 16, 3) := dk_180 0 16 (dk_at dksX1_atom_3 13 rfl rfl)
theorem dX1_atom_87 : decode cX1_atom 87 = .ok (.aload_n 0, 1) := dk_42 (dk_at dksX1_atom_3 16 rfl rfl)
theorem dX1_atom_88 : decode cX1_atom 88 = .ok (.getfield 105, 3) := dk_180 0 105 (dk_at dksX1_atom_3 17 rfl rfl)
theorem dX1_atom_91 : decode cX1_atom 91 = .ok (.baload, 1) := dk_51 (dk_at dksX1_atom_3 20 rfl rfl)
theorem dX1_atom_92 : decode cX1_atom 92 = .ok (.invokestatic 142, 3) := dk_184 0 142 (dk_at dksX1_atom_3 21 rfl rfl)
theorem dX1_atom_95 : decode cX1_atom 95 = .ok (.ifCond .eq 51, 3) := dk_153 0 51 (dk_at dksX1_atom_4 0 rfl rfl)
theorem dX1_atom_98 : decode cX1_atom 98 = .ok (.aload_n 0, 1) := dk_42 (dk_at dksX1_atom_4 3 rfl rfl)
theorem dX1_atom_99 : decode cX1_atom 99 = .ok (.iload_n 3, 1) := dk_29 (dk_at dksX1_atom_4 4 rfl rfl)
theorem dX1_atom_100 : decode cX1_atom 100 = .ok (.iconst 4, 1) := dk_7 (dk_at dksX1_atom_4 5 rfl rfl)
theorem dX1_atom_101 : decode cX1_atom 101 = .ok (.if_icmp .ge 7, 3) := dk_162 0 7 (dk_at dksX1_atom_4 6 rfl rfl)
theorem dX1_atom_104 : decode cX1_atom 104 = .ok (.iconst 1, 1) := dk_4 (dk_at dksX1_atom_4 9 rfl rfl)
theorem dX1_atom_105 : decode cX1_atom 105 = .ok (.goto 4, 3) := dk_167 0 4 (dk_at dksX1_atom_4 10 rfl rfl)
theorem dX1_atom_108 : decode cX1_atom 108 = .ok (.iconst 0, 1) := dk_3 (dk_at dksX1_atom_4 13 rfl rfl)
theorem dX1_atom_109 : decode cX1_atom 109 = .ok (.invokevirtual 111, 3) := dk_182 0 111 (dk_at dksX1_atom_4 14 rfl rfl)
theorem dX1_atom_112 : decode cX1_atom 112 = .ok (.bipush 10, 2) := dk_16 10 (dk_at dksX1_atom_4 17 rfl rfl)
theorem dX1_atom_114 : decode cX1_atom 114 = .ok (.iload_n 2, 1) := dk_28 (dk_at dksX1_atom_4 19 rfl rfl)
theorem dX1_atom_115 : decode cX1_atom 115 = .ok (.imul, 1) := dk_104 (dk_at dksX1_atom_4 20 rfl rfl)
theorem dX1_atom_116 : decode cX1_atom 116 = .ok (.aload_n 0, 1) := dk_42 (dk_at dksX1_atom_4 21 rfl rfl)
theorem dX1_atom_117 : decode cX1_atom 117 = .ok (.getfield 16, 3) := dk_180 0 16 (dk_at dksX1_atom_5 0 rfl rfl)
theorem dX1_atom_120 : decode cX1_atom 120 = .ok (.aload_n 0, 1) := dk_42 (dk_at dksX1_atom_5 3 rfl rfl)
theorem dX1_atom_121 : decode cX1_atom 121 = .ok (.getfield 105, 3) := dk_180 0 105 (dk_at dksX1_atom_5 4 rfl rfl)
theorem dX1_atom_124 : decode cX1_atom 124 = .ok (.baload, 1) := dk_51 (dk_at dksX1_atom_5 7 rfl rfl)
theorem dX1_atom_125 : decode cX1_atom 125 = .ok (.iadd, 1) := dk_96 (dk_at dksX1_atom_5 8 rfl rfl)
theorem dX1_atom_126 : decode cX1_atom 126 = .ok (.bipush 48, 2) := dk_16 48 (dk_at dksX1_atom_5 9 rfl rfl)
theorem dX1_atom_128 : decode cX1_atom 128 = .ok (.isub, 1) := dk_100 (dk_at dksX1_atom_5 11 rfl rfl)
theorem dX1_atom_129 : decode cX1_atom 129 = .ok (.istore_n 2, 1) := dk_61 (dk_at dksX1_atom_5 12 rfl rfl)
theorem dX1_atom_130 : decode cX1_atom 130 = .ok (.aload_n 0, 1) := dk_42 (dk_at dksX1_atom_5 13 rfl rfl)
theorem dX1_atom_131 : decode cX1_atom 131 = .ok (.dup, 1) := dk_89 (dk_at dksX1_atom_5 14 rfl rfl)
theorem dX1_atom_132 : decode cX1_atom 132 = .ok (.getfield 105, 3) := dk_180 0 105 (dk_at dksX1_atom_5 15 rfl rfl)
theorem dX1_atom_135 : decode cX1_atom 135 = .ok (.iconst 1, 1) := dk_4 (dk_at dksX1_atom_5 18 rfl rfl)
theorem dX1_atom_136 : decode cX1_atom 136 = .ok (.iadd, 1) := dk_96 (dk_at dksX1_atom_5 19 rfl rfl)
theorem dX1_atom_137 : decode cX1_atom 137 = .ok (.putfield 105, 3) := dk_181 0 105 (dk_at dksX1_atom_5 20 rfl rfl)
theorem dX1_atom_140 : decode cX1_atom 140 = .ok (.iinc 3 1, 3) := dk_132 3 1 (dk_at dksX1_atom_6 0 rfl rfl)
theorem dX1_atom_143 : decode cX1_atom 143 = .ok (.goto (-71), 3) := dk_167 255 185 (dk_at dksX1_atom_6 3 rfl rfl)
theorem dX1_atom_146 : decode cX1_atom 146 = .ok (.new 146, 3) := dk_187 0 146 (dk_at dksX1_atom_6 6 rfl rfl)
theorem dX1_atom_149 : decode cX1_atom 149 = .ok (.dup, 1) := dk_89 (dk_at dksX1_atom_6 9 rfl rfl)
theorem dX1_atom_150 : decode cX1_atom 150 = .ok (.iload_n 2, 1) := dk_28 (dk_at dksX1_atom_6 10 rfl rfl)
theorem dX1_atom_151 : decode cX1_atom 151 = .ok (.invokespecial 148, 3) := dk_183 0 148 (dk_at dksX1_atom_6 11 rfl rfl)
theorem dX1_atom_154 : decode cX1_atom 154 = .ok (.areturn, 1) := dk_176 (dk_at dksX1_atom_6 14 rfl rfl)
abbrev cX1_opens : ByteArray := prog_1_method_10_code
def yX1_opens : MethodName := ⟨RX1, "opens", "()V"⟩
def dkwX1_opens_1 : List UInt8 := [96, 181, 0, 108, 42, 89, 180, 0, 105, 4, 96, 181, 0, 105, 177]
abbrev dktX1_opens_1 : List UInt8 := dkwX1_opens_1 ++ []
def dkwX1_opens_0 : List UInt8 := [42, 42, 180, 0, 108, 16, 6, 162, 0, 7, 4, 167, 0, 4, 3, 182, 0, 111, 42, 89, 180, 0, 108, 4]
abbrev dktX1_opens_0 : List UInt8 := dkwX1_opens_0 ++ dktX1_opens_1
theorem dksX1_opens_0 : cX1_opens.data.toList.drop 0 = dktX1_opens_0 := by decide +kernel
theorem dksX1_opens_1 : cX1_opens.data.toList.drop 24 = dktX1_opens_1 := dk_seg dksX1_opens_0 24 rfl rfl
theorem dX1_opens_0 : decode cX1_opens 0 = .ok (.aload_n 0, 1) := dk_42 (dk_at dksX1_opens_0 0 rfl rfl)
theorem dX1_opens_1 : decode cX1_opens 1 = .ok (.aload_n 0, 1) := dk_42 (dk_at dksX1_opens_0 1 rfl rfl)
theorem dX1_opens_2 : decode cX1_opens 2 = .ok (.getfield 108, 3) := dk_180 0 108 (dk_at dksX1_opens_0 2 rfl rfl)
theorem dX1_opens_5 : decode cX1_opens 5 = .ok (.bipush 6, 2) := dk_16 6 (dk_at dksX1_opens_0 5 rfl rfl)
theorem dX1_opens_7 : decode cX1_opens 7 = .ok (.if_icmp .ge 7, 3) := dk_162 0 7 (dk_at dksX1_opens_0 7 rfl rfl)
theorem dX1_opens_10 : decode cX1_opens 10 = .ok (.iconst 1, 1) := dk_4 (dk_at dksX1_opens_0 10 rfl rfl)
theorem dX1_opens_11 : decode cX1_opens 11 = .ok (.goto 4, 3) := dk_167 0 4 (dk_at dksX1_opens_0 11 rfl rfl)
theorem dX1_opens_14 : decode cX1_opens 14 = .ok (.iconst 0, 1) := dk_3 (dk_at dksX1_opens_0 14 rfl rfl)
theorem dX1_opens_15 : decode cX1_opens 15 = .ok (.invokevirtual 111, 3) := dk_182 0 111 (dk_at dksX1_opens_0 15 rfl rfl)
theorem dX1_opens_18 : decode cX1_opens 18 = .ok (.aload_n 0, 1) := dk_42 (dk_at dksX1_opens_0 18 rfl rfl)
theorem dX1_opens_19 : decode cX1_opens 19 = .ok (.dup, 1) := dk_89 (dk_at dksX1_opens_0 19 rfl rfl)
theorem dX1_opens_20 : decode cX1_opens 20 = .ok (.getfield 108, 3) := dk_180 0 108 (dk_at dksX1_opens_0 20 rfl rfl)
theorem dX1_opens_23 : decode cX1_opens 23 = .ok (.iconst 1, 1) := dk_4 (dk_at dksX1_opens_0 23 rfl rfl)
theorem dX1_opens_24 : decode cX1_opens 24 = .ok (.iadd, 1) := dk_96 (dk_at dksX1_opens_1 0 rfl rfl)
theorem dX1_opens_25 : decode cX1_opens 25 = .ok (.putfield 108, 3) := dk_181 0 108 (dk_at dksX1_opens_1 1 rfl rfl)
theorem dX1_opens_28 : decode cX1_opens 28 = .ok (.aload_n 0, 1) := dk_42 (dk_at dksX1_opens_1 4 rfl rfl)
theorem dX1_opens_29 : decode cX1_opens 29 = .ok (.dup, 1) := dk_89 (dk_at dksX1_opens_1 5 rfl rfl)
theorem dX1_opens_30 : decode cX1_opens 30 = .ok (.getfield 105, 3) := dk_180 0 105 (dk_at dksX1_opens_1 6 rfl rfl)
theorem dX1_opens_33 : decode cX1_opens 33 = .ok (.iconst 1, 1) := dk_4 (dk_at dksX1_opens_1 9 rfl rfl)
theorem dX1_opens_34 : decode cX1_opens 34 = .ok (.iadd, 1) := dk_96 (dk_at dksX1_opens_1 10 rfl rfl)
theorem dX1_opens_35 : decode cX1_opens 35 = .ok (.putfield 105, 3) := dk_181 0 105 (dk_at dksX1_opens_1 11 rfl rfl)
theorem dX1_opens_38 : decode cX1_opens 38 = .ok (.return_, 1) := dk_177 (dk_at dksX1_opens_1 14 rfl rfl)
abbrev cX1_closes : ByteArray := prog_1_method_11_code
def yX1_closes : MethodName := ⟨RX1, "closes", "(I)V"⟩
def dkwX1_closes_1 : List UInt8 := [181, 0, 105, 42, 89, 180, 0, 108, 4, 100, 181, 0, 108, 177]
abbrev dktX1_closes_1 : List UInt8 := dkwX1_closes_1 ++ []
def dkwX1_closes_0 : List UInt8 := [42, 42, 182, 0, 115, 27, 160, 0, 7, 4, 167, 0, 4, 3, 182, 0, 111, 42, 89, 180, 0, 105, 4, 96]
abbrev dktX1_closes_0 : List UInt8 := dkwX1_closes_0 ++ dktX1_closes_1
theorem dksX1_closes_0 : cX1_closes.data.toList.drop 0 = dktX1_closes_0 := by decide +kernel
theorem dksX1_closes_1 : cX1_closes.data.toList.drop 24 = dktX1_closes_1 := dk_seg dksX1_closes_0 24 rfl rfl
theorem dX1_closes_0 : decode cX1_closes 0 = .ok (.aload_n 0, 1) := dk_42 (dk_at dksX1_closes_0 0 rfl rfl)
theorem dX1_closes_1 : decode cX1_closes 1 = .ok (.aload_n 0, 1) := dk_42 (dk_at dksX1_closes_0 1 rfl rfl)
theorem dX1_closes_2 : decode cX1_closes 2 = .ok (.invokevirtual 115, 3) := dk_182 0 115 (dk_at dksX1_closes_0 2 rfl rfl)
theorem dX1_closes_5 : decode cX1_closes 5 = .ok (.iload_n 1, 1) := dk_27 (dk_at dksX1_closes_0 5 rfl rfl)
theorem dX1_closes_6 : decode cX1_closes 6 = .ok (.if_icmp .ne 7, 3) := dk_160 0 7 (dk_at dksX1_closes_0 6 rfl rfl)
theorem dX1_closes_9 : decode cX1_closes 9 = .ok (.iconst 1, 1) := dk_4 (dk_at dksX1_closes_0 9 rfl rfl)
theorem dX1_closes_10 : decode cX1_closes 10 = .ok (.goto 4, 3) := dk_167 0 4 (dk_at dksX1_closes_0 10 rfl rfl)
theorem dX1_closes_13 : decode cX1_closes 13 = .ok (.iconst 0, 1) := dk_3 (dk_at dksX1_closes_0 13 rfl rfl)
theorem dX1_closes_14 : decode cX1_closes 14 = .ok (.invokevirtual 111, 3) := dk_182 0 111 (dk_at dksX1_closes_0 14 rfl rfl)
theorem dX1_closes_17 : decode cX1_closes 17 = .ok (.aload_n 0, 1) := dk_42 (dk_at dksX1_closes_0 17 rfl rfl)
theorem dX1_closes_18 : decode cX1_closes 18 = .ok (.dup, 1) := dk_89 (dk_at dksX1_closes_0 18 rfl rfl)
theorem dX1_closes_19 : decode cX1_closes 19 = .ok (.getfield 105, 3) := dk_180 0 105 (dk_at dksX1_closes_0 19 rfl rfl)
theorem dX1_closes_22 : decode cX1_closes 22 = .ok (.iconst 1, 1) := dk_4 (dk_at dksX1_closes_0 22 rfl rfl)
theorem dX1_closes_23 : decode cX1_closes 23 = .ok (.iadd, 1) := dk_96 (dk_at dksX1_closes_0 23 rfl rfl)
theorem dX1_closes_24 : decode cX1_closes 24 = .ok (.putfield 105, 3) := dk_181 0 105 (dk_at dksX1_closes_1 0 rfl rfl)
theorem dX1_closes_27 : decode cX1_closes 27 = .ok (.aload_n 0, 1) := dk_42 (dk_at dksX1_closes_1 3 rfl rfl)
theorem dX1_closes_28 : decode cX1_closes 28 = .ok (.dup, 1) := dk_89 (dk_at dksX1_closes_1 4 rfl rfl)
theorem dX1_closes_29 : decode cX1_closes 29 = .ok (.getfield 108, 3) := dk_180 0 108 (dk_at dksX1_closes_1 5 rfl rfl)
theorem dX1_closes_32 : decode cX1_closes 32 = .ok (.iconst 1, 1) := dk_4 (dk_at dksX1_closes_1 8 rfl rfl)
theorem dX1_closes_33 : decode cX1_closes 33 = .ok (.isub, 1) := dk_100 (dk_at dksX1_closes_1 9 rfl rfl)
theorem dX1_closes_34 : decode cX1_closes 34 = .ok (.putfield 108, 3) := dk_181 0 108 (dk_at dksX1_closes_1 10 rfl rfl)
theorem dX1_closes_37 : decode cX1_closes 37 = .ok (.return_, 1) := dk_177 (dk_at dksX1_closes_1 13 rfl rfl)
abbrev cX1_isDigit : ByteArray := prog_1_method_8_code
def yX1_isDigit : MethodName := ⟨RX1, "isDigit", "(I)Z"⟩
def dkwX1_isDigit_0 : List UInt8 := [26, 16, 48, 161, 0, 13, 26, 16, 57, 163, 0, 7, 4, 167, 0, 4, 3, 172]
abbrev dktX1_isDigit_0 : List UInt8 := dkwX1_isDigit_0 ++ []
theorem dksX1_isDigit_0 : cX1_isDigit.data.toList.drop 0 = dktX1_isDigit_0 := by decide +kernel
theorem dX1_isDigit_0 : decode cX1_isDigit 0 = .ok (.iload_n 0, 1) := dk_26 (dk_at dksX1_isDigit_0 0 rfl rfl)
theorem dX1_isDigit_1 : decode cX1_isDigit 1 = .ok (.bipush 48, 2) := dk_16 48 (dk_at dksX1_isDigit_0 1 rfl rfl)
theorem dX1_isDigit_3 : decode cX1_isDigit 3 = .ok (.if_icmp .lt 13, 3) := dk_161 0 13 (dk_at dksX1_isDigit_0 3 rfl rfl)
theorem dX1_isDigit_6 : decode cX1_isDigit 6 = .ok (.iload_n 0, 1) := dk_26 (dk_at dksX1_isDigit_0 6 rfl rfl)
theorem dX1_isDigit_7 : decode cX1_isDigit 7 = .ok (.bipush 57, 2) := dk_16 57 (dk_at dksX1_isDigit_0 7 rfl rfl)
theorem dX1_isDigit_9 : decode cX1_isDigit 9 = .ok (.if_icmp .gt 7, 3) := dk_163 0 7 (dk_at dksX1_isDigit_0 9 rfl rfl)
theorem dX1_isDigit_12 : decode cX1_isDigit 12 = .ok (.iconst 1, 1) := dk_4 (dk_at dksX1_isDigit_0 12 rfl rfl)
theorem dX1_isDigit_13 : decode cX1_isDigit 13 = .ok (.goto 4, 3) := dk_167 0 4 (dk_at dksX1_isDigit_0 13 rfl rfl)
theorem dX1_isDigit_16 : decode cX1_isDigit 16 = .ok (.iconst 0, 1) := dk_3 (dk_at dksX1_isDigit_0 16 rfl rfl)
theorem dX1_isDigit_17 : decode cX1_isDigit 17 = .ok (.ireturn, 1) := dk_172 (dk_at dksX1_isDigit_0 17 rfl rfl)
abbrev cX1_isSign : ByteArray := prog_1_method_15_code
def yX1_isSign : MethodName := ⟨RX1, "isSign", "(I)Z"⟩
def dkwX1_isSign_0 : List UInt8 := [26, 16, 61, 159, 0, 15, 26, 16, 60, 159, 0, 9, 26, 16, 62, 160, 0, 7, 4, 167, 0, 4, 3, 172]
abbrev dktX1_isSign_0 : List UInt8 := dkwX1_isSign_0 ++ []
theorem dksX1_isSign_0 : cX1_isSign.data.toList.drop 0 = dktX1_isSign_0 := by decide +kernel
theorem dX1_isSign_0 : decode cX1_isSign 0 = .ok (.iload_n 0, 1) := dk_26 (dk_at dksX1_isSign_0 0 rfl rfl)
theorem dX1_isSign_1 : decode cX1_isSign 1 = .ok (.bipush 61, 2) := dk_16 61 (dk_at dksX1_isSign_0 1 rfl rfl)
theorem dX1_isSign_3 : decode cX1_isSign 3 = .ok (.if_icmp .eq 15, 3) := dk_159 0 15 (dk_at dksX1_isSign_0 3 rfl rfl)
theorem dX1_isSign_6 : decode cX1_isSign 6 = .ok (.iload_n 0, 1) := dk_26 (dk_at dksX1_isSign_0 6 rfl rfl)
theorem dX1_isSign_7 : decode cX1_isSign 7 = .ok (.bipush 60, 2) := dk_16 60 (dk_at dksX1_isSign_0 7 rfl rfl)
theorem dX1_isSign_9 : decode cX1_isSign 9 = .ok (.if_icmp .eq 9, 3) := dk_159 0 9 (dk_at dksX1_isSign_0 9 rfl rfl)
theorem dX1_isSign_12 : decode cX1_isSign 12 = .ok (.iload_n 0, 1) := dk_26 (dk_at dksX1_isSign_0 12 rfl rfl)
theorem dX1_isSign_13 : decode cX1_isSign 13 = .ok (.bipush 62, 2) := dk_16 62 (dk_at dksX1_isSign_0 13 rfl rfl)
theorem dX1_isSign_15 : decode cX1_isSign 15 = .ok (.if_icmp .ne 7, 3) := dk_160 0 7 (dk_at dksX1_isSign_0 15 rfl rfl)
theorem dX1_isSign_18 : decode cX1_isSign 18 = .ok (.iconst 1, 1) := dk_4 (dk_at dksX1_isSign_0 18 rfl rfl)
theorem dX1_isSign_19 : decode cX1_isSign 19 = .ok (.goto 4, 3) := dk_167 0 4 (dk_at dksX1_isSign_0 19 rfl rfl)
theorem dX1_isSign_22 : decode cX1_isSign 22 = .ok (.iconst 0, 1) := dk_3 (dk_at dksX1_isSign_0 22 rfl rfl)
theorem dX1_isSign_23 : decode cX1_isSign 23 = .ok (.ireturn, 1) := dk_172 (dk_at dksX1_isSign_0 23 rfl rfl)
abbrev cX1_condition : ByteArray := prog_1_method_19_code
def yX1_condition : MethodName := ⟨RX1, "condition", "(LFrostBox$Sum;)LFrostBox$Test;"⟩
def dkwX1_condition_2 : List UInt8 := [182, 0, 193, 167, 255, 214, 45, 199, 0, 7, 44, 167, 0, 4, 45, 176]
abbrev dktX1_condition_2 : List UInt8 := dkwX1_condition_2 ++ []
def dkwX1_condition_1 : List UInt8 := [181, 0, 105, 45, 199, 0, 13, 187, 0, 188, 89, 3, 44, 183, 0, 190, 78, 45, 42, 1, 182, 0, 195]
abbrev dktX1_condition_1 : List UInt8 := dkwX1_condition_1 ++ dktX1_condition_2
def dkwX1_condition_0 : List UInt8 := [42, 43, 182, 0, 195, 77, 1, 78, 42, 182, 0, 115, 16, 124, 160, 0, 39, 42, 89, 180, 0, 105, 4, 96]
abbrev dktX1_condition_0 : List UInt8 := dkwX1_condition_0 ++ dktX1_condition_1
theorem dksX1_condition_0 : cX1_condition.data.toList.drop 0 = dktX1_condition_0 := by decide +kernel
theorem dksX1_condition_1 : cX1_condition.data.toList.drop 24 = dktX1_condition_1 := dk_seg dksX1_condition_0 24 rfl rfl
theorem dksX1_condition_2 : cX1_condition.data.toList.drop 47 = dktX1_condition_2 := dk_seg dksX1_condition_1 23 rfl rfl
theorem dX1_condition_0 : decode cX1_condition 0 = .ok (.aload_n 0, 1) := dk_42 (dk_at dksX1_condition_0 0 rfl rfl)
theorem dX1_condition_1 : decode cX1_condition 1 = .ok (.aload_n 1, 1) := dk_43 (dk_at dksX1_condition_0 1 rfl rfl)
theorem dX1_condition_2 : decode cX1_condition 2 = .ok (.invokevirtual 195, 3) := dk_182 0 195 (dk_at dksX1_condition_0 2 rfl rfl)
theorem dX1_condition_5 : decode cX1_condition 5 = .ok (.astore_n 2, 1) := dk_77 (dk_at dksX1_condition_0 5 rfl rfl)
theorem dX1_condition_6 : decode cX1_condition 6 = .ok (.aconst_null, 1) := dk_1 (dk_at dksX1_condition_0 6 rfl rfl)
theorem dX1_condition_7 : decode cX1_condition 7 = .ok (.astore_n 3, 1) := dk_78 (dk_at dksX1_condition_0 7 rfl rfl)
theorem dX1_condition_8 : decode cX1_condition 8 = .ok (.aload_n 0, 1) := dk_42 (dk_at dksX1_condition_0 8 rfl rfl)
theorem dX1_condition_9 : decode cX1_condition 9 = .ok (.invokevirtual 115, 3) := dk_182 0 115 (dk_at dksX1_condition_0 9 rfl rfl)
theorem dX1_condition_12 : decode cX1_condition 12 = .ok (.bipush 124, 2) := dk_16 124 (dk_at dksX1_condition_0 12 rfl rfl)
theorem dX1_condition_14 : decode cX1_condition 14 = .ok (.if_icmp .ne 39, 3) := dk_160 0 39 (dk_at dksX1_condition_0 14 rfl rfl)
theorem dX1_condition_17 : decode cX1_condition 17 = .ok (.aload_n 0, 1) := dk_42 (dk_at dksX1_condition_0 17 rfl rfl)
theorem dX1_condition_18 : decode cX1_condition 18 = .ok (.dup, 1) := dk_89 (dk_at dksX1_condition_0 18 rfl rfl)
theorem dX1_condition_19 : decode cX1_condition 19 = .ok (.getfield 105, 3) := dk_180 0 105 (dk_at dksX1_condition_0 19 rfl rfl)
theorem dX1_condition_22 : decode cX1_condition 22 = .ok (.iconst 1, 1) := dk_4 (dk_at dksX1_condition_0 22 rfl rfl)
theorem dX1_condition_23 : decode cX1_condition 23 = .ok (.iadd, 1) := dk_96 (dk_at dksX1_condition_0 23 rfl rfl)
theorem dX1_condition_24 : decode cX1_condition 24 = .ok (.putfield 105, 3) := dk_181 0 105 (dk_at dksX1_condition_1 0 rfl rfl)
theorem dX1_condition_27 : decode cX1_condition 27 = .ok (.aload_n 3, 1) := dk_45 (dk_at dksX1_condition_1 3 rfl rfl)
theorem dX1_condition_28 : decode cX1_condition 28 = .ok (.ifnonnull 13, 3) := dk_199 0 13 (dk_at dksX1_condition_1 4 rfl rfl)
theorem dX1_condition_31 : decode cX1_condition 31 = .ok (.new 188, 3) := dk_187 0 188 (dk_at dksX1_condition_1 7 rfl rfl)
theorem dX1_condition_34 : decode cX1_condition 34 = .ok (.dup, 1) := dk_89 (dk_at dksX1_condition_1 10 rfl rfl)
theorem dX1_condition_35 : decode cX1_condition 35 = .ok (.iconst 0, 1) := dk_3 (dk_at dksX1_condition_1 11 rfl rfl)
theorem dX1_condition_36 : decode cX1_condition 36 = .ok (.aload_n 2, 1) := dk_44 (dk_at dksX1_condition_1 12 rfl rfl)
theorem dX1_condition_37 : decode cX1_condition 37 = .ok (.invokespecial 190, 3) := dk_183 0 190 (dk_at dksX1_condition_1 13 rfl rfl)
theorem dX1_condition_40 : decode cX1_condition 40 = .ok (.astore_n 3, 1) := dk_78 (dk_at dksX1_condition_1 16 rfl rfl)
theorem dX1_condition_41 : decode cX1_condition 41 = .ok (.aload_n 3, 1) := dk_45 (dk_at dksX1_condition_1 17 rfl rfl)
theorem dX1_condition_42 : decode cX1_condition 42 = .ok (.aload_n 0, 1) := dk_42 (dk_at dksX1_condition_1 18 rfl rfl)
theorem dX1_condition_43 : decode cX1_condition 43 = .ok (.aconst_null, 1) := dk_1 (dk_at dksX1_condition_1 19 rfl rfl)
theorem dX1_condition_44 : decode cX1_condition 44 = .ok (.invokevirtual 195, 3) := dk_182 0 195 (dk_at dksX1_condition_1 20 rfl rfl)
theorem dX1_condition_47 : decode cX1_condition 47 = .ok (.invokevirtual 193, 3) := dk_182 0 193 (dk_at dksX1_condition_2 0 rfl rfl)
theorem dX1_condition_50 : decode cX1_condition 50 = .ok (.goto (-42), 3) := dk_167 255 214 (dk_at dksX1_condition_2 3 rfl rfl)
theorem dX1_condition_53 : decode cX1_condition 53 = .ok (.aload_n 3, 1) := dk_45 (dk_at dksX1_condition_2 6 rfl rfl)
theorem dX1_condition_54 : decode cX1_condition 54 = .ok (.ifnonnull 7, 3) := dk_199 0 7 (dk_at dksX1_condition_2 7 rfl rfl)
theorem dX1_condition_57 : decode cX1_condition 57 = .ok (.aload_n 2, 1) := dk_44 (dk_at dksX1_condition_2 10 rfl rfl)
theorem dX1_condition_58 : decode cX1_condition 58 = .ok (.goto 4, 3) := dk_167 0 4 (dk_at dksX1_condition_2 11 rfl rfl)
theorem dX1_condition_61 : decode cX1_condition 61 = .ok (.aload_n 3, 1) := dk_45 (dk_at dksX1_condition_2 14 rfl rfl)
theorem dX1_condition_62 : decode cX1_condition 62 = .ok (.areturn, 1) := dk_176 (dk_at dksX1_condition_2 15 rfl rfl)
abbrev cX1_part : ByteArray := prog_1_method_18_code
def yX1_part : MethodName := ⟨RX1, "part", "(LFrostBox$Sum;)LFrostBox$Test;"⟩
def dkwX1_part_3 : List UInt8 := [45, 176]
abbrev dktX1_part_3 : List UInt8 := dkwX1_part_3 ++ []
def dkwX1_part_2 : List UInt8 := [44, 183, 0, 190, 78, 45, 42, 182, 0, 172, 182, 0, 193, 167, 255, 215, 45, 199, 0, 7, 44, 167, 0, 4]
abbrev dktX1_part_2 : List UInt8 := dkwX1_part_2 ++ dktX1_part_3
def dkwX1_part_1 : List UInt8 := [16, 38, 160, 0, 38, 42, 89, 180, 0, 105, 4, 96, 181, 0, 105, 45, 199, 0, 13, 187, 0, 188, 89, 4]
abbrev dktX1_part_1 : List UInt8 := dkwX1_part_1 ++ dktX1_part_2
def dkwX1_part_0 : List UInt8 := [43, 199, 0, 10, 42, 182, 0, 172, 167, 0, 8, 42, 43, 182, 0, 185, 77, 1, 78, 42, 182, 0, 115]
abbrev dktX1_part_0 : List UInt8 := dkwX1_part_0 ++ dktX1_part_1
theorem dksX1_part_0 : cX1_part.data.toList.drop 0 = dktX1_part_0 := by decide +kernel
theorem dksX1_part_1 : cX1_part.data.toList.drop 23 = dktX1_part_1 := dk_seg dksX1_part_0 23 rfl rfl
theorem dksX1_part_2 : cX1_part.data.toList.drop 47 = dktX1_part_2 := dk_seg dksX1_part_1 24 rfl rfl
theorem dksX1_part_3 : cX1_part.data.toList.drop 71 = dktX1_part_3 := dk_seg dksX1_part_2 24 rfl rfl
theorem dX1_part_0 : decode cX1_part 0 = .ok (.aload_n 1, 1) := dk_43 (dk_at dksX1_part_0 0 rfl rfl)
theorem dX1_part_1 : decode cX1_part 1 = .ok (.ifnonnull 10, 3) := dk_199 0 10 (dk_at dksX1_part_0 1 rfl rfl)
theorem dX1_part_4 : decode cX1_part 4 = .ok (.aload_n 0, 1) := dk_42 (dk_at dksX1_part_0 4 rfl rfl)
theorem dX1_part_5 : decode cX1_part 5 = .ok (.invokevirtual 172, 3) := dk_182 0 172 (dk_at dksX1_part_0 5 rfl rfl)
theorem dX1_part_8 : decode cX1_part 8 = .ok (.goto 8, 3) := dk_167 0 8 (dk_at dksX1_part_0 8 rfl rfl)
theorem dX1_part_11 : decode cX1_part 11 = .ok (.aload_n 0, 1) := dk_42 (dk_at dksX1_part_0 11 rfl rfl)
theorem dX1_part_12 : decode cX1_part 12 = .ok (.aload_n 1, 1) := dk_43 (dk_at dksX1_part_0 12 rfl rfl)
theorem dX1_part_13 : decode cX1_part 13 = .ok (.invokevirtual 185, 3) := dk_182 0 185 (dk_at dksX1_part_0 13 rfl rfl)
theorem dX1_part_16 : decode cX1_part 16 = .ok (.astore_n 2, 1) := dk_77 (dk_at dksX1_part_0 16 rfl rfl)
theorem dX1_part_17 : decode cX1_part 17 = .ok (.aconst_null, 1) := dk_1 (dk_at dksX1_part_0 17 rfl rfl)
theorem dX1_part_18 : decode cX1_part 18 = .ok (.astore_n 3, 1) := dk_78 (dk_at dksX1_part_0 18 rfl rfl)
theorem dX1_part_19 : decode cX1_part 19 = .ok (.aload_n 0, 1) := dk_42 (dk_at dksX1_part_0 19 rfl rfl)
theorem dX1_part_20 : decode cX1_part 20 = .ok (.invokevirtual 115, 3) := dk_182 0 115 (dk_at dksX1_part_0 20 rfl rfl)
theorem dX1_part_23 : decode cX1_part 23 = .ok (.bipush 38, 2) := dk_16 38 (dk_at dksX1_part_1 0 rfl rfl)
theorem dX1_part_25 : decode cX1_part 25 = .ok (.if_icmp .ne 38, 3) := dk_160 0 38 (dk_at dksX1_part_1 2 rfl rfl)
theorem dX1_part_28 : decode cX1_part 28 = .ok (.aload_n 0, 1) := dk_42 (dk_at dksX1_part_1 5 rfl rfl)
theorem dX1_part_29 : decode cX1_part 29 = .ok (.dup, 1) := dk_89 (dk_at dksX1_part_1 6 rfl rfl)
theorem dX1_part_30 : decode cX1_part 30 = .ok (.getfield 105, 3) := dk_180 0 105 (dk_at dksX1_part_1 7 rfl rfl)
theorem dX1_part_33 : decode cX1_part 33 = .ok (.iconst 1, 1) := dk_4 (dk_at dksX1_part_1 10 rfl rfl)
theorem dX1_part_34 : decode cX1_part 34 = .ok (.iadd, 1) := dk_96 (dk_at dksX1_part_1 11 rfl rfl)
theorem dX1_part_35 : decode cX1_part 35 = .ok (.putfield 105, 3) := dk_181 0 105 (dk_at dksX1_part_1 12 rfl rfl)
theorem dX1_part_38 : decode cX1_part 38 = .ok (.aload_n 3, 1) := dk_45 (dk_at dksX1_part_1 15 rfl rfl)
theorem dX1_part_39 : decode cX1_part 39 = .ok (.ifnonnull 13, 3) := dk_199 0 13 (dk_at dksX1_part_1 16 rfl rfl)
theorem dX1_part_42 : decode cX1_part 42 = .ok (.new 188, 3) := dk_187 0 188 (dk_at dksX1_part_1 19 rfl rfl)
theorem dX1_part_45 : decode cX1_part 45 = .ok (.dup, 1) := dk_89 (dk_at dksX1_part_1 22 rfl rfl)
theorem dX1_part_46 : decode cX1_part 46 = .ok (.iconst 1, 1) := dk_4 (dk_at dksX1_part_1 23 rfl rfl)
theorem dX1_part_47 : decode cX1_part 47 = .ok (.aload_n 2, 1) := dk_44 (dk_at dksX1_part_2 0 rfl rfl)
theorem dX1_part_48 : decode cX1_part 48 = .ok (.invokespecial 190, 3) := dk_183 0 190 (dk_at dksX1_part_2 1 rfl rfl)
theorem dX1_part_51 : decode cX1_part 51 = .ok (.astore_n 3, 1) := dk_78 (dk_at dksX1_part_2 4 rfl rfl)
theorem dX1_part_52 : decode cX1_part 52 = .ok (.aload_n 3, 1) := dk_45 (dk_at dksX1_part_2 5 rfl rfl)
theorem dX1_part_53 : decode cX1_part 53 = .ok (.aload_n 0, 1) := dk_42 (dk_at dksX1_part_2 6 rfl rfl)
theorem dX1_part_54 : decode cX1_part 54 = .ok (.invokevirtual 172, 3) := dk_182 0 172 (dk_at dksX1_part_2 7 rfl rfl)
theorem dX1_part_57 : decode cX1_part 57 = .ok (.invokevirtual 193, 3) := dk_182 0 193 (dk_at dksX1_part_2 10 rfl rfl)
theorem dX1_part_60 : decode cX1_part 60 = .ok (.goto (-41), 3) := dk_167 255 215 (dk_at dksX1_part_2 13 rfl rfl)
theorem dX1_part_63 : decode cX1_part 63 = .ok (.aload_n 3, 1) := dk_45 (dk_at dksX1_part_2 16 rfl rfl)
theorem dX1_part_64 : decode cX1_part 64 = .ok (.ifnonnull 7, 3) := dk_199 0 7 (dk_at dksX1_part_2 17 rfl rfl)
theorem dX1_part_67 : decode cX1_part 67 = .ok (.aload_n 2, 1) := dk_44 (dk_at dksX1_part_2 20 rfl rfl)
theorem dX1_part_68 : decode cX1_part 68 = .ok (.goto 4, 3) := dk_167 0 4 (dk_at dksX1_part_2 21 rfl rfl)
theorem dX1_part_71 : decode cX1_part 71 = .ok (.aload_n 3, 1) := dk_45 (dk_at dksX1_part_3 0 rfl rfl)
theorem dX1_part_72 : decode cX1_part 72 = .ok (.areturn, 1) := dk_176 (dk_at dksX1_part_3 1 rfl rfl)
abbrev cX1_unit : ByteArray := prog_1_method_17_code
def yX1_unit : MethodName := ⟨RX1, "unit", "()LFrostBox$Test;"⟩
def dkwX1_unit_3 : List UInt8 := [182, 0, 185, 176]
abbrev dktX1_unit_3 : List UInt8 := dkwX1_unit_3 ++ []
def dkwX1_unit_2 : List UInt8 := [182, 0, 119, 42, 1, 182, 0, 181, 77, 42, 16, 41, 182, 0, 126, 44, 176, 42, 42, 182, 0, 122]
abbrev dktX1_unit_2 : List UInt8 := dkwX1_unit_2 ++ dktX1_unit_3
def dkwX1_unit_1 : List UInt8 := [180, 0, 108, 4, 100, 181, 0, 108, 187, 0, 176, 89, 44, 183, 0, 178, 176, 27, 16, 40, 160, 0, 21, 42]
abbrev dktX1_unit_1 : List UInt8 := dkwX1_unit_1 ++ dktX1_unit_2
def dkwX1_unit_0 : List UInt8 := [42, 182, 0, 115, 60, 27, 16, 33, 160, 0, 31, 42, 182, 0, 119, 42, 182, 0, 172, 77, 42, 89]
abbrev dktX1_unit_0 : List UInt8 := dkwX1_unit_0 ++ dktX1_unit_1
theorem dksX1_unit_0 : cX1_unit.data.toList.drop 0 = dktX1_unit_0 := by decide +kernel
theorem dksX1_unit_1 : cX1_unit.data.toList.drop 22 = dktX1_unit_1 := dk_seg dksX1_unit_0 22 rfl rfl
theorem dksX1_unit_2 : cX1_unit.data.toList.drop 46 = dktX1_unit_2 := dk_seg dksX1_unit_1 24 rfl rfl
theorem dksX1_unit_3 : cX1_unit.data.toList.drop 68 = dktX1_unit_3 := dk_seg dksX1_unit_2 22 rfl rfl
theorem dX1_unit_0 : decode cX1_unit 0 = .ok (.aload_n 0, 1) := dk_42 (dk_at dksX1_unit_0 0 rfl rfl)
theorem dX1_unit_1 : decode cX1_unit 1 = .ok (.invokevirtual 115, 3) := dk_182 0 115 (dk_at dksX1_unit_0 1 rfl rfl)
theorem dX1_unit_4 : decode cX1_unit 4 = .ok (.istore_n 1, 1) := dk_60 (dk_at dksX1_unit_0 4 rfl rfl)
theorem dX1_unit_5 : decode cX1_unit 5 = .ok (.iload_n 1, 1) := dk_27 (dk_at dksX1_unit_0 5 rfl rfl)
theorem dX1_unit_6 : decode cX1_unit 6 = .ok (.bipush 33, 2) := dk_16 33 (dk_at dksX1_unit_0 6 rfl rfl)
theorem dX1_unit_8 : decode cX1_unit 8 = .ok (.if_icmp .ne 31, 3) := dk_160 0 31 (dk_at dksX1_unit_0 8 rfl rfl)
theorem dX1_unit_11 : decode cX1_unit 11 = .ok (.aload_n 0, 1) := dk_42 (dk_at dksX1_unit_0 11 rfl rfl)
theorem dX1_unit_12 : decode cX1_unit 12 = .ok (.invokevirtual 119, 3) := dk_182 0 119 (dk_at dksX1_unit_0 12 rfl rfl)
theorem dX1_unit_15 : decode cX1_unit 15 = .ok (.aload_n 0, 1) := dk_42 (dk_at dksX1_unit_0 15 rfl rfl)
theorem dX1_unit_16 : decode cX1_unit 16 = .ok (.invokevirtual 172, 3) := dk_182 0 172 (dk_at dksX1_unit_0 16 rfl rfl)
theorem dX1_unit_19 : decode cX1_unit 19 = .ok (.astore_n 2, 1) := dk_77 (dk_at dksX1_unit_0 19 rfl rfl)
theorem dX1_unit_20 : decode cX1_unit 20 = .ok (.aload_n 0, 1) := dk_42 (dk_at dksX1_unit_0 20 rfl rfl)
theorem dX1_unit_21 : decode cX1_unit 21 = .ok (.dup, 1) := dk_89 (dk_at dksX1_unit_0 21 rfl rfl)
theorem dX1_unit_22 : decode cX1_unit 22 = .ok (.getfield 108, 3) := dk_180 0 108 (dk_at dksX1_unit_1 0 rfl rfl)
theorem dX1_unit_25 : decode cX1_unit 25 = .ok (.iconst 1, 1) := dk_4 (dk_at dksX1_unit_1 3 rfl rfl)
theorem dX1_unit_26 : decode cX1_unit 26 = .ok (.isub, 1) := dk_100 (dk_at dksX1_unit_1 4 rfl rfl)
theorem dX1_unit_27 : decode cX1_unit 27 = .ok (.putfield 108, 3) := dk_181 0 108 (dk_at dksX1_unit_1 5 rfl rfl)
theorem dX1_unit_30 : decode cX1_unit 30 = .ok (.new 176, 3) := dk_187 0 176 (dk_at dksX1_unit_1 8 rfl rfl)
theorem dX1_unit_33 : decode cX1_unit 33 = .ok (.dup, 1) := dk_89 (dk_at dksX1_unit_1 11 rfl rfl)
theorem dX1_unit_34 : decode cX1_unit 34 = .ok (.aload_n 2, 1) := dk_44 (dk_at dksX1_unit_1 12 rfl rfl)
theorem dX1_unit_35 : decode cX1_unit 35 = .ok (.invokespecial 178, 3) := dk_183 0 178 (dk_at dksX1_unit_1 13 rfl rfl)
theorem dX1_unit_38 : decode cX1_unit 38 = .ok (.areturn, 1) := dk_176 (dk_at dksX1_unit_1 16 rfl rfl)
theorem dX1_unit_39 : decode cX1_unit 39 = .ok (.iload_n 1, 1) := dk_27 (dk_at dksX1_unit_1 17 rfl rfl)
theorem dX1_unit_40 : decode cX1_unit 40 = .ok (.bipush 40, 2) := dk_16 40 (dk_at dksX1_unit_1 18 rfl rfl)
theorem dX1_unit_42 : decode cX1_unit 42 = .ok (.if_icmp .ne 21, 3) := dk_160 0 21 (dk_at dksX1_unit_1 20 rfl rfl)
theorem dX1_unit_45 : decode cX1_unit 45 = .ok (.aload_n 0, 1) := dk_42 (dk_at dksX1_unit_1 23 rfl rfl)
theorem dX1_unit_46 : decode cX1_unit 46 = .ok (.invokevirtual 119, 3) := dk_182 0 119 (dk_at dksX1_unit_2 0 rfl rfl)
theorem dX1_unit_49 : decode cX1_unit 49 = .ok (.aload_n 0, 1) := dk_42 (dk_at dksX1_unit_2 3 rfl rfl)
theorem dX1_unit_50 : decode cX1_unit 50 = .ok (.aconst_null, 1) := dk_1 (dk_at dksX1_unit_2 4 rfl rfl)
theorem dX1_unit_51 : decode cX1_unit 51 = .ok (.invokevirtual 181, 3) := dk_182 0 181 (dk_at dksX1_unit_2 5 rfl rfl)
theorem dX1_unit_54 : decode cX1_unit 54 = .ok (.astore_n 2, 1) := dk_77 (dk_at dksX1_unit_2 8 rfl rfl)
theorem dX1_unit_55 : decode cX1_unit 55 = .ok (.aload_n 0, 1) := dk_42 (dk_at dksX1_unit_2 9 rfl rfl)
theorem dX1_unit_56 : decode cX1_unit 56 = .ok (.bipush 41, 2) := dk_16 41 (dk_at dksX1_unit_2 10 rfl rfl)
theorem dX1_unit_58 : decode cX1_unit 58 = .ok (.invokevirtual 126, 3) := dk_182 0 126 (dk_at dksX1_unit_2 12 rfl rfl)
theorem dX1_unit_61 : decode cX1_unit 61 = .ok (.aload_n 2, 1) := dk_44 (dk_at dksX1_unit_2 15 rfl rfl)
theorem dX1_unit_62 : decode cX1_unit 62 = .ok (.areturn, 1) := dk_176 (dk_at dksX1_unit_2 16 rfl rfl)
theorem dX1_unit_63 : decode cX1_unit 63 = .ok (.aload_n 0, 1) := dk_42 (dk_at dksX1_unit_2 17 rfl rfl)
theorem dX1_unit_64 : decode cX1_unit 64 = .ok (.aload_n 0, 1) := dk_42 (dk_at dksX1_unit_2 18 rfl rfl)
theorem dX1_unit_65 : decode cX1_unit 65 = .ok (.invokevirtual 122, 3) := dk_182 0 122 (dk_at dksX1_unit_2 19 rfl rfl)
theorem dX1_unit_68 : decode cX1_unit 68 = .ok (.invokevirtual 185, 3) := dk_182 0 185 (dk_at dksX1_unit_3 0 rfl rfl)
theorem dX1_unit_71 : decode cX1_unit 71 = .ok (.areturn, 1) := dk_176 (dk_at dksX1_unit_3 3 rfl rfl)
abbrev cX1_compare : ByteArray := prog_1_method_16_code
def yX1_compare : MethodName := ⟨RX1, "compare", "(LFrostBox$Sum;)LFrostBox$Test;"⟩
def dkwX1_compare_1 : List UInt8 := [187, 0, 167, 89, 28, 43, 42, 182, 0, 122, 183, 0, 169, 176]
abbrev dktX1_compare_1 : List UInt8 := dkwX1_compare_1 ++ []
def dkwX1_compare_0 : List UInt8 := [42, 182, 0, 115, 61, 42, 28, 184, 0, 164, 182, 0, 111, 42, 89, 180, 0, 105, 4, 96, 181, 0, 105]
abbrev dktX1_compare_0 : List UInt8 := dkwX1_compare_0 ++ dktX1_compare_1
theorem dksX1_compare_0 : cX1_compare.data.toList.drop 0 = dktX1_compare_0 := by decide +kernel
theorem dksX1_compare_1 : cX1_compare.data.toList.drop 23 = dktX1_compare_1 := dk_seg dksX1_compare_0 23 rfl rfl
theorem dX1_compare_0 : decode cX1_compare 0 = .ok (.aload_n 0, 1) := dk_42 (dk_at dksX1_compare_0 0 rfl rfl)
theorem dX1_compare_1 : decode cX1_compare 1 = .ok (.invokevirtual 115, 3) := dk_182 0 115 (dk_at dksX1_compare_0 1 rfl rfl)
theorem dX1_compare_4 : decode cX1_compare 4 = .ok (.istore_n 2, 1) := dk_61 (dk_at dksX1_compare_0 4 rfl rfl)
theorem dX1_compare_5 : decode cX1_compare 5 = .ok (.aload_n 0, 1) := dk_42 (dk_at dksX1_compare_0 5 rfl rfl)
theorem dX1_compare_6 : decode cX1_compare 6 = .ok (.iload_n 2, 1) := dk_28 (dk_at dksX1_compare_0 6 rfl rfl)
theorem dX1_compare_7 : decode cX1_compare 7 = .ok (.invokestatic 164, 3) := dk_184 0 164 (dk_at dksX1_compare_0 7 rfl rfl)
theorem dX1_compare_10 : decode cX1_compare 10 = .ok (.invokevirtual 111, 3) := dk_182 0 111 (dk_at dksX1_compare_0 10 rfl rfl)
theorem dX1_compare_13 : decode cX1_compare 13 = .ok (.aload_n 0, 1) := dk_42 (dk_at dksX1_compare_0 13 rfl rfl)
theorem dX1_compare_14 : decode cX1_compare 14 = .ok (.dup, 1) := dk_89 (dk_at dksX1_compare_0 14 rfl rfl)
theorem dX1_compare_15 : decode cX1_compare 15 = .ok (.getfield 105, 3) := dk_180 0 105 (dk_at dksX1_compare_0 15 rfl rfl)
theorem dX1_compare_18 : decode cX1_compare 18 = .ok (.iconst 1, 1) := dk_4 (dk_at dksX1_compare_0 18 rfl rfl)
theorem dX1_compare_19 : decode cX1_compare 19 = .ok (.iadd, 1) := dk_96 (dk_at dksX1_compare_0 19 rfl rfl)
theorem dX1_compare_20 : decode cX1_compare 20 = .ok (.putfield 105, 3) := dk_181 0 105 (dk_at dksX1_compare_0 20 rfl rfl)
theorem dX1_compare_23 : decode cX1_compare 23 = .ok (.new 167, 3) := dk_187 0 167 (dk_at dksX1_compare_1 0 rfl rfl)
theorem dX1_compare_26 : decode cX1_compare 26 = .ok (.dup, 1) := dk_89 (dk_at dksX1_compare_1 3 rfl rfl)
theorem dX1_compare_27 : decode cX1_compare 27 = .ok (.iload_n 2, 1) := dk_28 (dk_at dksX1_compare_1 4 rfl rfl)
theorem dX1_compare_28 : decode cX1_compare 28 = .ok (.aload_n 1, 1) := dk_43 (dk_at dksX1_compare_1 5 rfl rfl)
theorem dX1_compare_29 : decode cX1_compare 29 = .ok (.aload_n 0, 1) := dk_42 (dk_at dksX1_compare_1 6 rfl rfl)
theorem dX1_compare_30 : decode cX1_compare 30 = .ok (.invokevirtual 122, 3) := dk_182 0 122 (dk_at dksX1_compare_1 7 rfl rfl)
theorem dX1_compare_33 : decode cX1_compare 33 = .ok (.invokespecial 169, 3) := dk_183 0 169 (dk_at dksX1_compare_1 10 rfl rfl)
theorem dX1_compare_36 : decode cX1_compare 36 = .ok (.areturn, 1) := dk_176 (dk_at dksX1_compare_1 13 rfl rfl)
abbrev cX1_readAs : ByteArray := prog_1_method_37_code
def yX1_readAs : MethodName := ⟨RX1, "readAs", "(I)V"⟩
def dkwX1_readAs_0 : List UInt8 := [27, 154, 0, 10, 42, 182, 1, 42, 167, 0, 8, 42, 7, 182, 1, 45, 177]
abbrev dktX1_readAs_0 : List UInt8 := dkwX1_readAs_0 ++ []
theorem dksX1_readAs_0 : cX1_readAs.data.toList.drop 0 = dktX1_readAs_0 := by decide +kernel
theorem dX1_readAs_0 : decode cX1_readAs 0 = .ok (.iload_n 1, 1) := dk_27 (dk_at dksX1_readAs_0 0 rfl rfl)
theorem dX1_readAs_1 : decode cX1_readAs 1 = .ok (.ifCond .ne 10, 3) := dk_154 0 10 (dk_at dksX1_readAs_0 1 rfl rfl)
theorem dX1_readAs_4 : decode cX1_readAs 4 = .ok (.aload_n 0, 1) := dk_42 (dk_at dksX1_readAs_0 4 rfl rfl)
theorem dX1_readAs_5 : decode cX1_readAs 5 = .ok (.invokevirtual 298, 3) := dk_182 1 42 (dk_at dksX1_readAs_0 5 rfl rfl)
theorem dX1_readAs_8 : decode cX1_readAs 8 = .ok (.goto 8, 3) := dk_167 0 8 (dk_at dksX1_readAs_0 8 rfl rfl)
theorem dX1_readAs_11 : decode cX1_readAs 11 = .ok (.aload_n 0, 1) := dk_42 (dk_at dksX1_readAs_0 11 rfl rfl)
theorem dX1_readAs_12 : decode cX1_readAs 12 = .ok (.iconst 4, 1) := dk_7 (dk_at dksX1_readAs_0 12 rfl rfl)
theorem dX1_readAs_13 : decode cX1_readAs 13 = .ok (.invokevirtual 301, 3) := dk_182 1 45 (dk_at dksX1_readAs_0 13 rfl rfl)
theorem dX1_readAs_16 : decode cX1_readAs 16 = .ok (.return_, 1) := dk_177 (dk_at dksX1_readAs_0 16 rfl rfl)
abbrev cX1_wholeHouse : ByteArray := prog_1_method_33_code
def yX1_wholeHouse : MethodName := ⟨RX1, "wholeHouse", "()V"⟩
def dkwX1_wholeHouse_10 : List UInt8 := [182, 1, 30, 153, 0, 7, 4, 167, 0, 4, 3, 182, 0, 111, 177]
abbrev dktX1_wholeHouse_10 : List UInt8 := dkwX1_wholeHouse_10 ++ []
def dkwX1_wholeHouse_9 : List UInt8 := [42, 89, 180, 0, 105, 4, 96, 181, 0, 105, 167, 255, 76, 42, 42, 182, 0, 115, 2, 160, 0, 14, 42]
abbrev dktX1_wholeHouse_9 : List UInt8 := dkwX1_wholeHouse_9 ++ dktX1_wholeHouse_10
def dkwX1_wholeHouse_8 : List UInt8 := [4, 96, 181, 1, 23, 42, 182, 0, 115, 16, 59, 160, 0, 7, 4, 167, 0, 4, 3, 61, 28, 153, 0, 13]
abbrev dktX1_wholeHouse_8 : List UInt8 := dkwX1_wholeHouse_8 ++ dktX1_wholeHouse_9
def dkwX1_wholeHouse_7 : List UInt8 := [167, 0, 29, 42, 29, 42, 180, 0, 30, 7, 42, 180, 1, 23, 104, 7, 182, 1, 26, 42, 89, 180, 1, 23]
abbrev dktX1_wholeHouse_7 : List UInt8 := dkwX1_wholeHouse_7 ++ dktX1_wholeHouse_8
def dkwX1_wholeHouse_6 : List UInt8 := [180, 0, 27, 8, 42, 180, 1, 20, 104, 8, 182, 1, 26, 42, 89, 180, 1, 20, 4, 96, 181, 1, 20]
abbrev dktX1_wholeHouse_6 : List UInt8 := dkwX1_wholeHouse_6 ++ dktX1_wholeHouse_7
def dkwX1_wholeHouse_5 : List UInt8 := [60, 42, 29, 42, 180, 0, 24, 3, 7, 182, 1, 26, 167, 0, 64, 29, 16, 107, 160, 0, 32, 42, 29, 42]
abbrev dktX1_wholeHouse_5 : List UInt8 := dkwX1_wholeHouse_5 ++ dktX1_wholeHouse_6
def dkwX1_wholeHouse_4 : List UInt8 := [167, 0, 4, 3, 182, 0, 111, 42, 89, 180, 0, 105, 4, 96, 181, 0, 105, 29, 16, 115, 160, 0, 19, 4]
abbrev dktX1_wholeHouse_4 : List UInt8 := dkwX1_wholeHouse_4 ++ dktX1_wholeHouse_5
def dkwX1_wholeHouse_3 : List UInt8 := [180, 1, 20, 16, 6, 161, 0, 18, 29, 16, 98, 160, 0, 16, 42, 180, 1, 23, 16, 8, 162, 0, 7, 4]
abbrev dktX1_wholeHouse_3 : List UInt8 := dkwX1_wholeHouse_3 ++ dktX1_wholeHouse_4
def dkwX1_wholeHouse_2 : List UInt8 := [42, 182, 0, 115, 62, 42, 29, 16, 115, 160, 0, 7, 27, 153, 0, 33, 29, 16, 107, 160, 0, 12, 42]
abbrev dktX1_wholeHouse_2 : List UInt8 := dkwX1_wholeHouse_2 ++ dktX1_wholeHouse_3
def dkwX1_wholeHouse_1 : List UInt8 := [42, 180, 0, 24, 28, 16, 115, 28, 184, 1, 0, 79, 132, 2, 1, 167, 255, 236, 4, 61, 28, 153, 0, 182]
abbrev dktX1_wholeHouse_1 : List UInt8 := dkwX1_wholeHouse_1 ++ dktX1_wholeHouse_2
def dkwX1_wholeHouse_0 : List UInt8 := [42, 3, 181, 0, 105, 42, 3, 181, 1, 20, 42, 3, 181, 1, 23, 3, 60, 3, 61, 28, 7, 162, 0, 21]
abbrev dktX1_wholeHouse_0 : List UInt8 := dkwX1_wholeHouse_0 ++ dktX1_wholeHouse_1
theorem dksX1_wholeHouse_0 : cX1_wholeHouse.data.toList.drop 0 = dktX1_wholeHouse_0 := by decide +kernel
theorem dksX1_wholeHouse_1 : cX1_wholeHouse.data.toList.drop 24 = dktX1_wholeHouse_1 := dk_seg dksX1_wholeHouse_0 24 rfl rfl
theorem dksX1_wholeHouse_2 : cX1_wholeHouse.data.toList.drop 48 = dktX1_wholeHouse_2 := dk_seg dksX1_wholeHouse_1 24 rfl rfl
theorem dksX1_wholeHouse_3 : cX1_wholeHouse.data.toList.drop 71 = dktX1_wholeHouse_3 := dk_seg dksX1_wholeHouse_2 23 rfl rfl
theorem dksX1_wholeHouse_4 : cX1_wholeHouse.data.toList.drop 95 = dktX1_wholeHouse_4 := dk_seg dksX1_wholeHouse_3 24 rfl rfl
theorem dksX1_wholeHouse_5 : cX1_wholeHouse.data.toList.drop 119 = dktX1_wholeHouse_5 := dk_seg dksX1_wholeHouse_4 24 rfl rfl
theorem dksX1_wholeHouse_6 : cX1_wholeHouse.data.toList.drop 143 = dktX1_wholeHouse_6 := dk_seg dksX1_wholeHouse_5 24 rfl rfl
theorem dksX1_wholeHouse_7 : cX1_wholeHouse.data.toList.drop 166 = dktX1_wholeHouse_7 := dk_seg dksX1_wholeHouse_6 23 rfl rfl
theorem dksX1_wholeHouse_8 : cX1_wholeHouse.data.toList.drop 190 = dktX1_wholeHouse_8 := dk_seg dksX1_wholeHouse_7 24 rfl rfl
theorem dksX1_wholeHouse_9 : cX1_wholeHouse.data.toList.drop 214 = dktX1_wholeHouse_9 := dk_seg dksX1_wholeHouse_8 24 rfl rfl
theorem dksX1_wholeHouse_10 : cX1_wholeHouse.data.toList.drop 237 = dktX1_wholeHouse_10 := dk_seg dksX1_wholeHouse_9 23 rfl rfl
theorem dX1_wholeHouse_0 : decode cX1_wholeHouse 0 = .ok (.aload_n 0, 1) := dk_42 (dk_at dksX1_wholeHouse_0 0 rfl rfl)
theorem dX1_wholeHouse_1 : decode cX1_wholeHouse 1 = .ok (.iconst 0, 1) := dk_3 (dk_at dksX1_wholeHouse_0 1 rfl rfl)
theorem dX1_wholeHouse_2 : decode cX1_wholeHouse 2 = .ok (.putfield 105, 3) := dk_181 0 105 (dk_at dksX1_wholeHouse_0 2 rfl rfl)
theorem dX1_wholeHouse_5 : decode cX1_wholeHouse 5 = .ok (.aload_n 0, 1) := dk_42 (dk_at dksX1_wholeHouse_0 5 rfl rfl)
theorem dX1_wholeHouse_6 : decode cX1_wholeHouse 6 = .ok (.iconst 0, 1) := dk_3 (dk_at dksX1_wholeHouse_0 6 rfl rfl)
theorem dX1_wholeHouse_7 : decode cX1_wholeHouse 7 = .ok (.putfield 276, 3) := dk_181 1 20 (dk_at dksX1_wholeHouse_0 7 rfl rfl)
theorem dX1_wholeHouse_10 : decode cX1_wholeHouse 10 = .ok (.aload_n 0, 1) := dk_42 (dk_at dksX1_wholeHouse_0 10 rfl rfl)
theorem dX1_wholeHouse_11 : decode cX1_wholeHouse 11 = .ok (.iconst 0, 1) := dk_3 (dk_at dksX1_wholeHouse_0 11 rfl rfl)
theorem dX1_wholeHouse_12 : decode cX1_wholeHouse 12 = .ok (.putfield 279, 3) := dk_181 1 23 (dk_at dksX1_wholeHouse_0 12 rfl rfl)
theorem dX1_wholeHouse_15 : decode cX1_wholeHouse 15 = .ok (.iconst 0, 1) := dk_3 (dk_at dksX1_wholeHouse_0 15 rfl rfl)
theorem dX1_wholeHouse_16 : decode cX1_wholeHouse 16 = .ok (.istore_n 1, 1) := dk_60 (dk_at dksX1_wholeHouse_0 16 rfl rfl)
theorem dX1_wholeHouse_17 : decode cX1_wholeHouse 17 = .ok (.iconst 0, 1) := dk_3 (dk_at dksX1_wholeHouse_0 17 rfl rfl)
theorem dX1_wholeHouse_18 : decode cX1_wholeHouse 18 = .ok (.istore_n 2, 1) := dk_61 (dk_at dksX1_wholeHouse_0 18 rfl rfl)
theorem dX1_wholeHouse_19 : decode cX1_wholeHouse 19 = .ok (.iload_n 2, 1) := dk_28 (dk_at dksX1_wholeHouse_0 19 rfl rfl)
theorem dX1_wholeHouse_20 : decode cX1_wholeHouse 20 = .ok (.iconst 4, 1) := dk_7 (dk_at dksX1_wholeHouse_0 20 rfl rfl)
theorem dX1_wholeHouse_21 : decode cX1_wholeHouse 21 = .ok (.if_icmp .ge 21, 3) := dk_162 0 21 (dk_at dksX1_wholeHouse_0 21 rfl rfl)
theorem dX1_wholeHouse_24 : decode cX1_wholeHouse 24 = .ok (.aload_n 0, 1) := dk_42 (dk_at dksX1_wholeHouse_1 0 rfl rfl)
theorem dX1_wholeHouse_25 : decode cX1_wholeHouse 25 = .ok (.getfield 24, 3) := dk_180 0 24 (dk_at dksX1_wholeHouse_1 1 rfl rfl)
theorem dX1_wholeHouse_28 : decode cX1_wholeHouse 28 = .ok (.iload_n 2, 1) := dk_28 (dk_at dksX1_wholeHouse_1 4 rfl rfl)
theorem dX1_wholeHouse_29 : decode cX1_wholeHouse 29 = .ok (.bipush 115, 2) := dk_16 115 (dk_at dksX1_wholeHouse_1 5 rfl rfl)
theorem dX1_wholeHouse_31 : decode cX1_wholeHouse 31 = .ok (.iload_n 2, 1) := dk_28 (dk_at dksX1_wholeHouse_1 7 rfl rfl)
theorem dX1_wholeHouse_32 : decode cX1_wholeHouse 32 = .ok (.invokestatic 256, 3) := dk_184 1 0 (dk_at dksX1_wholeHouse_1 8 rfl rfl)
theorem dX1_wholeHouse_35 : decode cX1_wholeHouse 35 = .ok (.iastore, 1) := dk_79 (dk_at dksX1_wholeHouse_1 11 rfl rfl)
theorem dX1_wholeHouse_36 : decode cX1_wholeHouse 36 = .ok (.iinc 2 1, 3) := dk_132 2 1 (dk_at dksX1_wholeHouse_1 12 rfl rfl)
theorem dX1_wholeHouse_39 : decode cX1_wholeHouse 39 = .ok (.goto (-20), 3) := dk_167 255 236 (dk_at dksX1_wholeHouse_1 15 rfl rfl)
theorem dX1_wholeHouse_42 : decode cX1_wholeHouse 42 = .ok (.iconst 1, 1) := dk_4 (dk_at dksX1_wholeHouse_1 18 rfl rfl)
theorem dX1_wholeHouse_43 : decode cX1_wholeHouse 43 = .ok (.istore_n 2, 1) := dk_61 (dk_at dksX1_wholeHouse_1 19 rfl rfl)
theorem dX1_wholeHouse_44 : decode cX1_wholeHouse 44 = .ok (.iload_n 2, 1) := dk_28 (dk_at dksX1_wholeHouse_1 20 rfl rfl)
theorem dX1_wholeHouse_45 : decode cX1_wholeHouse 45 = .ok (.ifCond .eq 182, 3) := dk_153 0 182 (dk_at dksX1_wholeHouse_1 21 rfl rfl)
theorem dX1_wholeHouse_48 : decode cX1_wholeHouse 48 = .ok (.aload_n 0, 1) := dk_42 (dk_at dksX1_wholeHouse_2 0 rfl rfl)
theorem dX1_wholeHouse_49 : decode cX1_wholeHouse 49 = .ok (.invokevirtual 115, 3) := dk_182 0 115 (dk_at dksX1_wholeHouse_2 1 rfl rfl)
theorem dX1_wholeHouse_52 : decode cX1_wholeHouse 52 = .ok (.istore_n 3, 1) := dk_62 (dk_at dksX1_wholeHouse_2 4 rfl rfl)
theorem dX1_wholeHouse_53 : decode cX1_wholeHouse 53 = .ok (.aload_n 0, 1) := dk_42 (dk_at dksX1_wholeHouse_2 5 rfl rfl)
theorem dX1_wholeHouse_54 : decode cX1_wholeHouse 54 = .ok (.iload_n 3, 1) := dk_29 (dk_at dksX1_wholeHouse_2 6 rfl rfl)
theorem dX1_wholeHouse_55 : decode cX1_wholeHouse 55 = .ok (.bipush 115, 2) := dk_16 115 (dk_at dksX1_wholeHouse_2 7 rfl rfl)
theorem dX1_wholeHouse_57 : decode cX1_wholeHouse 57 = .ok (.if_icmp .ne 7, 3) := dk_160 0 7 (dk_at dksX1_wholeHouse_2 9 rfl rfl)
theorem dX1_wholeHouse_60 : decode cX1_wholeHouse 60 = .ok (.iload_n 1, 1) := dk_27 (dk_at dksX1_wholeHouse_2 12 rfl rfl)
theorem dX1_wholeHouse_61 : decode cX1_wholeHouse 61 = .ok (.ifCond .eq 33, 3) := dk_153 0 33 (dk_at dksX1_wholeHouse_2 13 rfl rfl)
theorem dX1_wholeHouse_64 : decode cX1_wholeHouse 64 = .ok (.iload_n 3, 1) := dk_29 (dk_at dksX1_wholeHouse_2 16 rfl rfl)
theorem dX1_wholeHouse_65 : decode cX1_wholeHouse 65 = .ok (.bipush 107, 2) := dk_16 107 (dk_at dksX1_wholeHouse_2 17 rfl rfl)
theorem dX1_wholeHouse_67 : decode cX1_wholeHouse 67 = .ok (.if_icmp .ne 12, 3) := dk_160 0 12 (dk_at dksX1_wholeHouse_2 19 rfl rfl)
theorem dX1_wholeHouse_70 : decode cX1_wholeHouse 70 = .ok (.aload_n 0, 1) := dk_42 (dk_at dksX1_wholeHouse_2 22 rfl rfl)
theorem dX1_wholeHouse_71 : decode cX1_wholeHouse 71 = .ok (.getfield 276, 3) := dk_180 1 20 (dk_at dksX1_wholeHouse_3 0 rfl rfl)
theorem dX1_wholeHouse_74 : decode cX1_wholeHouse 74 = .ok (.bipush 6, 2) := dk_16 6 (dk_at dksX1_wholeHouse_3 3 rfl rfl)
theorem dX1_wholeHouse_76 : decode cX1_wholeHouse 76 = .ok (.if_icmp .lt 18, 3) := dk_161 0 18 (dk_at dksX1_wholeHouse_3 5 rfl rfl)
theorem dX1_wholeHouse_79 : decode cX1_wholeHouse 79 = .ok (.iload_n 3, 1) := dk_29 (dk_at dksX1_wholeHouse_3 8 rfl rfl)
theorem dX1_wholeHouse_80 : decode cX1_wholeHouse 80 = .ok (.bipush 98, 2) := dk_16 98 (dk_at dksX1_wholeHouse_3 9 rfl rfl)
theorem dX1_wholeHouse_82 : decode cX1_wholeHouse 82 = .ok (.if_icmp .ne 16, 3) := dk_160 0 16 (dk_at dksX1_wholeHouse_3 11 rfl rfl)
theorem dX1_wholeHouse_85 : decode cX1_wholeHouse 85 = .ok (.aload_n 0, 1) := dk_42 (dk_at dksX1_wholeHouse_3 14 rfl rfl)
theorem dX1_wholeHouse_86 : decode cX1_wholeHouse 86 = .ok (.getfield 279, 3) := dk_180 1 23 (dk_at dksX1_wholeHouse_3 15 rfl rfl)
theorem dX1_wholeHouse_89 : decode cX1_wholeHouse 89 = .ok (.bipush 8, 2) := dk_16 8 (dk_at dksX1_wholeHouse_3 18 rfl rfl)
theorem dX1_wholeHouse_91 : decode cX1_wholeHouse 91 = .ok (.if_icmp .ge 7, 3) := dk_162 0 7 (dk_at dksX1_wholeHouse_3 20 rfl rfl)
theorem dX1_wholeHouse_94 : decode cX1_wholeHouse 94 = .ok (.iconst 1, 1) := dk_4 (dk_at dksX1_wholeHouse_3 23 rfl rfl)
theorem dX1_wholeHouse_95 : decode cX1_wholeHouse 95 = .ok (.goto 4, 3) := dk_167 0 4 (dk_at dksX1_wholeHouse_4 0 rfl rfl)
theorem dX1_wholeHouse_98 : decode cX1_wholeHouse 98 = .ok (.iconst 0, 1) := dk_3 (dk_at dksX1_wholeHouse_4 3 rfl rfl)
theorem dX1_wholeHouse_99 : decode cX1_wholeHouse 99 = .ok (.invokevirtual 111, 3) := dk_182 0 111 (dk_at dksX1_wholeHouse_4 4 rfl rfl)
theorem dX1_wholeHouse_102 : decode cX1_wholeHouse 102 = .ok (.aload_n 0, 1) := dk_42 (dk_at dksX1_wholeHouse_4 7 rfl rfl)
theorem dX1_wholeHouse_103 : decode cX1_wholeHouse 103 = .ok (.dup, 1) := dk_89 (dk_at dksX1_wholeHouse_4 8 rfl rfl)
theorem dX1_wholeHouse_104 : decode cX1_wholeHouse 104 = .ok (.getfield 105, 3) := dk_180 0 105 (dk_at dksX1_wholeHouse_4 9 rfl rfl)
theorem dX1_wholeHouse_107 : decode cX1_wholeHouse 107 = .ok (.iconst 1, 1) := dk_4 (dk_at dksX1_wholeHouse_4 12 rfl rfl)
theorem dX1_wholeHouse_108 : decode cX1_wholeHouse 108 = .ok (.iadd, 1) := dk_96 (dk_at dksX1_wholeHouse_4 13 rfl rfl)
theorem dX1_wholeHouse_109 : decode cX1_wholeHouse 109 = .ok (.putfield 105, 3) := dk_181 0 105 (dk_at dksX1_wholeHouse_4 14 rfl rfl)
theorem dX1_wholeHouse_112 : decode cX1_wholeHouse 112 = .ok (.iload_n 3, 1) := dk_29 (dk_at dksX1_wholeHouse_4 17 rfl rfl)
theorem dX1_wholeHouse_113 : decode cX1_wholeHouse 113 = .ok (.bipush 115, 2) := dk_16 115 (dk_at dksX1_wholeHouse_4 18 rfl rfl)
theorem dX1_wholeHouse_115 : decode cX1_wholeHouse 115 = .ok (.if_icmp .ne 19, 3) := dk_160 0 19 (dk_at dksX1_wholeHouse_4 20 rfl rfl)
theorem dX1_wholeHouse_118 : decode cX1_wholeHouse 118 = .ok (.iconst 1, 1) := dk_4 (dk_at dksX1_wholeHouse_4 23 rfl rfl)
theorem dX1_wholeHouse_119 : decode cX1_wholeHouse 119 = .ok (.istore_n 1, 1) := dk_60 (dk_at dksX1_wholeHouse_5 0 rfl rfl)
theorem dX1_wholeHouse_120 : decode cX1_wholeHouse 120 = .ok (.aload_n 0, 1) := dk_42 (dk_at dksX1_wholeHouse_5 1 rfl rfl)
theorem dX1_wholeHouse_121 : decode cX1_wholeHouse 121 = .ok (.iload_n 3, 1) := dk_29 (dk_at dksX1_wholeHouse_5 2 rfl rfl)
theorem dX1_wholeHouse_122 : decode cX1_wholeHouse 122 = .ok (.aload_n 0, 1) := dk_42 (dk_at dksX1_wholeHouse_5 3 rfl rfl)
theorem dX1_wholeHouse_123 : decode cX1_wholeHouse 123 = .ok (.getfield 24, 3) := dk_180 0 24 (dk_at dksX1_wholeHouse_5 4 rfl rfl)
theorem dX1_wholeHouse_126 : decode cX1_wholeHouse 126 = .ok (.iconst 0, 1) := dk_3 (dk_at dksX1_wholeHouse_5 7 rfl rfl)
theorem dX1_wholeHouse_127 : decode cX1_wholeHouse 127 = .ok (.iconst 4, 1) := dk_7 (dk_at dksX1_wholeHouse_5 8 rfl rfl)
theorem dX1_wholeHouse_128 : decode cX1_wholeHouse 128 = .ok (.invokevirtual 282, 3) := dk_182 1 26 (dk_at dksX1_wholeHouse_5 9 rfl rfl)
theorem dX1_wholeHouse_131 : decode cX1_wholeHouse 131 = .ok (.goto 64, 3) := dk_167 0 64 (dk_at dksX1_wholeHouse_5 12 rfl rfl)
theorem dX1_wholeHouse_134 : decode cX1_wholeHouse 134 = .ok (.iload_n 3, 1) := dk_29 (dk_at dksX1_wholeHouse_5 15 rfl rfl)
theorem dX1_wholeHouse_135 : decode cX1_wholeHouse 135 = .ok (.bipush 107, 2) := dk_16 107 (dk_at dksX1_wholeHouse_5 16 rfl rfl)
theorem dX1_wholeHouse_137 : decode cX1_wholeHouse 137 = .ok (.if_icmp .ne 32, 3) := dk_160 0 32 (dk_at dksX1_wholeHouse_5 18 rfl rfl)
theorem dX1_wholeHouse_140 : decode cX1_wholeHouse 140 = .ok (.aload_n 0, 1) := dk_42 (dk_at dksX1_wholeHouse_5 21 rfl rfl)
theorem dX1_wholeHouse_141 : decode cX1_wholeHouse 141 = .ok (.iload_n 3, 1) := dk_29 (dk_at dksX1_wholeHouse_5 22 rfl rfl)
theorem dX1_wholeHouse_142 : decode cX1_wholeHouse 142 = .ok (.aload_n 0, 1) := dk_42 (dk_at dksX1_wholeHouse_5 23 rfl rfl)
theorem dX1_wholeHouse_143 : decode cX1_wholeHouse 143 = .ok (.getfield 27, 3) := dk_180 0 27 (dk_at dksX1_wholeHouse_6 0 rfl rfl)
theorem dX1_wholeHouse_146 : decode cX1_wholeHouse 146 = .ok (.iconst 5, 1) := dk_8 (dk_at dksX1_wholeHouse_6 3 rfl rfl)
theorem dX1_wholeHouse_147 : decode cX1_wholeHouse 147 = .ok (.aload_n 0, 1) := dk_42 (dk_at dksX1_wholeHouse_6 4 rfl rfl)
theorem dX1_wholeHouse_148 : decode cX1_wholeHouse 148 = .ok (.getfield 276, 3) := dk_180 1 20 (dk_at dksX1_wholeHouse_6 5 rfl rfl)
theorem dX1_wholeHouse_151 : decode cX1_wholeHouse 151 = .ok (.imul, 1) := dk_104 (dk_at dksX1_wholeHouse_6 8 rfl rfl)
theorem dX1_wholeHouse_152 : decode cX1_wholeHouse 152 = .ok (.iconst 5, 1) := dk_8 (dk_at dksX1_wholeHouse_6 9 rfl rfl)
theorem dX1_wholeHouse_153 : decode cX1_wholeHouse 153 = .ok (.invokevirtual 282, 3) := dk_182 1 26 (dk_at dksX1_wholeHouse_6 10 rfl rfl)
theorem dX1_wholeHouse_156 : decode cX1_wholeHouse 156 = .ok (.aload_n 0, 1) := dk_42 (dk_at dksX1_wholeHouse_6 13 rfl rfl)
theorem dX1_wholeHouse_157 : decode cX1_wholeHouse 157 = .ok (.dup, 1) := dk_89 (dk_at dksX1_wholeHouse_6 14 rfl rfl)
theorem dX1_wholeHouse_158 : decode cX1_wholeHouse 158 = .ok (.getfield 276, 3) := dk_180 1 20 (dk_at dksX1_wholeHouse_6 15 rfl rfl)
theorem dX1_wholeHouse_161 : decode cX1_wholeHouse 161 = .ok (.iconst 1, 1) := dk_4 (dk_at dksX1_wholeHouse_6 18 rfl rfl)
theorem dX1_wholeHouse_162 : decode cX1_wholeHouse 162 = .ok (.iadd, 1) := dk_96 (dk_at dksX1_wholeHouse_6 19 rfl rfl)
theorem dX1_wholeHouse_163 : decode cX1_wholeHouse 163 = .ok (.putfield 276, 3) := dk_181 1 20 (dk_at dksX1_wholeHouse_6 20 rfl rfl)
theorem dX1_wholeHouse_166 : decode cX1_wholeHouse 166 = .ok (.goto 29, 3) := dk_167 0 29 (dk_at dksX1_wholeHouse_7 0 rfl rfl)
theorem dX1_wholeHouse_169 : decode cX1_wholeHouse 169 = .ok (.aload_n 0, 1) := dk_42 (dk_at dksX1_wholeHouse_7 3 rfl rfl)
theorem dX1_wholeHouse_170 : decode cX1_wholeHouse 170 = .ok (.iload_n 3, 1) := dk_29 (dk_at dksX1_wholeHouse_7 4 rfl rfl)
theorem dX1_wholeHouse_171 : decode cX1_wholeHouse 171 = .ok (.aload_n 0, 1) := dk_42 (dk_at dksX1_wholeHouse_7 5 rfl rfl)
theorem dX1_wholeHouse_172 : decode cX1_wholeHouse 172 = .ok (.getfield 30, 3) := dk_180 0 30 (dk_at dksX1_wholeHouse_7 6 rfl rfl)
theorem dX1_wholeHouse_175 : decode cX1_wholeHouse 175 = .ok (.iconst 4, 1) := dk_7 (dk_at dksX1_wholeHouse_7 9 rfl rfl)
theorem dX1_wholeHouse_176 : decode cX1_wholeHouse 176 = .ok (.aload_n 0, 1) := dk_42 (dk_at dksX1_wholeHouse_7 10 rfl rfl)
theorem dX1_wholeHouse_177 : decode cX1_wholeHouse 177 = .ok (.getfield 279, 3) := dk_180 1 23 (dk_at dksX1_wholeHouse_7 11 rfl rfl)
theorem dX1_wholeHouse_180 : decode cX1_wholeHouse 180 = .ok (.imul, 1) := dk_104 (dk_at dksX1_wholeHouse_7 14 rfl rfl)
theorem dX1_wholeHouse_181 : decode cX1_wholeHouse 181 = .ok (.iconst 4, 1) := dk_7 (dk_at dksX1_wholeHouse_7 15 rfl rfl)
theorem dX1_wholeHouse_182 : decode cX1_wholeHouse 182 = .ok (.invokevirtual 282, 3) := dk_182 1 26 (dk_at dksX1_wholeHouse_7 16 rfl rfl)
theorem dX1_wholeHouse_185 : decode cX1_wholeHouse 185 = .ok (.aload_n 0, 1) := dk_42 (dk_at dksX1_wholeHouse_7 19 rfl rfl)
theorem dX1_wholeHouse_186 : decode cX1_wholeHouse 186 = .ok (.dup, 1) := dk_89 (dk_at dksX1_wholeHouse_7 20 rfl rfl)
theorem dX1_wholeHouse_187 : decode cX1_wholeHouse 187 = .ok (.getfield 279, 3) := dk_180 1 23 (dk_at dksX1_wholeHouse_7 21 rfl rfl)
theorem dX1_wholeHouse_190 : decode cX1_wholeHouse 190 = .ok (.iconst 1, 1) := dk_4 (dk_at dksX1_wholeHouse_8 0 rfl rfl)
theorem dX1_wholeHouse_191 : decode cX1_wholeHouse 191 = .ok (.iadd, 1) := dk_96 (dk_at dksX1_wholeHouse_8 1 rfl rfl)
theorem dX1_wholeHouse_192 : decode cX1_wholeHouse 192 = .ok (.putfield 279, 3) := dk_181 1 23 (dk_at dksX1_wholeHouse_8 2 rfl rfl)
theorem dX1_wholeHouse_195 : decode cX1_wholeHouse 195 = .ok (.aload_n 0, 1) := dk_42 (dk_at dksX1_wholeHouse_8 5 rfl rfl)
theorem dX1_wholeHouse_196 : decode cX1_wholeHouse 196 = .ok (.invokevirtual 115, 3) := dk_182 0 115 (dk_at dksX1_wholeHouse_8 6 rfl rfl)
theorem dX1_wholeHouse_199 : decode cX1_wholeHouse 199 = .ok (.bipush 59, 2) := dk_16 59 (dk_at dksX1_wholeHouse_8 9 rfl rfl)
theorem dX1_wholeHouse_201 : decode cX1_wholeHouse 201 = .ok (.if_icmp .ne 7, 3) := dk_160 0 7 (dk_at dksX1_wholeHouse_8 11 rfl rfl)
theorem dX1_wholeHouse_204 : decode cX1_wholeHouse 204 = .ok (.iconst 1, 1) := dk_4 (dk_at dksX1_wholeHouse_8 14 rfl rfl)
theorem dX1_wholeHouse_205 : decode cX1_wholeHouse 205 = .ok (.goto 4, 3) := dk_167 0 4 (dk_at dksX1_wholeHouse_8 15 rfl rfl)
theorem dX1_wholeHouse_208 : decode cX1_wholeHouse 208 = .ok (.iconst 0, 1) := dk_3 (dk_at dksX1_wholeHouse_8 18 rfl rfl)
theorem dX1_wholeHouse_209 : decode cX1_wholeHouse 209 = .ok (.istore_n 2, 1) := dk_61 (dk_at dksX1_wholeHouse_8 19 rfl rfl)
theorem dX1_wholeHouse_210 : decode cX1_wholeHouse 210 = .ok (.iload_n 2, 1) := dk_28 (dk_at dksX1_wholeHouse_8 20 rfl rfl)
theorem dX1_wholeHouse_211 : decode cX1_wholeHouse 211 = .ok (.ifCond .eq 13, 3) := dk_153 0 13 (dk_at dksX1_wholeHouse_8 21 rfl rfl)
theorem dX1_wholeHouse_214 : decode cX1_wholeHouse 214 = .ok (.aload_n 0, 1) := dk_42 (dk_at dksX1_wholeHouse_9 0 rfl rfl)
theorem dX1_wholeHouse_215 : decode cX1_wholeHouse 215 = .ok (.dup, 1) := dk_89 (dk_at dksX1_wholeHouse_9 1 rfl rfl)
theorem dX1_wholeHouse_216 : decode cX1_wholeHouse 216 = .ok (.getfield 105, 3) := dk_180 0 105 (dk_at dksX1_wholeHouse_9 2 rfl rfl)
theorem dX1_wholeHouse_219 : decode cX1_wholeHouse 219 = .ok (.iconst 1, 1) := dk_4 (dk_at dksX1_wholeHouse_9 5 rfl rfl)
theorem dX1_wholeHouse_220 : decode cX1_wholeHouse 220 = .ok (.iadd, 1) := dk_96 (dk_at dksX1_wholeHouse_9 6 rfl rfl)
theorem dX1_wholeHouse_221 : decode cX1_wholeHouse 221 = .ok (.putfield 105, 3) := dk_181 0 105 (dk_at dksX1_wholeHouse_9 7 rfl rfl)
theorem dX1_wholeHouse_224 : decode cX1_wholeHouse 224 = .ok (.goto (-180), 3) := dk_167 255 76 (dk_at dksX1_wholeHouse_9 10 rfl rfl)
theorem dX1_wholeHouse_227 : decode cX1_wholeHouse 227 = .ok (.aload_n 0, 1) := dk_42 (dk_at dksX1_wholeHouse_9 13 rfl rfl)
theorem dX1_wholeHouse_228 : decode cX1_wholeHouse 228 = .ok (.aload_n 0, 1) := dk_42 (dk_at dksX1_wholeHouse_9 14 rfl rfl)
theorem dX1_wholeHouse_229 : decode cX1_wholeHouse 229 = .ok (.invokevirtual 115, 3) := dk_182 0 115 (dk_at dksX1_wholeHouse_9 15 rfl rfl)
theorem dX1_wholeHouse_232 : decode cX1_wholeHouse 232 = .ok (.iconst (-1), 1) := dk_2 (dk_at dksX1_wholeHouse_9 18 rfl rfl)
theorem dX1_wholeHouse_233 : decode cX1_wholeHouse 233 = .ok (.if_icmp .ne 14, 3) := dk_160 0 14 (dk_at dksX1_wholeHouse_9 19 rfl rfl)
theorem dX1_wholeHouse_236 : decode cX1_wholeHouse 236 = .ok (.aload_n 0, 1) := dk_42 (dk_at dksX1_wholeHouse_9 22 rfl rfl)
theorem dX1_wholeHouse_237 : decode cX1_wholeHouse 237 = .ok (.invokevirtual 286, 3) := dk_182 1 30 (dk_at dksX1_wholeHouse_10 0 rfl rfl)
theorem dX1_wholeHouse_240 : decode cX1_wholeHouse 240 = .ok (.ifCond .eq 7, 3) := dk_153 0 7 (dk_at dksX1_wholeHouse_10 3 rfl rfl)
theorem dX1_wholeHouse_243 : decode cX1_wholeHouse 243 = .ok (.iconst 1, 1) := dk_4 (dk_at dksX1_wholeHouse_10 6 rfl rfl)
theorem dX1_wholeHouse_244 : decode cX1_wholeHouse 244 = .ok (.goto 4, 3) := dk_167 0 4 (dk_at dksX1_wholeHouse_10 7 rfl rfl)
theorem dX1_wholeHouse_247 : decode cX1_wholeHouse 247 = .ok (.iconst 0, 1) := dk_3 (dk_at dksX1_wholeHouse_10 10 rfl rfl)
theorem dX1_wholeHouse_248 : decode cX1_wholeHouse 248 = .ok (.invokevirtual 111, 3) := dk_182 0 111 (dk_at dksX1_wholeHouse_10 11 rfl rfl)
theorem dX1_wholeHouse_251 : decode cX1_wholeHouse 251 = .ok (.return_, 1) := dk_177 (dk_at dksX1_wholeHouse_10 14 rfl rfl)
abbrev cX1_usual : ByteArray := prog_1_method_30_code
def yX1_usual : MethodName := ⟨RX1, "usual", "(II)I"⟩
def dkwX1_usual_5 : List UInt8 := [3, 172]
abbrev dktX1_usual_5 : List UInt8 := dkwX1_usual_5 ++ []
def dkwX1_usual_4 : List UInt8 := [167, 0, 14, 27, 7, 160, 0, 8, 16, 6, 167, 0, 4, 6, 172, 27, 4, 160, 0, 7, 5, 167, 0, 4]
abbrev dktX1_usual_4 : List UInt8 := dkwX1_usual_4 ++ dktX1_usual_5
def dkwX1_usual_3 : List UInt8 := [16, 6, 167, 0, 4, 4, 172, 27, 154, 0, 7, 3, 167, 0, 24, 27, 5, 160, 0, 8, 16, 12]
abbrev dktX1_usual_3 : List UInt8 := dkwX1_usual_3 ++ dktX1_usual_4
def dkwX1_usual_2 : List UInt8 := [27, 154, 0, 8, 16, 40, 167, 0, 24, 27, 4, 160, 0, 8, 16, 9, 167, 0, 14, 27, 5, 160, 0, 8]
abbrev dktX1_usual_2 : List UInt8 := dkwX1_usual_2 ++ dktX1_usual_3
def dkwX1_usual_1 : List UInt8 := [171, 0, 0, 0, 0, 0, 88, 0, 0, 0, 2, 0, 0, 0, 107, 0, 0, 0, 58, 0, 0, 0, 115, 0, 0, 0, 27]
abbrev dktX1_usual_1 : List UInt8 := dkwX1_usual_1 ++ dktX1_usual_2
def dkwX1_usual_0 : List UInt8 := [26]
abbrev dktX1_usual_0 : List UInt8 := dkwX1_usual_0 ++ dktX1_usual_1
theorem dksX1_usual_0 : cX1_usual.data.toList.drop 0 = dktX1_usual_0 := by decide +kernel
theorem dksX1_usual_1 : cX1_usual.data.toList.drop 1 = dktX1_usual_1 := dk_seg dksX1_usual_0 1 rfl rfl
theorem dksX1_usual_2 : cX1_usual.data.toList.drop 28 = dktX1_usual_2 := dk_seg dksX1_usual_1 27 rfl rfl
theorem dksX1_usual_3 : cX1_usual.data.toList.drop 52 = dktX1_usual_3 := dk_seg dksX1_usual_2 24 rfl rfl
theorem dksX1_usual_4 : cX1_usual.data.toList.drop 74 = dktX1_usual_4 := dk_seg dksX1_usual_3 22 rfl rfl
theorem dksX1_usual_5 : cX1_usual.data.toList.drop 98 = dktX1_usual_5 := dk_seg dksX1_usual_4 24 rfl rfl
theorem dX1_usual_0 : decode cX1_usual 0 = .ok (.iload_n 0, 1) := dk_26 (dk_at dksX1_usual_0 0 rfl rfl)
theorem dX1_usual_1 : decode cX1_usual 1 = .ok (.lookupswitch 88 #[(107, 58), (115, 27)], 27) := by decide +kernel
theorem dX1_usual_28 : decode cX1_usual 28 = .ok (.iload_n 1, 1) := dk_27 (dk_at dksX1_usual_2 0 rfl rfl)
theorem dX1_usual_29 : decode cX1_usual 29 = .ok (.ifCond .ne 8, 3) := dk_154 0 8 (dk_at dksX1_usual_2 1 rfl rfl)
theorem dX1_usual_32 : decode cX1_usual 32 = .ok (.bipush 40, 2) := dk_16 40 (dk_at dksX1_usual_2 4 rfl rfl)
theorem dX1_usual_34 : decode cX1_usual 34 = .ok (.goto 24, 3) := dk_167 0 24 (dk_at dksX1_usual_2 6 rfl rfl)
theorem dX1_usual_37 : decode cX1_usual 37 = .ok (.iload_n 1, 1) := dk_27 (dk_at dksX1_usual_2 9 rfl rfl)
theorem dX1_usual_38 : decode cX1_usual 38 = .ok (.iconst 1, 1) := dk_4 (dk_at dksX1_usual_2 10 rfl rfl)
theorem dX1_usual_39 : decode cX1_usual 39 = .ok (.if_icmp .ne 8, 3) := dk_160 0 8 (dk_at dksX1_usual_2 11 rfl rfl)
theorem dX1_usual_42 : decode cX1_usual 42 = .ok (.bipush 9, 2) := dk_16 9 (dk_at dksX1_usual_2 14 rfl rfl)
theorem dX1_usual_44 : decode cX1_usual 44 = .ok (.goto 14, 3) := dk_167 0 14 (dk_at dksX1_usual_2 16 rfl rfl)
theorem dX1_usual_47 : decode cX1_usual 47 = .ok (.iload_n 1, 1) := dk_27 (dk_at dksX1_usual_2 19 rfl rfl)
theorem dX1_usual_48 : decode cX1_usual 48 = .ok (.iconst 2, 1) := dk_5 (dk_at dksX1_usual_2 20 rfl rfl)
theorem dX1_usual_49 : decode cX1_usual 49 = .ok (.if_icmp .ne 8, 3) := dk_160 0 8 (dk_at dksX1_usual_2 21 rfl rfl)
theorem dX1_usual_52 : decode cX1_usual 52 = .ok (.bipush 6, 2) := dk_16 6 (dk_at dksX1_usual_3 0 rfl rfl)
theorem dX1_usual_54 : decode cX1_usual 54 = .ok (.goto 4, 3) := dk_167 0 4 (dk_at dksX1_usual_3 2 rfl rfl)
theorem dX1_usual_57 : decode cX1_usual 57 = .ok (.iconst 1, 1) := dk_4 (dk_at dksX1_usual_3 5 rfl rfl)
theorem dX1_usual_58 : decode cX1_usual 58 = .ok (.ireturn, 1) := dk_172 (dk_at dksX1_usual_3 6 rfl rfl)
theorem dX1_usual_59 : decode cX1_usual 59 = .ok (.iload_n 1, 1) := dk_27 (dk_at dksX1_usual_3 7 rfl rfl)
theorem dX1_usual_60 : decode cX1_usual 60 = .ok (.ifCond .ne 7, 3) := dk_154 0 7 (dk_at dksX1_usual_3 8 rfl rfl)
theorem dX1_usual_63 : decode cX1_usual 63 = .ok (.iconst 0, 1) := dk_3 (dk_at dksX1_usual_3 11 rfl rfl)
theorem dX1_usual_64 : decode cX1_usual 64 = .ok (.goto 24, 3) := dk_167 0 24 (dk_at dksX1_usual_3 12 rfl rfl)
theorem dX1_usual_67 : decode cX1_usual 67 = .ok (.iload_n 1, 1) := dk_27 (dk_at dksX1_usual_3 15 rfl rfl)
theorem dX1_usual_68 : decode cX1_usual 68 = .ok (.iconst 2, 1) := dk_5 (dk_at dksX1_usual_3 16 rfl rfl)
theorem dX1_usual_69 : decode cX1_usual 69 = .ok (.if_icmp .ne 8, 3) := dk_160 0 8 (dk_at dksX1_usual_3 17 rfl rfl)
theorem dX1_usual_72 : decode cX1_usual 72 = .ok (.bipush 12, 2) := dk_16 12 (dk_at dksX1_usual_3 20 rfl rfl)
theorem dX1_usual_74 : decode cX1_usual 74 = .ok (.goto 14, 3) := dk_167 0 14 (dk_at dksX1_usual_4 0 rfl rfl)
theorem dX1_usual_77 : decode cX1_usual 77 = .ok (.iload_n 1, 1) := dk_27 (dk_at dksX1_usual_4 3 rfl rfl)
theorem dX1_usual_78 : decode cX1_usual 78 = .ok (.iconst 4, 1) := dk_7 (dk_at dksX1_usual_4 4 rfl rfl)
theorem dX1_usual_79 : decode cX1_usual 79 = .ok (.if_icmp .ne 8, 3) := dk_160 0 8 (dk_at dksX1_usual_4 5 rfl rfl)
theorem dX1_usual_82 : decode cX1_usual 82 = .ok (.bipush 6, 2) := dk_16 6 (dk_at dksX1_usual_4 8 rfl rfl)
theorem dX1_usual_84 : decode cX1_usual 84 = .ok (.goto 4, 3) := dk_167 0 4 (dk_at dksX1_usual_4 10 rfl rfl)
theorem dX1_usual_87 : decode cX1_usual 87 = .ok (.iconst 3, 1) := dk_6 (dk_at dksX1_usual_4 13 rfl rfl)
theorem dX1_usual_88 : decode cX1_usual 88 = .ok (.ireturn, 1) := dk_172 (dk_at dksX1_usual_4 14 rfl rfl)
theorem dX1_usual_89 : decode cX1_usual 89 = .ok (.iload_n 1, 1) := dk_27 (dk_at dksX1_usual_4 15 rfl rfl)
theorem dX1_usual_90 : decode cX1_usual 90 = .ok (.iconst 1, 1) := dk_4 (dk_at dksX1_usual_4 16 rfl rfl)
theorem dX1_usual_91 : decode cX1_usual 91 = .ok (.if_icmp .ne 7, 3) := dk_160 0 7 (dk_at dksX1_usual_4 17 rfl rfl)
theorem dX1_usual_94 : decode cX1_usual 94 = .ok (.iconst 2, 1) := dk_5 (dk_at dksX1_usual_4 20 rfl rfl)
theorem dX1_usual_95 : decode cX1_usual 95 = .ok (.goto 4, 3) := dk_167 0 4 (dk_at dksX1_usual_4 21 rfl rfl)
theorem dX1_usual_98 : decode cX1_usual 98 = .ok (.iconst 0, 1) := dk_3 (dk_at dksX1_usual_5 0 rfl rfl)
theorem dX1_usual_99 : decode cX1_usual 99 = .ok (.ireturn, 1) := dk_172 (dk_at dksX1_usual_5 1 rfl rfl)
abbrev cX1_items : ByteArray := prog_1_method_31_code
def yX1_items : MethodName := ⟨RX1, "items", "(I[III)V"⟩
def dkwX1_items_5 : List UInt8 := [79, 167, 255, 170, 177]
abbrev dktX1_items_5 : List UInt8 := dkwX1_items_5 ++ []
def dkwX1_items_4 : List UInt8 := [181, 0, 105, 44, 29, 21, 6, 96, 42, 27, 21, 6, 184, 1, 11, 27, 21, 6, 184, 1, 14, 182, 1, 17]
abbrev dktX1_items_4 : List UInt8 := dkwX1_items_4 ++ dktX1_items_5
def dkwX1_items_3 : List UInt8 := [182, 0, 243, 184, 1, 4, 54, 6, 21, 5, 4, 21, 6, 120, 128, 54, 5, 42, 89, 180, 0, 105, 4, 96]
abbrev dktX1_items_3 : List UInt8 := dkwX1_items_3 ++ dktX1_items_4
def dkwX1_items_2 : List UInt8 := [184, 1, 4, 155, 0, 73, 21, 5, 27, 42, 182, 0, 243, 184, 1, 4, 184, 1, 7, 154, 0, 57, 27, 42]
abbrev dktX1_items_2 : List UInt8 := dkwX1_items_2 ++ dktX1_items_3
def dkwX1_items_1 : List UInt8 := [132, 5, 1, 167, 255, 234, 3, 54, 5, 42, 182, 0, 115, 2, 159, 0, 84, 27, 42, 182, 0, 243]
abbrev dktX1_items_1 : List UInt8 := dkwX1_items_1 ++ dktX1_items_2
def dkwX1_items_0 : List UInt8 := [3, 54, 5, 21, 5, 21, 4, 162, 0, 21, 44, 29, 21, 5, 96, 27, 21, 5, 184, 1, 0, 79]
abbrev dktX1_items_0 : List UInt8 := dkwX1_items_0 ++ dktX1_items_1
theorem dksX1_items_0 : cX1_items.data.toList.drop 0 = dktX1_items_0 := by decide +kernel
theorem dksX1_items_1 : cX1_items.data.toList.drop 22 = dktX1_items_1 := dk_seg dksX1_items_0 22 rfl rfl
theorem dksX1_items_2 : cX1_items.data.toList.drop 44 = dktX1_items_2 := dk_seg dksX1_items_1 22 rfl rfl
theorem dksX1_items_3 : cX1_items.data.toList.drop 68 = dktX1_items_3 := dk_seg dksX1_items_2 24 rfl rfl
theorem dksX1_items_4 : cX1_items.data.toList.drop 92 = dktX1_items_4 := dk_seg dksX1_items_3 24 rfl rfl
theorem dksX1_items_5 : cX1_items.data.toList.drop 116 = dktX1_items_5 := dk_seg dksX1_items_4 24 rfl rfl
theorem dX1_items_0 : decode cX1_items 0 = .ok (.iconst 0, 1) := dk_3 (dk_at dksX1_items_0 0 rfl rfl)
theorem dX1_items_1 : decode cX1_items 1 = .ok (.istore 5, 2) := dk_54 5 (dk_at dksX1_items_0 1 rfl rfl)
theorem dX1_items_3 : decode cX1_items 3 = .ok (.iload 5, 2) := dk_21 5 (dk_at dksX1_items_0 3 rfl rfl)
theorem dX1_items_5 : decode cX1_items 5 = .ok (.iload 4, 2) := dk_21 4 (dk_at dksX1_items_0 5 rfl rfl)
theorem dX1_items_7 : decode cX1_items 7 = .ok (.if_icmp .ge 21, 3) := dk_162 0 21 (dk_at dksX1_items_0 7 rfl rfl)
theorem dX1_items_10 : decode cX1_items 10 = .ok (.aload_n 2, 1) := dk_44 (dk_at dksX1_items_0 10 rfl rfl)
theorem dX1_items_11 : decode cX1_items 11 = .ok (.iload_n 3, 1) := dk_29 (dk_at dksX1_items_0 11 rfl rfl)
theorem dX1_items_12 : decode cX1_items 12 = .ok (.iload 5, 2) := dk_21 5 (dk_at dksX1_items_0 12 rfl rfl)
theorem dX1_items_14 : decode cX1_items 14 = .ok (.iadd, 1) := dk_96 (dk_at dksX1_items_0 14 rfl rfl)
theorem dX1_items_15 : decode cX1_items 15 = .ok (.iload_n 1, 1) := dk_27 (dk_at dksX1_items_0 15 rfl rfl)
theorem dX1_items_16 : decode cX1_items 16 = .ok (.iload 5, 2) := dk_21 5 (dk_at dksX1_items_0 16 rfl rfl)
theorem dX1_items_18 : decode cX1_items 18 = .ok (.invokestatic 256, 3) := dk_184 1 0 (dk_at dksX1_items_0 18 rfl rfl)
theorem dX1_items_21 : decode cX1_items 21 = .ok (.iastore, 1) := dk_79 (dk_at dksX1_items_0 21 rfl rfl)
theorem dX1_items_22 : decode cX1_items 22 = .ok (.iinc 5 1, 3) := dk_132 5 1 (dk_at dksX1_items_1 0 rfl rfl)
theorem dX1_items_25 : decode cX1_items 25 = .ok (.goto (-22), 3) := dk_167 255 234 (dk_at dksX1_items_1 3 rfl rfl)
theorem dX1_items_28 : decode cX1_items 28 = .ok (.iconst 0, 1) := dk_3 (dk_at dksX1_items_1 6 rfl rfl)
theorem dX1_items_29 : decode cX1_items 29 = .ok (.istore 5, 2) := dk_54 5 (dk_at dksX1_items_1 7 rfl rfl)
theorem dX1_items_31 : decode cX1_items 31 = .ok (.aload_n 0, 1) := dk_42 (dk_at dksX1_items_1 9 rfl rfl)
theorem dX1_items_32 : decode cX1_items 32 = .ok (.invokevirtual 115, 3) := dk_182 0 115 (dk_at dksX1_items_1 10 rfl rfl)
theorem dX1_items_35 : decode cX1_items 35 = .ok (.iconst (-1), 1) := dk_2 (dk_at dksX1_items_1 13 rfl rfl)
theorem dX1_items_36 : decode cX1_items 36 = .ok (.if_icmp .eq 84, 3) := dk_159 0 84 (dk_at dksX1_items_1 14 rfl rfl)
theorem dX1_items_39 : decode cX1_items 39 = .ok (.iload_n 1, 1) := dk_27 (dk_at dksX1_items_1 17 rfl rfl)
theorem dX1_items_40 : decode cX1_items 40 = .ok (.aload_n 0, 1) := dk_42 (dk_at dksX1_items_1 18 rfl rfl)
theorem dX1_items_41 : decode cX1_items 41 = .ok (.invokevirtual 243, 3) := dk_182 0 243 (dk_at dksX1_items_1 19 rfl rfl)
theorem dX1_items_44 : decode cX1_items 44 = .ok (.invokestatic 260, 3) := dk_184 1 4 (dk_at dksX1_items_2 0 rfl rfl)
theorem dX1_items_47 : decode cX1_items 47 = .ok (.ifCond .lt 73, 3) := dk_155 0 73 (dk_at dksX1_items_2 3 rfl rfl)
theorem dX1_items_50 : decode cX1_items 50 = .ok (.iload 5, 2) := dk_21 5 (dk_at dksX1_items_2 6 rfl rfl)
theorem dX1_items_52 : decode cX1_items 52 = .ok (.iload_n 1, 1) := dk_27 (dk_at dksX1_items_2 8 rfl rfl)
theorem dX1_items_53 : decode cX1_items 53 = .ok (.aload_n 0, 1) := dk_42 (dk_at dksX1_items_2 9 rfl rfl)
theorem dX1_items_54 : decode cX1_items 54 = .ok (.invokevirtual 243, 3) := dk_182 0 243 (dk_at dksX1_items_2 10 rfl rfl)
theorem dX1_items_57 : decode cX1_items 57 = .ok (.invokestatic 260, 3) := dk_184 1 4 (dk_at dksX1_items_2 13 rfl rfl)
theorem dX1_items_60 : decode cX1_items 60 = .ok (.invokestatic 263, 3) := dk_184 1 7 (dk_at dksX1_items_2 16 rfl rfl)
theorem dX1_items_63 : decode cX1_items 63 = .ok (.ifCond .ne 57, 3) := dk_154 0 57 (dk_at dksX1_items_2 19 rfl rfl)
theorem dX1_items_66 : decode cX1_items 66 = .ok (.iload_n 1, 1) := dk_27 (dk_at dksX1_items_2 22 rfl rfl)
theorem dX1_items_67 : decode cX1_items 67 = .ok (.aload_n 0, 1) := dk_42 (dk_at dksX1_items_2 23 rfl rfl)
theorem dX1_items_68 : decode cX1_items 68 = .ok (.invokevirtual 243, 3) := dk_182 0 243 (dk_at dksX1_items_3 0 rfl rfl)
theorem dX1_items_71 : decode cX1_items 71 = .ok (.invokestatic 260, 3) := dk_184 1 4 (dk_at dksX1_items_3 3 rfl rfl)
theorem dX1_items_74 : decode cX1_items 74 = .ok (.istore 6, 2) := dk_54 6 (dk_at dksX1_items_3 6 rfl rfl)
theorem dX1_items_76 : decode cX1_items 76 = .ok (.iload 5, 2) := dk_21 5 (dk_at dksX1_items_3 8 rfl rfl)
theorem dX1_items_78 : decode cX1_items 78 = .ok (.iconst 1, 1) := dk_4 (dk_at dksX1_items_3 10 rfl rfl)
theorem dX1_items_79 : decode cX1_items 79 = .ok (.iload 6, 2) := dk_21 6 (dk_at dksX1_items_3 11 rfl rfl)
theorem dX1_items_81 : decode cX1_items 81 = .ok (.ishl, 1) := dk_120 (dk_at dksX1_items_3 13 rfl rfl)
theorem dX1_items_82 : decode cX1_items 82 = .ok (.ior, 1) := dk_128 (dk_at dksX1_items_3 14 rfl rfl)
theorem dX1_items_83 : decode cX1_items 83 = .ok (.istore 5, 2) := dk_54 5 (dk_at dksX1_items_3 15 rfl rfl)
theorem dX1_items_85 : decode cX1_items 85 = .ok (.aload_n 0, 1) := dk_42 (dk_at dksX1_items_3 17 rfl rfl)
theorem dX1_items_86 : decode cX1_items 86 = .ok (.dup, 1) := dk_89 (dk_at dksX1_items_3 18 rfl rfl)
theorem dX1_items_87 : decode cX1_items 87 = .ok (.getfield 105, 3) := dk_180 0 105 (dk_at dksX1_items_3 19 rfl rfl)
theorem dX1_items_90 : decode cX1_items 90 = .ok (.iconst 1, 1) := dk_4 (dk_at dksX1_items_3 22 rfl rfl)
theorem dX1_items_91 : decode cX1_items 91 = .ok (.iadd, 1) := dk_96 (dk_at dksX1_items_3 23 rfl rfl)
theorem dX1_items_92 : decode cX1_items 92 = .ok (.putfield 105, 3) := dk_181 0 105 (dk_at dksX1_items_4 0 rfl rfl)
theorem dX1_items_95 : decode cX1_items 95 = .ok (.aload_n 2, 1) := dk_44 (dk_at dksX1_items_4 3 rfl rfl)
theorem dX1_items_96 : decode cX1_items 96 = .ok (.iload_n 3, 1) := dk_29 (dk_at dksX1_items_4 4 rfl rfl)
theorem dX1_items_97 : decode cX1_items 97 = .ok (.iload 6, 2) := dk_21 6 (dk_at dksX1_items_4 5 rfl rfl)
theorem dX1_items_99 : decode cX1_items 99 = .ok (.iadd, 1) := dk_96 (dk_at dksX1_items_4 7 rfl rfl)
theorem dX1_items_100 : decode cX1_items 100 = .ok (.aload_n 0, 1) := dk_42 (dk_at dksX1_items_4 8 rfl rfl)
theorem dX1_items_101 : decode cX1_items 101 = .ok (.iload_n 1, 1) := dk_27 (dk_at dksX1_items_4 9 rfl rfl)
theorem dX1_items_102 : decode cX1_items 102 = .ok (.iload 6, 2) := dk_21 6 (dk_at dksX1_items_4 10 rfl rfl)
theorem dX1_items_104 : decode cX1_items 104 = .ok (.invokestatic 267, 3) := dk_184 1 11 (dk_at dksX1_items_4 12 rfl rfl)
theorem dX1_items_107 : decode cX1_items 107 = .ok (.iload_n 1, 1) := dk_27 (dk_at dksX1_items_4 15 rfl rfl)
theorem dX1_items_108 : decode cX1_items 108 = .ok (.iload 6, 2) := dk_21 6 (dk_at dksX1_items_4 16 rfl rfl)
theorem dX1_items_110 : decode cX1_items 110 = .ok (.invokestatic 270, 3) := dk_184 1 14 (dk_at dksX1_items_4 18 rfl rfl)
theorem dX1_items_113 : decode cX1_items 113 = .ok (.invokevirtual 273, 3) := dk_182 1 17 (dk_at dksX1_items_4 21 rfl rfl)
theorem dX1_items_116 : decode cX1_items 116 = .ok (.iastore, 1) := dk_79 (dk_at dksX1_items_5 0 rfl rfl)
theorem dX1_items_117 : decode cX1_items 117 = .ok (.goto (-86), 3) := dk_167 255 170 (dk_at dksX1_items_5 1 rfl rfl)
theorem dX1_items_120 : decode cX1_items 120 = .ok (.return_, 1) := dk_177 (dk_at dksX1_items_5 4 rfl rfl)
abbrev cX1_there : ByteArray := prog_1_method_25_code
def yX1_there : MethodName := ⟨RX1, "there", "()I"⟩
def dkwX1_there_1 : List UInt8 := [167, 0, 4, 2, 172]
abbrev dktX1_there_1 : List UInt8 := dkwX1_there_1 ++ []
def dkwX1_there_0 : List UInt8 := [42, 180, 0, 105, 42, 180, 0, 102, 162, 0, 19, 42, 180, 0, 16, 42, 180, 0, 105, 51, 17, 0, 255, 126]
abbrev dktX1_there_0 : List UInt8 := dkwX1_there_0 ++ dktX1_there_1
theorem dksX1_there_0 : cX1_there.data.toList.drop 0 = dktX1_there_0 := by decide +kernel
theorem dksX1_there_1 : cX1_there.data.toList.drop 24 = dktX1_there_1 := dk_seg dksX1_there_0 24 rfl rfl
theorem dX1_there_0 : decode cX1_there 0 = .ok (.aload_n 0, 1) := dk_42 (dk_at dksX1_there_0 0 rfl rfl)
theorem dX1_there_1 : decode cX1_there 1 = .ok (.getfield 105, 3) := dk_180 0 105 (dk_at dksX1_there_0 1 rfl rfl)
theorem dX1_there_4 : decode cX1_there 4 = .ok (.aload_n 0, 1) := dk_42 (dk_at dksX1_there_0 4 rfl rfl)
theorem dX1_there_5 : decode cX1_there 5 = .ok (.getfield 102, 3) := dk_180 0 102 (dk_at dksX1_there_0 5 rfl rfl)
theorem dX1_there_8 : decode cX1_there 8 = .ok (.if_icmp .ge 19, 3) := dk_162 0 19 (dk_at dksX1_there_0 8 rfl rfl)
theorem dX1_there_11 : decode cX1_there 11 = .ok (.aload_n 0, 1) := dk_42 (dk_at dksX1_there_0 11 rfl rfl)
theorem dX1_there_12 : decode cX1_there 12 = .ok (.getfield 16, 3) := dk_180 0 16 (dk_at dksX1_there_0 12 rfl rfl)
theorem dX1_there_15 : decode cX1_there 15 = .ok (.aload_n 0, 1) := dk_42 (dk_at dksX1_there_0 15 rfl rfl)
theorem dX1_there_16 : decode cX1_there 16 = .ok (.getfield 105, 3) := dk_180 0 105 (dk_at dksX1_there_0 16 rfl rfl)
theorem dX1_there_19 : decode cX1_there 19 = .ok (.baload, 1) := dk_51 (dk_at dksX1_there_0 19 rfl rfl)
theorem dX1_there_20 : decode cX1_there 20 = .ok (.sipush 255, 3) := dk_17 0 255 (dk_at dksX1_there_0 20 rfl rfl)
theorem dX1_there_23 : decode cX1_there 23 = .ok (.iand, 1) := dk_126 (dk_at dksX1_there_0 23 rfl rfl)
theorem dX1_there_24 : decode cX1_there 24 = .ok (.goto 4, 3) := dk_167 0 4 (dk_at dksX1_there_1 0 rfl rfl)
theorem dX1_there_27 : decode cX1_there 27 = .ok (.iconst (-1), 1) := dk_2 (dk_at dksX1_there_1 3 rfl rfl)
theorem dX1_there_28 : decode cX1_there 28 = .ok (.ireturn, 1) := dk_172 (dk_at dksX1_there_1 4 rfl rfl)
abbrev cX1_item : ByteArray := prog_1_method_27_code
def yX1_item : MethodName := ⟨RX1, "item", "(II)I"⟩
def dkwX1_item_1 : List UInt8 := [27, 182, 0, 132, 172]
abbrev dktX1_item_1 : List UInt8 := dkwX1_item_1 ++ []
def dkwX1_item_0 : List UInt8 := [26, 16, 115, 160, 0, 8, 18, 250, 167, 0, 16, 26, 16, 107, 160, 0, 8, 18, 252, 167, 0, 5, 18, 254]
abbrev dktX1_item_0 : List UInt8 := dkwX1_item_0 ++ dktX1_item_1
theorem dksX1_item_0 : cX1_item.data.toList.drop 0 = dktX1_item_0 := by decide +kernel
theorem dksX1_item_1 : cX1_item.data.toList.drop 24 = dktX1_item_1 := dk_seg dksX1_item_0 24 rfl rfl
theorem dX1_item_0 : decode cX1_item 0 = .ok (.iload_n 0, 1) := dk_26 (dk_at dksX1_item_0 0 rfl rfl)
theorem dX1_item_1 : decode cX1_item 1 = .ok (.bipush 115, 2) := dk_16 115 (dk_at dksX1_item_0 1 rfl rfl)
theorem dX1_item_3 : decode cX1_item 3 = .ok (.if_icmp .ne 8, 3) := dk_160 0 8 (dk_at dksX1_item_0 3 rfl rfl)
theorem dX1_item_6 : decode cX1_item 6 = .ok (.ldc 250, 2) := dk_18 250 (dk_at dksX1_item_0 6 rfl rfl)
theorem dX1_item_8 : decode cX1_item 8 = .ok (.goto 16, 3) := dk_167 0 16 (dk_at dksX1_item_0 8 rfl rfl)
theorem dX1_item_11 : decode cX1_item 11 = .ok (.iload_n 0, 1) := dk_26 (dk_at dksX1_item_0 11 rfl rfl)
theorem dX1_item_12 : decode cX1_item 12 = .ok (.bipush 107, 2) := dk_16 107 (dk_at dksX1_item_0 12 rfl rfl)
theorem dX1_item_14 : decode cX1_item 14 = .ok (.if_icmp .ne 8, 3) := dk_160 0 8 (dk_at dksX1_item_0 14 rfl rfl)
theorem dX1_item_17 : decode cX1_item 17 = .ok (.ldc 252, 2) := dk_18 252 (dk_at dksX1_item_0 17 rfl rfl)
theorem dX1_item_19 : decode cX1_item 19 = .ok (.goto 5, 3) := dk_167 0 5 (dk_at dksX1_item_0 19 rfl rfl)
theorem dX1_item_22 : decode cX1_item 22 = .ok (.ldc 254, 2) := dk_18 254 (dk_at dksX1_item_0 22 rfl rfl)
theorem dX1_item_24 : decode cX1_item 24 = .ok (.iload_n 1, 1) := dk_27 (dk_at dksX1_item_1 0 rfl rfl)
theorem dX1_item_25 : decode cX1_item 25 = .ok (.invokevirtual 132, 3) := dk_182 0 132 (dk_at dksX1_item_1 1 rfl rfl)
theorem dX1_item_28 : decode cX1_item 28 = .ok (.ireturn, 1) := dk_172 (dk_at dksX1_item_1 4 rfl rfl)
abbrev cX1_has : ByteArray := prog_1_method_2_code
def yX1_has : MethodName := ⟨RX1, "has", "(II)Z"⟩
def dkwX1_has_0 : List UInt8 := [26, 27, 122, 4, 126, 4, 160, 0, 7, 4, 167, 0, 4, 3, 172]
abbrev dktX1_has_0 : List UInt8 := dkwX1_has_0 ++ []
theorem dksX1_has_0 : cX1_has.data.toList.drop 0 = dktX1_has_0 := by decide +kernel
theorem dX1_has_0 : decode cX1_has 0 = .ok (.iload_n 0, 1) := dk_26 (dk_at dksX1_has_0 0 rfl rfl)
theorem dX1_has_1 : decode cX1_has 1 = .ok (.iload_n 1, 1) := dk_27 (dk_at dksX1_has_0 1 rfl rfl)
theorem dX1_has_2 : decode cX1_has 2 = .ok (.ishr, 1) := dk_122 (dk_at dksX1_has_0 2 rfl rfl)
theorem dX1_has_3 : decode cX1_has 3 = .ok (.iconst 1, 1) := dk_4 (dk_at dksX1_has_0 3 rfl rfl)
theorem dX1_has_4 : decode cX1_has 4 = .ok (.iand, 1) := dk_126 (dk_at dksX1_has_0 4 rfl rfl)
theorem dX1_has_5 : decode cX1_has 5 = .ok (.iconst 1, 1) := dk_4 (dk_at dksX1_has_0 5 rfl rfl)
theorem dX1_has_6 : decode cX1_has 6 = .ok (.if_icmp .ne 7, 3) := dk_160 0 7 (dk_at dksX1_has_0 6 rfl rfl)
theorem dX1_has_9 : decode cX1_has 9 = .ok (.iconst 1, 1) := dk_4 (dk_at dksX1_has_0 9 rfl rfl)
theorem dX1_has_10 : decode cX1_has 10 = .ok (.goto 4, 3) := dk_167 0 4 (dk_at dksX1_has_0 10 rfl rfl)
theorem dX1_has_13 : decode cX1_has 13 = .ok (.iconst 0, 1) := dk_3 (dk_at dksX1_has_0 13 rfl rfl)
theorem dX1_has_14 : decode cX1_has 14 = .ok (.ireturn, 1) := dk_172 (dk_at dksX1_has_0 14 rfl rfl)
abbrev cX1_lowest : ByteArray := prog_1_method_28_code
def yX1_lowest : MethodName := ⟨RX1, "lowest", "(II)I"⟩
def dkwX1_lowest_3 : List UInt8 := [160, 0, 7, 4, 167, 0, 4, 3, 172, 27, 4, 160, 0, 7, 4, 167, 0, 4, 3, 172]
abbrev dktX1_lowest_3 : List UInt8 := dkwX1_lowest_3 ++ []
def dkwX1_lowest_2 : List UInt8 := [27, 153, 0, 8, 27, 5, 160, 0, 7, 4, 167, 0, 4, 3, 172, 27, 4, 159, 0, 8, 27, 5]
abbrev dktX1_lowest_2 : List UInt8 := dkwX1_lowest_2 ++ dktX1_lowest_3
def dkwX1_lowest_1 : List UInt8 := [171, 0, 0, 0, 0, 0, 58, 0, 0, 0, 2, 0, 0, 0, 107, 0, 0, 0, 42, 0, 0, 0, 115, 0, 0, 0, 27]
abbrev dktX1_lowest_1 : List UInt8 := dkwX1_lowest_1 ++ dktX1_lowest_2
def dkwX1_lowest_0 : List UInt8 := [26]
abbrev dktX1_lowest_0 : List UInt8 := dkwX1_lowest_0 ++ dktX1_lowest_1
theorem dksX1_lowest_0 : cX1_lowest.data.toList.drop 0 = dktX1_lowest_0 := by decide +kernel
theorem dksX1_lowest_1 : cX1_lowest.data.toList.drop 1 = dktX1_lowest_1 := dk_seg dksX1_lowest_0 1 rfl rfl
theorem dksX1_lowest_2 : cX1_lowest.data.toList.drop 28 = dktX1_lowest_2 := dk_seg dksX1_lowest_1 27 rfl rfl
theorem dksX1_lowest_3 : cX1_lowest.data.toList.drop 50 = dktX1_lowest_3 := dk_seg dksX1_lowest_2 22 rfl rfl
theorem dX1_lowest_0 : decode cX1_lowest 0 = .ok (.iload_n 0, 1) := dk_26 (dk_at dksX1_lowest_0 0 rfl rfl)
theorem dX1_lowest_1 : decode cX1_lowest 1 = .ok (.lookupswitch 58 #[(107, 42), (115, 27)], 27) := by decide +kernel
theorem dX1_lowest_28 : decode cX1_lowest 28 = .ok (.iload_n 1, 1) := dk_27 (dk_at dksX1_lowest_2 0 rfl rfl)
theorem dX1_lowest_29 : decode cX1_lowest 29 = .ok (.ifCond .eq 8, 3) := dk_153 0 8 (dk_at dksX1_lowest_2 1 rfl rfl)
theorem dX1_lowest_32 : decode cX1_lowest 32 = .ok (.iload_n 1, 1) := dk_27 (dk_at dksX1_lowest_2 4 rfl rfl)
theorem dX1_lowest_33 : decode cX1_lowest 33 = .ok (.iconst 2, 1) := dk_5 (dk_at dksX1_lowest_2 5 rfl rfl)
theorem dX1_lowest_34 : decode cX1_lowest 34 = .ok (.if_icmp .ne 7, 3) := dk_160 0 7 (dk_at dksX1_lowest_2 6 rfl rfl)
theorem dX1_lowest_37 : decode cX1_lowest 37 = .ok (.iconst 1, 1) := dk_4 (dk_at dksX1_lowest_2 9 rfl rfl)
theorem dX1_lowest_38 : decode cX1_lowest 38 = .ok (.goto 4, 3) := dk_167 0 4 (dk_at dksX1_lowest_2 10 rfl rfl)
theorem dX1_lowest_41 : decode cX1_lowest 41 = .ok (.iconst 0, 1) := dk_3 (dk_at dksX1_lowest_2 13 rfl rfl)
theorem dX1_lowest_42 : decode cX1_lowest 42 = .ok (.ireturn, 1) := dk_172 (dk_at dksX1_lowest_2 14 rfl rfl)
theorem dX1_lowest_43 : decode cX1_lowest 43 = .ok (.iload_n 1, 1) := dk_27 (dk_at dksX1_lowest_2 15 rfl rfl)
theorem dX1_lowest_44 : decode cX1_lowest 44 = .ok (.iconst 1, 1) := dk_4 (dk_at dksX1_lowest_2 16 rfl rfl)
theorem dX1_lowest_45 : decode cX1_lowest 45 = .ok (.if_icmp .eq 8, 3) := dk_159 0 8 (dk_at dksX1_lowest_2 17 rfl rfl)
theorem dX1_lowest_48 : decode cX1_lowest 48 = .ok (.iload_n 1, 1) := dk_27 (dk_at dksX1_lowest_2 20 rfl rfl)
theorem dX1_lowest_49 : decode cX1_lowest 49 = .ok (.iconst 2, 1) := dk_5 (dk_at dksX1_lowest_2 21 rfl rfl)
theorem dX1_lowest_50 : decode cX1_lowest 50 = .ok (.if_icmp .ne 7, 3) := dk_160 0 7 (dk_at dksX1_lowest_3 0 rfl rfl)
theorem dX1_lowest_53 : decode cX1_lowest 53 = .ok (.iconst 1, 1) := dk_4 (dk_at dksX1_lowest_3 3 rfl rfl)
theorem dX1_lowest_54 : decode cX1_lowest 54 = .ok (.goto 4, 3) := dk_167 0 4 (dk_at dksX1_lowest_3 4 rfl rfl)
theorem dX1_lowest_57 : decode cX1_lowest 57 = .ok (.iconst 0, 1) := dk_3 (dk_at dksX1_lowest_3 7 rfl rfl)
theorem dX1_lowest_58 : decode cX1_lowest 58 = .ok (.ireturn, 1) := dk_172 (dk_at dksX1_lowest_3 8 rfl rfl)
theorem dX1_lowest_59 : decode cX1_lowest 59 = .ok (.iload_n 1, 1) := dk_27 (dk_at dksX1_lowest_3 9 rfl rfl)
theorem dX1_lowest_60 : decode cX1_lowest 60 = .ok (.iconst 1, 1) := dk_4 (dk_at dksX1_lowest_3 10 rfl rfl)
theorem dX1_lowest_61 : decode cX1_lowest 61 = .ok (.if_icmp .ne 7, 3) := dk_160 0 7 (dk_at dksX1_lowest_3 11 rfl rfl)
theorem dX1_lowest_64 : decode cX1_lowest 64 = .ok (.iconst 1, 1) := dk_4 (dk_at dksX1_lowest_3 14 rfl rfl)
theorem dX1_lowest_65 : decode cX1_lowest 65 = .ok (.goto 4, 3) := dk_167 0 4 (dk_at dksX1_lowest_3 15 rfl rfl)
theorem dX1_lowest_68 : decode cX1_lowest 68 = .ok (.iconst 0, 1) := dk_3 (dk_at dksX1_lowest_3 18 rfl rfl)
theorem dX1_lowest_69 : decode cX1_lowest 69 = .ok (.ireturn, 1) := dk_172 (dk_at dksX1_lowest_3 19 rfl rfl)
abbrev cX1_highest : ByteArray := prog_1_method_29_code
def yX1_highest : MethodName := ⟨RX1, "highest", "(II)I"⟩
def dkwX1_highest_5 : List UInt8 := [27, 5, 160, 0, 8, 16, 99, 167, 0, 4, 4, 172]
abbrev dktX1_highest_5 : List UInt8 := dkwX1_highest_5 ++ []
def dkwX1_highest_4 : List UInt8 := [167, 0, 5, 16, 9, 172, 27, 154, 0, 7, 8, 167, 0, 24, 27, 4, 160, 0, 8, 16, 9, 167, 0, 14]
abbrev dktX1_highest_4 : List UInt8 := dkwX1_highest_4 ++ dktX1_highest_5
def dkwX1_highest_3 : List UInt8 := [154, 0, 7, 8, 167, 0, 25, 27, 5, 160, 0, 8, 16, 36, 167, 0, 15, 27, 7, 160, 0, 8, 16, 6]
abbrev dktX1_highest_3 : List UInt8 := dkwX1_highest_3 ++ dktX1_highest_4
def dkwX1_highest_2 : List UInt8 := [27, 4, 160, 0, 8, 16, 24, 167, 0, 14, 27, 6, 160, 0, 7, 8, 167, 0, 5, 16, 99, 172, 27]
abbrev dktX1_highest_2 : List UInt8 := dkwX1_highest_2 ++ dktX1_highest_3
def dkwX1_highest_1 : List UInt8 := [171, 0, 0, 0, 0, 0, 80, 0, 0, 0, 2, 0, 0, 0, 107, 0, 0, 0, 49, 0, 0, 0, 115, 0, 0, 0, 27]
abbrev dktX1_highest_1 : List UInt8 := dkwX1_highest_1 ++ dktX1_highest_2
def dkwX1_highest_0 : List UInt8 := [26]
abbrev dktX1_highest_0 : List UInt8 := dkwX1_highest_0 ++ dktX1_highest_1
theorem dksX1_highest_0 : cX1_highest.data.toList.drop 0 = dktX1_highest_0 := by decide +kernel
theorem dksX1_highest_1 : cX1_highest.data.toList.drop 1 = dktX1_highest_1 := dk_seg dksX1_highest_0 1 rfl rfl
theorem dksX1_highest_2 : cX1_highest.data.toList.drop 28 = dktX1_highest_2 := dk_seg dksX1_highest_1 27 rfl rfl
theorem dksX1_highest_3 : cX1_highest.data.toList.drop 51 = dktX1_highest_3 := dk_seg dksX1_highest_2 23 rfl rfl
theorem dksX1_highest_4 : cX1_highest.data.toList.drop 75 = dktX1_highest_4 := dk_seg dksX1_highest_3 24 rfl rfl
theorem dksX1_highest_5 : cX1_highest.data.toList.drop 99 = dktX1_highest_5 := dk_seg dksX1_highest_4 24 rfl rfl
theorem dX1_highest_0 : decode cX1_highest 0 = .ok (.iload_n 0, 1) := dk_26 (dk_at dksX1_highest_0 0 rfl rfl)
theorem dX1_highest_1 : decode cX1_highest 1 = .ok (.lookupswitch 80 #[(107, 49), (115, 27)], 27) := by decide +kernel
theorem dX1_highest_28 : decode cX1_highest 28 = .ok (.iload_n 1, 1) := dk_27 (dk_at dksX1_highest_2 0 rfl rfl)
theorem dX1_highest_29 : decode cX1_highest 29 = .ok (.iconst 1, 1) := dk_4 (dk_at dksX1_highest_2 1 rfl rfl)
theorem dX1_highest_30 : decode cX1_highest 30 = .ok (.if_icmp .ne 8, 3) := dk_160 0 8 (dk_at dksX1_highest_2 2 rfl rfl)
theorem dX1_highest_33 : decode cX1_highest 33 = .ok (.bipush 24, 2) := dk_16 24 (dk_at dksX1_highest_2 5 rfl rfl)
theorem dX1_highest_35 : decode cX1_highest 35 = .ok (.goto 14, 3) := dk_167 0 14 (dk_at dksX1_highest_2 7 rfl rfl)
theorem dX1_highest_38 : decode cX1_highest 38 = .ok (.iload_n 1, 1) := dk_27 (dk_at dksX1_highest_2 10 rfl rfl)
theorem dX1_highest_39 : decode cX1_highest 39 = .ok (.iconst 3, 1) := dk_6 (dk_at dksX1_highest_2 11 rfl rfl)
theorem dX1_highest_40 : decode cX1_highest 40 = .ok (.if_icmp .ne 7, 3) := dk_160 0 7 (dk_at dksX1_highest_2 12 rfl rfl)
theorem dX1_highest_43 : decode cX1_highest 43 = .ok (.iconst 5, 1) := dk_8 (dk_at dksX1_highest_2 15 rfl rfl)
theorem dX1_highest_44 : decode cX1_highest 44 = .ok (.goto 5, 3) := dk_167 0 5 (dk_at dksX1_highest_2 16 rfl rfl)
theorem dX1_highest_47 : decode cX1_highest 47 = .ok (.bipush 99, 2) := dk_16 99 (dk_at dksX1_highest_2 19 rfl rfl)
theorem dX1_highest_49 : decode cX1_highest 49 = .ok (.ireturn, 1) := dk_172 (dk_at dksX1_highest_2 21 rfl rfl)
theorem dX1_highest_50 : decode cX1_highest 50 = .ok (.iload_n 1, 1) := dk_27 (dk_at dksX1_highest_2 22 rfl rfl)
theorem dX1_highest_51 : decode cX1_highest 51 = .ok (.ifCond .ne 7, 3) := dk_154 0 7 (dk_at dksX1_highest_3 0 rfl rfl)
theorem dX1_highest_54 : decode cX1_highest 54 = .ok (.iconst 5, 1) := dk_8 (dk_at dksX1_highest_3 3 rfl rfl)
theorem dX1_highest_55 : decode cX1_highest 55 = .ok (.goto 25, 3) := dk_167 0 25 (dk_at dksX1_highest_3 4 rfl rfl)
theorem dX1_highest_58 : decode cX1_highest 58 = .ok (.iload_n 1, 1) := dk_27 (dk_at dksX1_highest_3 7 rfl rfl)
theorem dX1_highest_59 : decode cX1_highest 59 = .ok (.iconst 2, 1) := dk_5 (dk_at dksX1_highest_3 8 rfl rfl)
theorem dX1_highest_60 : decode cX1_highest 60 = .ok (.if_icmp .ne 8, 3) := dk_160 0 8 (dk_at dksX1_highest_3 9 rfl rfl)
theorem dX1_highest_63 : decode cX1_highest 63 = .ok (.bipush 36, 2) := dk_16 36 (dk_at dksX1_highest_3 12 rfl rfl)
theorem dX1_highest_65 : decode cX1_highest 65 = .ok (.goto 15, 3) := dk_167 0 15 (dk_at dksX1_highest_3 14 rfl rfl)
theorem dX1_highest_68 : decode cX1_highest 68 = .ok (.iload_n 1, 1) := dk_27 (dk_at dksX1_highest_3 17 rfl rfl)
theorem dX1_highest_69 : decode cX1_highest 69 = .ok (.iconst 4, 1) := dk_7 (dk_at dksX1_highest_3 18 rfl rfl)
theorem dX1_highest_70 : decode cX1_highest 70 = .ok (.if_icmp .ne 8, 3) := dk_160 0 8 (dk_at dksX1_highest_3 19 rfl rfl)
theorem dX1_highest_73 : decode cX1_highest 73 = .ok (.bipush 6, 2) := dk_16 6 (dk_at dksX1_highest_3 22 rfl rfl)
theorem dX1_highest_75 : decode cX1_highest 75 = .ok (.goto 5, 3) := dk_167 0 5 (dk_at dksX1_highest_4 0 rfl rfl)
theorem dX1_highest_78 : decode cX1_highest 78 = .ok (.bipush 9, 2) := dk_16 9 (dk_at dksX1_highest_4 3 rfl rfl)
theorem dX1_highest_80 : decode cX1_highest 80 = .ok (.ireturn, 1) := dk_172 (dk_at dksX1_highest_4 5 rfl rfl)
theorem dX1_highest_81 : decode cX1_highest 81 = .ok (.iload_n 1, 1) := dk_27 (dk_at dksX1_highest_4 6 rfl rfl)
theorem dX1_highest_82 : decode cX1_highest 82 = .ok (.ifCond .ne 7, 3) := dk_154 0 7 (dk_at dksX1_highest_4 7 rfl rfl)
theorem dX1_highest_85 : decode cX1_highest 85 = .ok (.iconst 5, 1) := dk_8 (dk_at dksX1_highest_4 10 rfl rfl)
theorem dX1_highest_86 : decode cX1_highest 86 = .ok (.goto 24, 3) := dk_167 0 24 (dk_at dksX1_highest_4 11 rfl rfl)
theorem dX1_highest_89 : decode cX1_highest 89 = .ok (.iload_n 1, 1) := dk_27 (dk_at dksX1_highest_4 14 rfl rfl)
theorem dX1_highest_90 : decode cX1_highest 90 = .ok (.iconst 1, 1) := dk_4 (dk_at dksX1_highest_4 15 rfl rfl)
theorem dX1_highest_91 : decode cX1_highest 91 = .ok (.if_icmp .ne 8, 3) := dk_160 0 8 (dk_at dksX1_highest_4 16 rfl rfl)
theorem dX1_highest_94 : decode cX1_highest 94 = .ok (.bipush 9, 2) := dk_16 9 (dk_at dksX1_highest_4 19 rfl rfl)
theorem dX1_highest_96 : decode cX1_highest 96 = .ok (.goto 14, 3) := dk_167 0 14 (dk_at dksX1_highest_4 21 rfl rfl)
theorem dX1_highest_99 : decode cX1_highest 99 = .ok (.iload_n 1, 1) := dk_27 (dk_at dksX1_highest_5 0 rfl rfl)
theorem dX1_highest_100 : decode cX1_highest 100 = .ok (.iconst 2, 1) := dk_5 (dk_at dksX1_highest_5 1 rfl rfl)
theorem dX1_highest_101 : decode cX1_highest 101 = .ok (.if_icmp .ne 8, 3) := dk_160 0 8 (dk_at dksX1_highest_5 2 rfl rfl)
theorem dX1_highest_104 : decode cX1_highest 104 = .ok (.bipush 99, 2) := dk_16 99 (dk_at dksX1_highest_5 5 rfl rfl)
theorem dX1_highest_106 : decode cX1_highest 106 = .ok (.goto 4, 3) := dk_167 0 4 (dk_at dksX1_highest_5 7 rfl rfl)
theorem dX1_highest_109 : decode cX1_highest 109 = .ok (.iconst 1, 1) := dk_4 (dk_at dksX1_highest_5 10 rfl rfl)
theorem dX1_highest_110 : decode cX1_highest 110 = .ok (.ireturn, 1) := dk_172 (dk_at dksX1_highest_5 11 rfl rfl)
abbrev cX1_number : ByteArray := prog_1_method_26_code
def yX1_number : MethodName := ⟨RX1, "number", "(II)I"⟩
def dkwX1_number_4 : List UInt8 := [180, 0, 105, 4, 100, 181, 0, 105, 42, 180, 0, 12, 191, 29, 172]
abbrev dktX1_number_4 : List UInt8 := dkwX1_number_4 ++ []
def dkwX1_number_3 : List UInt8 := [154, 0, 7, 4, 167, 0, 4, 3, 182, 0, 111, 29, 27, 28, 184, 0, 246, 154, 0, 18, 42, 89]
abbrev dktX1_number_3 : List UInt8 := dkwX1_number_3 ++ dktX1_number_4
def dkwX1_number_2 : List UInt8 := [16, 48, 100, 62, 42, 89, 180, 0, 105, 4, 96, 181, 0, 105, 42, 42, 182, 0, 243, 184, 0, 142]
abbrev dktX1_number_2 : List UInt8 := dkwX1_number_2 ++ dktX1_number_3
def dkwX1_number_1 : List UInt8 := [4, 96, 181, 0, 105, 42, 182, 0, 243, 184, 0, 142, 153, 0, 26, 16, 10, 29, 104, 42, 182, 0, 243, 96]
abbrev dktX1_number_1 : List UInt8 := dkwX1_number_1 ++ dktX1_number_2
def dkwX1_number_0 : List UInt8 := [42, 42, 182, 0, 115, 184, 0, 142, 182, 0, 111, 42, 182, 0, 243, 16, 48, 100, 62, 42, 89, 180, 0, 105]
abbrev dktX1_number_0 : List UInt8 := dkwX1_number_0 ++ dktX1_number_1
theorem dksX1_number_0 : cX1_number.data.toList.drop 0 = dktX1_number_0 := by decide +kernel
theorem dksX1_number_1 : cX1_number.data.toList.drop 24 = dktX1_number_1 := dk_seg dksX1_number_0 24 rfl rfl
theorem dksX1_number_2 : cX1_number.data.toList.drop 48 = dktX1_number_2 := dk_seg dksX1_number_1 24 rfl rfl
theorem dksX1_number_3 : cX1_number.data.toList.drop 70 = dktX1_number_3 := dk_seg dksX1_number_2 22 rfl rfl
theorem dksX1_number_4 : cX1_number.data.toList.drop 92 = dktX1_number_4 := dk_seg dksX1_number_3 22 rfl rfl
theorem dX1_number_0 : decode cX1_number 0 = .ok (.aload_n 0, 1) := dk_42 (dk_at dksX1_number_0 0 rfl rfl)
theorem dX1_number_1 : decode cX1_number 1 = .ok (.aload_n 0, 1) := dk_42 (dk_at dksX1_number_0 1 rfl rfl)
theorem dX1_number_2 : decode cX1_number 2 = .ok (.invokevirtual 115, 3) := dk_182 0 115 (dk_at dksX1_number_0 2 rfl rfl)
theorem dX1_number_5 : decode cX1_number 5 = .ok (.invokestatic 142, 3) := dk_184 0 142 (dk_at dksX1_number_0 5 rfl rfl)
theorem dX1_number_8 : decode cX1_number 8 = .ok (.invokevirtual 111, 3) := dk_182 0 111 (dk_at dksX1_number_0 8 rfl rfl)
theorem dX1_number_11 : decode cX1_number 11 = .ok (.aload_n 0, 1) := dk_42 (dk_at dksX1_number_0 11 rfl rfl)
theorem dX1_number_12 : decode cX1_number 12 = .ok (.invokevirtual 243, 3) := dk_182 0 243 (dk_at dksX1_number_0 12 rfl rfl)
theorem dX1_number_15 : decode cX1_number 15 = .ok (.bipush 48, 2) := dk_16 48 (dk_at dksX1_number_0 15 rfl rfl)
theorem dX1_number_17 : decode cX1_number 17 = .ok (.isub, 1) := dk_100 (dk_at dksX1_number_0 17 rfl rfl)
theorem dX1_number_18 : decode cX1_number 18 = .ok (.istore_n 3, 1) := dk_62 (dk_at dksX1_number_0 18 rfl rfl)
theorem dX1_number_19 : decode cX1_number 19 = .ok (.aload_n 0, 1) := dk_42 (dk_at dksX1_number_0 19 rfl rfl)
theorem dX1_number_20 : decode cX1_number 20 = .ok (.dup, 1) := dk_89 (dk_at dksX1_number_0 20 rfl rfl)
theorem dX1_number_21 : decode cX1_number 21 = .ok (.getfield 105, 3) := dk_180 0 105 (dk_at dksX1_number_0 21 rfl rfl)
theorem dX1_number_24 : decode cX1_number 24 = .ok (.iconst 1, 1) := dk_4 (dk_at dksX1_number_1 0 rfl rfl)
theorem dX1_number_25 : decode cX1_number 25 = .ok (.iadd, 1) := dk_96 (dk_at dksX1_number_1 1 rfl rfl)
theorem dX1_number_26 : decode cX1_number 26 = .ok (.putfield 105, 3) := dk_181 0 105 (dk_at dksX1_number_1 2 rfl rfl)
theorem dX1_number_29 : decode cX1_number 29 = .ok (.aload_n 0, 1) := dk_42 (dk_at dksX1_number_1 5 rfl rfl)
theorem dX1_number_30 : decode cX1_number 30 = .ok (.invokevirtual 243, 3) := dk_182 0 243 (dk_at dksX1_number_1 6 rfl rfl)
theorem dX1_number_33 : decode cX1_number 33 = .ok (.invokestatic 142, 3) := dk_184 0 142 (dk_at dksX1_number_1 9 rfl rfl)
theorem dX1_number_36 : decode cX1_number 36 = .ok (.ifCond .eq 26, 3) := dk_153 0 26 (dk_at dksX1_number_1 12 rfl rfl)
theorem dX1_number_39 : decode cX1_number 39 = .ok (.bipush 10, 2) := dk_16 10 (dk_at dksX1_number_1 15 rfl rfl)
theorem dX1_number_41 : decode cX1_number 41 = .ok (.iload_n 3, 1) := dk_29 (dk_at dksX1_number_1 17 rfl rfl)
theorem dX1_number_42 : decode cX1_number 42 = .ok (.imul, 1) := dk_104 (dk_at dksX1_number_1 18 rfl rfl)
theorem dX1_number_43 : decode cX1_number 43 = .ok (.aload_n 0, 1) := dk_42 (dk_at dksX1_number_1 19 rfl rfl)
theorem dX1_number_44 : decode cX1_number 44 = .ok (.invokevirtual 243, 3) := dk_182 0 243 (dk_at dksX1_number_1 20 rfl rfl)
theorem dX1_number_47 : decode cX1_number 47 = .ok (.iadd, 1) := dk_96 (dk_at dksX1_number_1 23 rfl rfl)
theorem dX1_number_48 : decode cX1_number 48 = .ok (.bipush 48, 2) := dk_16 48 (dk_at dksX1_number_2 0 rfl rfl)
theorem dX1_number_50 : decode cX1_number 50 = .ok (.isub, 1) := dk_100 (dk_at dksX1_number_2 2 rfl rfl)
theorem dX1_number_51 : decode cX1_number 51 = .ok (.istore_n 3, 1) := dk_62 (dk_at dksX1_number_2 3 rfl rfl)
theorem dX1_number_52 : decode cX1_number 52 = .ok (.aload_n 0, 1) := dk_42 (dk_at dksX1_number_2 4 rfl rfl)
theorem dX1_number_53 : decode cX1_number 53 = .ok (.dup, 1) := dk_89 (dk_at dksX1_number_2 5 rfl rfl)
theorem dX1_number_54 : decode cX1_number 54 = .ok (.getfield 105, 3) := dk_180 0 105 (dk_at dksX1_number_2 6 rfl rfl)
theorem dX1_number_57 : decode cX1_number 57 = .ok (.iconst 1, 1) := dk_4 (dk_at dksX1_number_2 9 rfl rfl)
theorem dX1_number_58 : decode cX1_number 58 = .ok (.iadd, 1) := dk_96 (dk_at dksX1_number_2 10 rfl rfl)
theorem dX1_number_59 : decode cX1_number 59 = .ok (.putfield 105, 3) := dk_181 0 105 (dk_at dksX1_number_2 11 rfl rfl)
theorem dX1_number_62 : decode cX1_number 62 = .ok (.aload_n 0, 1) := dk_42 (dk_at dksX1_number_2 14 rfl rfl)
theorem dX1_number_63 : decode cX1_number 63 = .ok (.aload_n 0, 1) := dk_42 (dk_at dksX1_number_2 15 rfl rfl)
theorem dX1_number_64 : decode cX1_number 64 = .ok (.invokevirtual 243, 3) := dk_182 0 243 (dk_at dksX1_number_2 16 rfl rfl)
theorem dX1_number_67 : decode cX1_number 67 = .ok (.invokestatic 142, 3) := dk_184 0 142 (dk_at dksX1_number_2 19 rfl rfl)
theorem dX1_number_70 : decode cX1_number 70 = .ok (.ifCond .ne 7, 3) := dk_154 0 7 (dk_at dksX1_number_3 0 rfl rfl)
theorem dX1_number_73 : decode cX1_number 73 = .ok (.iconst 1, 1) := dk_4 (dk_at dksX1_number_3 3 rfl rfl)
theorem dX1_number_74 : decode cX1_number 74 = .ok (.goto 4, 3) := dk_167 0 4 (dk_at dksX1_number_3 4 rfl rfl)
theorem dX1_number_77 : decode cX1_number 77 = .ok (.iconst 0, 1) := dk_3 (dk_at dksX1_number_3 7 rfl rfl)
theorem dX1_number_78 : decode cX1_number 78 = .ok (.invokevirtual 111, 3) := dk_182 0 111 (dk_at dksX1_number_3 8 rfl rfl)
theorem dX1_number_81 : decode cX1_number 81 = .ok (.iload_n 3, 1) := dk_29 (dk_at dksX1_number_3 11 rfl rfl)
theorem dX1_number_82 : decode cX1_number 82 = .ok (.iload_n 1, 1) := dk_27 (dk_at dksX1_number_3 12 rfl rfl)
theorem dX1_number_83 : decode cX1_number 83 = .ok (.iload_n 2, 1) := dk_28 (dk_at dksX1_number_3 13 rfl rfl)
theorem dX1_number_84 : decode cX1_number 84 = .ok (.invokestatic 246, 3) := dk_184 0 246 (dk_at dksX1_number_3 14 rfl rfl)
theorem dX1_number_87 : decode cX1_number 87 = .ok (.ifCond .ne 18, 3) := dk_154 0 18 (dk_at dksX1_number_3 17 rfl rfl)
theorem dX1_number_90 : decode cX1_number 90 = .ok (.aload_n 0, 1) := dk_42 (dk_at dksX1_number_3 20 rfl rfl)
theorem dX1_number_91 : decode cX1_number 91 = .ok (.dup, 1) := dk_89 (dk_at dksX1_number_3 21 rfl rfl)
theorem dX1_number_92 : decode cX1_number 92 = .ok (.getfield 105, 3) := dk_180 0 105 (dk_at dksX1_number_4 0 rfl rfl)
theorem dX1_number_95 : decode cX1_number 95 = .ok (.iconst 1, 1) := dk_4 (dk_at dksX1_number_4 3 rfl rfl)
theorem dX1_number_96 : decode cX1_number 96 = .ok (.isub, 1) := dk_100 (dk_at dksX1_number_4 4 rfl rfl)
theorem dX1_number_97 : decode cX1_number 97 = .ok (.putfield 105, 3) := dk_181 0 105 (dk_at dksX1_number_4 5 rfl rfl)
theorem dX1_number_100 : decode cX1_number 100 = .ok (.aload_n 0, 1) := dk_42 (dk_at dksX1_number_4 8 rfl rfl)
theorem dX1_number_101 : decode cX1_number 101 = .ok (.getfield 12, 3) := dk_180 0 12 (dk_at dksX1_number_4 9 rfl rfl)
theorem dX1_number_104 : decode cX1_number 104 = .ok (.athrow, 1) := dk_191 (dk_at dksX1_number_4 12 rfl rfl)
theorem dX1_number_105 : decode cX1_number 105 = .ok (.iload_n 3, 1) := dk_29 (dk_at dksX1_number_4 13 rfl rfl)
theorem dX1_number_106 : decode cX1_number 106 = .ok (.ireturn, 1) := dk_172 (dk_at dksX1_number_4 14 rfl rfl)
abbrev cX1_in : ByteArray := prog_1_method_1_code
def yX1_in : MethodName := ⟨RX1, "in", "(III)Z"⟩
def dkwX1_in_0 : List UInt8 := [26, 27, 161, 0, 12, 26, 28, 163, 0, 7, 4, 167, 0, 4, 3, 172]
abbrev dktX1_in_0 : List UInt8 := dkwX1_in_0 ++ []
theorem dksX1_in_0 : cX1_in.data.toList.drop 0 = dktX1_in_0 := by decide +kernel
theorem dX1_in_0 : decode cX1_in 0 = .ok (.iload_n 0, 1) := dk_26 (dk_at dksX1_in_0 0 rfl rfl)
theorem dX1_in_1 : decode cX1_in 1 = .ok (.iload_n 1, 1) := dk_27 (dk_at dksX1_in_0 1 rfl rfl)
theorem dX1_in_2 : decode cX1_in 2 = .ok (.if_icmp .lt 12, 3) := dk_161 0 12 (dk_at dksX1_in_0 2 rfl rfl)
theorem dX1_in_5 : decode cX1_in 5 = .ok (.iload_n 0, 1) := dk_26 (dk_at dksX1_in_0 5 rfl rfl)
theorem dX1_in_6 : decode cX1_in 6 = .ok (.iload_n 2, 1) := dk_28 (dk_at dksX1_in_0 6 rfl rfl)
theorem dX1_in_7 : decode cX1_in 7 = .ok (.if_icmp .gt 7, 3) := dk_163 0 7 (dk_at dksX1_in_0 7 rfl rfl)
theorem dX1_in_10 : decode cX1_in 10 = .ok (.iconst 1, 1) := dk_4 (dk_at dksX1_in_0 10 rfl rfl)
theorem dX1_in_11 : decode cX1_in 11 = .ok (.goto 4, 3) := dk_167 0 4 (dk_at dksX1_in_0 11 rfl rfl)
theorem dX1_in_14 : decode cX1_in 14 = .ok (.iconst 0, 1) := dk_3 (dk_at dksX1_in_0 14 rfl rfl)
theorem dX1_in_15 : decode cX1_in 15 = .ok (.ireturn, 1) := dk_172 (dk_at dksX1_in_0 15 rfl rfl)
abbrev cX1_isWhole : ByteArray := prog_1_method_32_code
def yX1_isWhole : MethodName := ⟨RX1, "isWhole", "()Z"⟩
def dkwX1_isWhole_6 : List UInt8 := [167, 0, 4, 3, 172]
abbrev dktX1_isWhole_6 : List UInt8 := dkwX1_isWhole_6 ++ []
def dkwX1_isWhole_5 : List UInt8 := [96, 61, 132, 3, 1, 167, 255, 205, 27, 153, 0, 17, 28, 42, 180, 0, 24, 3, 46, 163, 0, 7, 4]
abbrev dktX1_isWhole_5 : List UInt8 := dkwX1_isWhole_5 ++ dktX1_isWhole_6
def dkwX1_isWhole_4 : List UInt8 := [42, 180, 1, 20, 162, 0, 7, 4, 167, 0, 4, 3, 60, 28, 42, 180, 0, 30, 7, 29, 104, 4, 96, 46]
abbrev dktX1_isWhole_4 : List UInt8 := dkwX1_isWhole_4 ++ dktX1_isWhole_5
def dkwX1_isWhole_3 : List UInt8 := [3, 62, 29, 42, 180, 1, 23, 162, 0, 49, 27, 153, 0, 24, 42, 180, 0, 30, 7, 29, 104, 3, 96, 46]
abbrev dktX1_isWhole_3 : List UInt8 := dkwX1_isWhole_3 ++ dktX1_isWhole_4
def dkwX1_isWhole_2 : List UInt8 := [159, 0, 12, 21, 4, 42, 180, 1, 20, 162, 0, 7, 4, 167, 0, 4, 3, 60, 132, 3, 1, 167, 255, 207]
abbrev dktX1_isWhole_2 : List UInt8 := dkwX1_isWhole_2 ++ dktX1_isWhole_3
def dkwX1_isWhole_1 : List UInt8 := [162, 0, 47, 42, 180, 0, 27, 8, 29, 104, 7, 96, 46, 54, 4, 27, 153, 0, 23, 21, 4, 16, 6]
abbrev dktX1_isWhole_1 : List UInt8 := dkwX1_isWhole_1 ++ dktX1_isWhole_2
def dkwX1_isWhole_0 : List UInt8 := [42, 180, 1, 20, 158, 0, 7, 4, 167, 0, 4, 3, 60, 3, 61, 3, 62, 29, 42, 180, 1, 20]
abbrev dktX1_isWhole_0 : List UInt8 := dkwX1_isWhole_0 ++ dktX1_isWhole_1
theorem dksX1_isWhole_0 : cX1_isWhole.data.toList.drop 0 = dktX1_isWhole_0 := by decide +kernel
theorem dksX1_isWhole_1 : cX1_isWhole.data.toList.drop 22 = dktX1_isWhole_1 := dk_seg dksX1_isWhole_0 22 rfl rfl
theorem dksX1_isWhole_2 : cX1_isWhole.data.toList.drop 45 = dktX1_isWhole_2 := dk_seg dksX1_isWhole_1 23 rfl rfl
theorem dksX1_isWhole_3 : cX1_isWhole.data.toList.drop 69 = dktX1_isWhole_3 := dk_seg dksX1_isWhole_2 24 rfl rfl
theorem dksX1_isWhole_4 : cX1_isWhole.data.toList.drop 93 = dktX1_isWhole_4 := dk_seg dksX1_isWhole_3 24 rfl rfl
theorem dksX1_isWhole_5 : cX1_isWhole.data.toList.drop 117 = dktX1_isWhole_5 := dk_seg dksX1_isWhole_4 24 rfl rfl
theorem dksX1_isWhole_6 : cX1_isWhole.data.toList.drop 140 = dktX1_isWhole_6 := dk_seg dksX1_isWhole_5 23 rfl rfl
theorem dX1_isWhole_0 : decode cX1_isWhole 0 = .ok (.aload_n 0, 1) := dk_42 (dk_at dksX1_isWhole_0 0 rfl rfl)
theorem dX1_isWhole_1 : decode cX1_isWhole 1 = .ok (.getfield 276, 3) := dk_180 1 20 (dk_at dksX1_isWhole_0 1 rfl rfl)
theorem dX1_isWhole_4 : decode cX1_isWhole 4 = .ok (.ifCond .le 7, 3) := dk_158 0 7 (dk_at dksX1_isWhole_0 4 rfl rfl)
theorem dX1_isWhole_7 : decode cX1_isWhole 7 = .ok (.iconst 1, 1) := dk_4 (dk_at dksX1_isWhole_0 7 rfl rfl)
theorem dX1_isWhole_8 : decode cX1_isWhole 8 = .ok (.goto 4, 3) := dk_167 0 4 (dk_at dksX1_isWhole_0 8 rfl rfl)
theorem dX1_isWhole_11 : decode cX1_isWhole 11 = .ok (.iconst 0, 1) := dk_3 (dk_at dksX1_isWhole_0 11 rfl rfl)
theorem dX1_isWhole_12 : decode cX1_isWhole 12 = .ok (.istore_n 1, 1) := dk_60 (dk_at dksX1_isWhole_0 12 rfl rfl)
theorem dX1_isWhole_13 : decode cX1_isWhole 13 = .ok (.iconst 0, 1) := dk_3 (dk_at dksX1_isWhole_0 13 rfl rfl)
theorem dX1_isWhole_14 : decode cX1_isWhole 14 = .ok (.istore_n 2, 1) := dk_61 (dk_at dksX1_isWhole_0 14 rfl rfl)
theorem dX1_isWhole_15 : decode cX1_isWhole 15 = .ok (.iconst 0, 1) := dk_3 (dk_at dksX1_isWhole_0 15 rfl rfl)
theorem dX1_isWhole_16 : decode cX1_isWhole 16 = .ok (.istore_n 3, 1) := dk_62 (dk_at dksX1_isWhole_0 16 rfl rfl)
theorem dX1_isWhole_17 : decode cX1_isWhole 17 = .ok (.iload_n 3, 1) := dk_29 (dk_at dksX1_isWhole_0 17 rfl rfl)
theorem dX1_isWhole_18 : decode cX1_isWhole 18 = .ok (.aload_n 0, 1) := dk_42 (dk_at dksX1_isWhole_0 18 rfl rfl)
theorem dX1_isWhole_19 : decode cX1_isWhole 19 = .ok (.getfield 276, 3) := dk_180 1 20 (dk_at dksX1_isWhole_0 19 rfl rfl)
theorem dX1_isWhole_22 : decode cX1_isWhole 22 = .ok (.if_icmp .ge 47, 3) := dk_162 0 47 (dk_at dksX1_isWhole_1 0 rfl rfl)
theorem dX1_isWhole_25 : decode cX1_isWhole 25 = .ok (.aload_n 0, 1) := dk_42 (dk_at dksX1_isWhole_1 3 rfl rfl)
theorem dX1_isWhole_26 : decode cX1_isWhole 26 = .ok (.getfield 27, 3) := dk_180 0 27 (dk_at dksX1_isWhole_1 4 rfl rfl)
theorem dX1_isWhole_29 : decode cX1_isWhole 29 = .ok (.iconst 5, 1) := dk_8 (dk_at dksX1_isWhole_1 7 rfl rfl)
theorem dX1_isWhole_30 : decode cX1_isWhole 30 = .ok (.iload_n 3, 1) := dk_29 (dk_at dksX1_isWhole_1 8 rfl rfl)
theorem dX1_isWhole_31 : decode cX1_isWhole 31 = .ok (.imul, 1) := dk_104 (dk_at dksX1_isWhole_1 9 rfl rfl)
theorem dX1_isWhole_32 : decode cX1_isWhole 32 = .ok (.iconst 4, 1) := dk_7 (dk_at dksX1_isWhole_1 10 rfl rfl)
theorem dX1_isWhole_33 : decode cX1_isWhole 33 = .ok (.iadd, 1) := dk_96 (dk_at dksX1_isWhole_1 11 rfl rfl)
theorem dX1_isWhole_34 : decode cX1_isWhole 34 = .ok (.iaload, 1) := dk_46 (dk_at dksX1_isWhole_1 12 rfl rfl)
theorem dX1_isWhole_35 : decode cX1_isWhole 35 = .ok (.istore 4, 2) := dk_54 4 (dk_at dksX1_isWhole_1 13 rfl rfl)
theorem dX1_isWhole_37 : decode cX1_isWhole 37 = .ok (.iload_n 1, 1) := dk_27 (dk_at dksX1_isWhole_1 15 rfl rfl)
theorem dX1_isWhole_38 : decode cX1_isWhole 38 = .ok (.ifCond .eq 23, 3) := dk_153 0 23 (dk_at dksX1_isWhole_1 16 rfl rfl)
theorem dX1_isWhole_41 : decode cX1_isWhole 41 = .ok (.iload 4, 2) := dk_21 4 (dk_at dksX1_isWhole_1 19 rfl rfl)
theorem dX1_isWhole_43 : decode cX1_isWhole 43 = .ok (.bipush 6, 2) := dk_16 6 (dk_at dksX1_isWhole_1 21 rfl rfl)
theorem dX1_isWhole_45 : decode cX1_isWhole 45 = .ok (.if_icmp .eq 12, 3) := dk_159 0 12 (dk_at dksX1_isWhole_2 0 rfl rfl)
theorem dX1_isWhole_48 : decode cX1_isWhole 48 = .ok (.iload 4, 2) := dk_21 4 (dk_at dksX1_isWhole_2 3 rfl rfl)
theorem dX1_isWhole_50 : decode cX1_isWhole 50 = .ok (.aload_n 0, 1) := dk_42 (dk_at dksX1_isWhole_2 5 rfl rfl)
theorem dX1_isWhole_51 : decode cX1_isWhole 51 = .ok (.getfield 276, 3) := dk_180 1 20 (dk_at dksX1_isWhole_2 6 rfl rfl)
theorem dX1_isWhole_54 : decode cX1_isWhole 54 = .ok (.if_icmp .ge 7, 3) := dk_162 0 7 (dk_at dksX1_isWhole_2 9 rfl rfl)
theorem dX1_isWhole_57 : decode cX1_isWhole 57 = .ok (.iconst 1, 1) := dk_4 (dk_at dksX1_isWhole_2 12 rfl rfl)
theorem dX1_isWhole_58 : decode cX1_isWhole 58 = .ok (.goto 4, 3) := dk_167 0 4 (dk_at dksX1_isWhole_2 13 rfl rfl)
theorem dX1_isWhole_61 : decode cX1_isWhole 61 = .ok (.iconst 0, 1) := dk_3 (dk_at dksX1_isWhole_2 16 rfl rfl)
theorem dX1_isWhole_62 : decode cX1_isWhole 62 = .ok (.istore_n 1, 1) := dk_60 (dk_at dksX1_isWhole_2 17 rfl rfl)
theorem dX1_isWhole_63 : decode cX1_isWhole 63 = .ok (.iinc 3 1, 3) := dk_132 3 1 (dk_at dksX1_isWhole_2 18 rfl rfl)
theorem dX1_isWhole_66 : decode cX1_isWhole 66 = .ok (.goto (-49), 3) := dk_167 255 207 (dk_at dksX1_isWhole_2 21 rfl rfl)
theorem dX1_isWhole_69 : decode cX1_isWhole 69 = .ok (.iconst 0, 1) := dk_3 (dk_at dksX1_isWhole_3 0 rfl rfl)
theorem dX1_isWhole_70 : decode cX1_isWhole 70 = .ok (.istore_n 3, 1) := dk_62 (dk_at dksX1_isWhole_3 1 rfl rfl)
theorem dX1_isWhole_71 : decode cX1_isWhole 71 = .ok (.iload_n 3, 1) := dk_29 (dk_at dksX1_isWhole_3 2 rfl rfl)
theorem dX1_isWhole_72 : decode cX1_isWhole 72 = .ok (.aload_n 0, 1) := dk_42 (dk_at dksX1_isWhole_3 3 rfl rfl)
theorem dX1_isWhole_73 : decode cX1_isWhole 73 = .ok (.getfield 279, 3) := dk_180 1 23 (dk_at dksX1_isWhole_3 4 rfl rfl)
theorem dX1_isWhole_76 : decode cX1_isWhole 76 = .ok (.if_icmp .ge 49, 3) := dk_162 0 49 (dk_at dksX1_isWhole_3 7 rfl rfl)
theorem dX1_isWhole_79 : decode cX1_isWhole 79 = .ok (.iload_n 1, 1) := dk_27 (dk_at dksX1_isWhole_3 10 rfl rfl)
theorem dX1_isWhole_80 : decode cX1_isWhole 80 = .ok (.ifCond .eq 24, 3) := dk_153 0 24 (dk_at dksX1_isWhole_3 11 rfl rfl)
theorem dX1_isWhole_83 : decode cX1_isWhole 83 = .ok (.aload_n 0, 1) := dk_42 (dk_at dksX1_isWhole_3 14 rfl rfl)
theorem dX1_isWhole_84 : decode cX1_isWhole 84 = .ok (.getfield 30, 3) := dk_180 0 30 (dk_at dksX1_isWhole_3 15 rfl rfl)
theorem dX1_isWhole_87 : decode cX1_isWhole 87 = .ok (.iconst 4, 1) := dk_7 (dk_at dksX1_isWhole_3 18 rfl rfl)
theorem dX1_isWhole_88 : decode cX1_isWhole 88 = .ok (.iload_n 3, 1) := dk_29 (dk_at dksX1_isWhole_3 19 rfl rfl)
theorem dX1_isWhole_89 : decode cX1_isWhole 89 = .ok (.imul, 1) := dk_104 (dk_at dksX1_isWhole_3 20 rfl rfl)
theorem dX1_isWhole_90 : decode cX1_isWhole 90 = .ok (.iconst 0, 1) := dk_3 (dk_at dksX1_isWhole_3 21 rfl rfl)
theorem dX1_isWhole_91 : decode cX1_isWhole 91 = .ok (.iadd, 1) := dk_96 (dk_at dksX1_isWhole_3 22 rfl rfl)
theorem dX1_isWhole_92 : decode cX1_isWhole 92 = .ok (.iaload, 1) := dk_46 (dk_at dksX1_isWhole_3 23 rfl rfl)
theorem dX1_isWhole_93 : decode cX1_isWhole 93 = .ok (.aload_n 0, 1) := dk_42 (dk_at dksX1_isWhole_4 0 rfl rfl)
theorem dX1_isWhole_94 : decode cX1_isWhole 94 = .ok (.getfield 276, 3) := dk_180 1 20 (dk_at dksX1_isWhole_4 1 rfl rfl)
theorem dX1_isWhole_97 : decode cX1_isWhole 97 = .ok (.if_icmp .ge 7, 3) := dk_162 0 7 (dk_at dksX1_isWhole_4 4 rfl rfl)
theorem dX1_isWhole_100 : decode cX1_isWhole 100 = .ok (.iconst 1, 1) := dk_4 (dk_at dksX1_isWhole_4 7 rfl rfl)
theorem dX1_isWhole_101 : decode cX1_isWhole 101 = .ok (.goto 4, 3) := dk_167 0 4 (dk_at dksX1_isWhole_4 8 rfl rfl)
theorem dX1_isWhole_104 : decode cX1_isWhole 104 = .ok (.iconst 0, 1) := dk_3 (dk_at dksX1_isWhole_4 11 rfl rfl)
theorem dX1_isWhole_105 : decode cX1_isWhole 105 = .ok (.istore_n 1, 1) := dk_60 (dk_at dksX1_isWhole_4 12 rfl rfl)
theorem dX1_isWhole_106 : decode cX1_isWhole 106 = .ok (.iload_n 2, 1) := dk_28 (dk_at dksX1_isWhole_4 13 rfl rfl)
theorem dX1_isWhole_107 : decode cX1_isWhole 107 = .ok (.aload_n 0, 1) := dk_42 (dk_at dksX1_isWhole_4 14 rfl rfl)
theorem dX1_isWhole_108 : decode cX1_isWhole 108 = .ok (.getfield 30, 3) := dk_180 0 30 (dk_at dksX1_isWhole_4 15 rfl rfl)
theorem dX1_isWhole_111 : decode cX1_isWhole 111 = .ok (.iconst 4, 1) := dk_7 (dk_at dksX1_isWhole_4 18 rfl rfl)
theorem dX1_isWhole_112 : decode cX1_isWhole 112 = .ok (.iload_n 3, 1) := dk_29 (dk_at dksX1_isWhole_4 19 rfl rfl)
theorem dX1_isWhole_113 : decode cX1_isWhole 113 = .ok (.imul, 1) := dk_104 (dk_at dksX1_isWhole_4 20 rfl rfl)
theorem dX1_isWhole_114 : decode cX1_isWhole 114 = .ok (.iconst 1, 1) := dk_4 (dk_at dksX1_isWhole_4 21 rfl rfl)
theorem dX1_isWhole_115 : decode cX1_isWhole 115 = .ok (.iadd, 1) := dk_96 (dk_at dksX1_isWhole_4 22 rfl rfl)
theorem dX1_isWhole_116 : decode cX1_isWhole 116 = .ok (.iaload, 1) := dk_46 (dk_at dksX1_isWhole_4 23 rfl rfl)
theorem dX1_isWhole_117 : decode cX1_isWhole 117 = .ok (.iadd, 1) := dk_96 (dk_at dksX1_isWhole_5 0 rfl rfl)
theorem dX1_isWhole_118 : decode cX1_isWhole 118 = .ok (.istore_n 2, 1) := dk_61 (dk_at dksX1_isWhole_5 1 rfl rfl)
theorem dX1_isWhole_119 : decode cX1_isWhole 119 = .ok (.iinc 3 1, 3) := dk_132 3 1 (dk_at dksX1_isWhole_5 2 rfl rfl)
theorem dX1_isWhole_122 : decode cX1_isWhole 122 = .ok (.goto (-51), 3) := dk_167 255 205 (dk_at dksX1_isWhole_5 5 rfl rfl)
theorem dX1_isWhole_125 : decode cX1_isWhole 125 = .ok (.iload_n 1, 1) := dk_27 (dk_at dksX1_isWhole_5 8 rfl rfl)
theorem dX1_isWhole_126 : decode cX1_isWhole 126 = .ok (.ifCond .eq 17, 3) := dk_153 0 17 (dk_at dksX1_isWhole_5 9 rfl rfl)
theorem dX1_isWhole_129 : decode cX1_isWhole 129 = .ok (.iload_n 2, 1) := dk_28 (dk_at dksX1_isWhole_5 12 rfl rfl)
theorem dX1_isWhole_130 : decode cX1_isWhole 130 = .ok (.aload_n 0, 1) := dk_42 (dk_at dksX1_isWhole_5 13 rfl rfl)
theorem dX1_isWhole_131 : decode cX1_isWhole 131 = .ok (.getfield 24, 3) := dk_180 0 24 (dk_at dksX1_isWhole_5 14 rfl rfl)
theorem dX1_isWhole_134 : decode cX1_isWhole 134 = .ok (.iconst 0, 1) := dk_3 (dk_at dksX1_isWhole_5 17 rfl rfl)
theorem dX1_isWhole_135 : decode cX1_isWhole 135 = .ok (.iaload, 1) := dk_46 (dk_at dksX1_isWhole_5 18 rfl rfl)
theorem dX1_isWhole_136 : decode cX1_isWhole 136 = .ok (.if_icmp .gt 7, 3) := dk_163 0 7 (dk_at dksX1_isWhole_5 19 rfl rfl)
theorem dX1_isWhole_139 : decode cX1_isWhole 139 = .ok (.iconst 1, 1) := dk_4 (dk_at dksX1_isWhole_5 22 rfl rfl)
theorem dX1_isWhole_140 : decode cX1_isWhole 140 = .ok (.goto 4, 3) := dk_167 0 4 (dk_at dksX1_isWhole_6 0 rfl rfl)
theorem dX1_isWhole_143 : decode cX1_isWhole 143 = .ok (.iconst 0, 1) := dk_3 (dk_at dksX1_isWhole_6 3 rfl rfl)
theorem dX1_isWhole_144 : decode cX1_isWhole 144 = .ok (.ireturn, 1) := dk_172 (dk_at dksX1_isWhole_6 4 rfl rfl)
abbrev cX1_wholePlan : ByteArray := prog_1_method_36_code
def yX1_wholePlan : MethodName := ⟨RX1, "wholePlan", "(I)V"⟩
def dkwX1_wholePlan_4 : List UInt8 := [160, 0, 7, 4, 167, 0, 4, 3, 182, 0, 111, 177]
abbrev dktX1_wholePlan_4 : List UInt8 := dkwX1_wholePlan_4 ++ []
def dkwX1_wholePlan_3 : List UInt8 := [61, 28, 153, 255, 198, 42, 89, 180, 0, 105, 4, 96, 181, 0, 105, 167, 255, 185, 42, 42, 182, 0, 115, 2]
abbrev dktX1_wholePlan_3 : List UInt8 := dkwX1_wholePlan_3 ++ dktX1_wholePlan_4
def dkwX1_wholePlan_2 : List UInt8 := [182, 0, 115, 16, 59, 160, 0, 18, 42, 180, 0, 42, 27, 46, 16, 16, 162, 0, 7, 4, 167, 0, 4, 3]
abbrev dktX1_wholePlan_2 : List UInt8 := dkwX1_wholePlan_2 ++ dktX1_wholePlan_3
def dkwX1_wholePlan_1 : List UInt8 := [42, 180, 0, 42, 27, 46, 96, 104, 182, 1, 39, 42, 180, 0, 42, 27, 92, 46, 4, 96, 79, 42]
abbrev dktX1_wholePlan_1 : List UInt8 := dkwX1_wholePlan_1 ++ dktX1_wholePlan_2
def dkwX1_wholePlan_0 : List UInt8 := [42, 3, 181, 0, 105, 42, 180, 0, 42, 27, 3, 79, 4, 61, 28, 153, 0, 73, 42, 7, 16, 16, 27, 104]
abbrev dktX1_wholePlan_0 : List UInt8 := dkwX1_wholePlan_0 ++ dktX1_wholePlan_1
theorem dksX1_wholePlan_0 : cX1_wholePlan.data.toList.drop 0 = dktX1_wholePlan_0 := by decide +kernel
theorem dksX1_wholePlan_1 : cX1_wholePlan.data.toList.drop 24 = dktX1_wholePlan_1 := dk_seg dksX1_wholePlan_0 24 rfl rfl
theorem dksX1_wholePlan_2 : cX1_wholePlan.data.toList.drop 46 = dktX1_wholePlan_2 := dk_seg dksX1_wholePlan_1 22 rfl rfl
theorem dksX1_wholePlan_3 : cX1_wholePlan.data.toList.drop 70 = dktX1_wholePlan_3 := dk_seg dksX1_wholePlan_2 24 rfl rfl
theorem dksX1_wholePlan_4 : cX1_wholePlan.data.toList.drop 94 = dktX1_wholePlan_4 := dk_seg dksX1_wholePlan_3 24 rfl rfl
theorem dX1_wholePlan_0 : decode cX1_wholePlan 0 = .ok (.aload_n 0, 1) := dk_42 (dk_at dksX1_wholePlan_0 0 rfl rfl)
theorem dX1_wholePlan_1 : decode cX1_wholePlan 1 = .ok (.iconst 0, 1) := dk_3 (dk_at dksX1_wholePlan_0 1 rfl rfl)
theorem dX1_wholePlan_2 : decode cX1_wholePlan 2 = .ok (.putfield 105, 3) := dk_181 0 105 (dk_at dksX1_wholePlan_0 2 rfl rfl)
theorem dX1_wholePlan_5 : decode cX1_wholePlan 5 = .ok (.aload_n 0, 1) := dk_42 (dk_at dksX1_wholePlan_0 5 rfl rfl)
theorem dX1_wholePlan_6 : decode cX1_wholePlan 6 = .ok (.getfield 42, 3) := dk_180 0 42 (dk_at dksX1_wholePlan_0 6 rfl rfl)
theorem dX1_wholePlan_9 : decode cX1_wholePlan 9 = .ok (.iload_n 1, 1) := dk_27 (dk_at dksX1_wholePlan_0 9 rfl rfl)
theorem dX1_wholePlan_10 : decode cX1_wholePlan 10 = .ok (.iconst 0, 1) := dk_3 (dk_at dksX1_wholePlan_0 10 rfl rfl)
theorem dX1_wholePlan_11 : decode cX1_wholePlan 11 = .ok (.iastore, 1) := dk_79 (dk_at dksX1_wholePlan_0 11 rfl rfl)
theorem dX1_wholePlan_12 : decode cX1_wholePlan 12 = .ok (.iconst 1, 1) := dk_4 (dk_at dksX1_wholePlan_0 12 rfl rfl)
theorem dX1_wholePlan_13 : decode cX1_wholePlan 13 = .ok (.istore_n 2, 1) := dk_61 (dk_at dksX1_wholePlan_0 13 rfl rfl)
theorem dX1_wholePlan_14 : decode cX1_wholePlan 14 = .ok (.iload_n 2, 1) := dk_28 (dk_at dksX1_wholePlan_0 14 rfl rfl)
theorem dX1_wholePlan_15 : decode cX1_wholePlan 15 = .ok (.ifCond .eq 73, 3) := dk_153 0 73 (dk_at dksX1_wholePlan_0 15 rfl rfl)
theorem dX1_wholePlan_18 : decode cX1_wholePlan 18 = .ok (.aload_n 0, 1) := dk_42 (dk_at dksX1_wholePlan_0 18 rfl rfl)
theorem dX1_wholePlan_19 : decode cX1_wholePlan 19 = .ok (.iconst 4, 1) := dk_7 (dk_at dksX1_wholePlan_0 19 rfl rfl)
theorem dX1_wholePlan_20 : decode cX1_wholePlan 20 = .ok (.bipush 16, 2) := dk_16 16 (dk_at dksX1_wholePlan_0 20 rfl rfl)
theorem dX1_wholePlan_22 : decode cX1_wholePlan 22 = .ok (.iload_n 1, 1) := dk_27 (dk_at dksX1_wholePlan_0 22 rfl rfl)
theorem dX1_wholePlan_23 : decode cX1_wholePlan 23 = .ok (.imul, 1) := dk_104 (dk_at dksX1_wholePlan_0 23 rfl rfl)
theorem dX1_wholePlan_24 : decode cX1_wholePlan 24 = .ok (.aload_n 0, 1) := dk_42 (dk_at dksX1_wholePlan_1 0 rfl rfl)
theorem dX1_wholePlan_25 : decode cX1_wholePlan 25 = .ok (.getfield 42, 3) := dk_180 0 42 (dk_at dksX1_wholePlan_1 1 rfl rfl)
theorem dX1_wholePlan_28 : decode cX1_wholePlan 28 = .ok (.iload_n 1, 1) := dk_27 (dk_at dksX1_wholePlan_1 4 rfl rfl)
theorem dX1_wholePlan_29 : decode cX1_wholePlan 29 = .ok (.iaload, 1) := dk_46 (dk_at dksX1_wholePlan_1 5 rfl rfl)
theorem dX1_wholePlan_30 : decode cX1_wholePlan 30 = .ok (.iadd, 1) := dk_96 (dk_at dksX1_wholePlan_1 6 rfl rfl)
theorem dX1_wholePlan_31 : decode cX1_wholePlan 31 = .ok (.imul, 1) := dk_104 (dk_at dksX1_wholePlan_1 7 rfl rfl)
theorem dX1_wholePlan_32 : decode cX1_wholePlan 32 = .ok (.invokevirtual 295, 3) := dk_182 1 39 (dk_at dksX1_wholePlan_1 8 rfl rfl)
theorem dX1_wholePlan_35 : decode cX1_wholePlan 35 = .ok (.aload_n 0, 1) := dk_42 (dk_at dksX1_wholePlan_1 11 rfl rfl)
theorem dX1_wholePlan_36 : decode cX1_wholePlan 36 = .ok (.getfield 42, 3) := dk_180 0 42 (dk_at dksX1_wholePlan_1 12 rfl rfl)
theorem dX1_wholePlan_39 : decode cX1_wholePlan 39 = .ok (.iload_n 1, 1) := dk_27 (dk_at dksX1_wholePlan_1 15 rfl rfl)
theorem dX1_wholePlan_40 : decode cX1_wholePlan 40 = .ok (.dup2, 1) := dk_92 (dk_at dksX1_wholePlan_1 16 rfl rfl)
theorem dX1_wholePlan_41 : decode cX1_wholePlan 41 = .ok (.iaload, 1) := dk_46 (dk_at dksX1_wholePlan_1 17 rfl rfl)
theorem dX1_wholePlan_42 : decode cX1_wholePlan 42 = .ok (.iconst 1, 1) := dk_4 (dk_at dksX1_wholePlan_1 18 rfl rfl)
theorem dX1_wholePlan_43 : decode cX1_wholePlan 43 = .ok (.iadd, 1) := dk_96 (dk_at dksX1_wholePlan_1 19 rfl rfl)
theorem dX1_wholePlan_44 : decode cX1_wholePlan 44 = .ok (.iastore, 1) := dk_79 (dk_at dksX1_wholePlan_1 20 rfl rfl)
theorem dX1_wholePlan_45 : decode cX1_wholePlan 45 = .ok (.aload_n 0, 1) := dk_42 (dk_at dksX1_wholePlan_1 21 rfl rfl)
theorem dX1_wholePlan_46 : decode cX1_wholePlan 46 = .ok (.invokevirtual 115, 3) := dk_182 0 115 (dk_at dksX1_wholePlan_2 0 rfl rfl)
theorem dX1_wholePlan_49 : decode cX1_wholePlan 49 = .ok (.bipush 59, 2) := dk_16 59 (dk_at dksX1_wholePlan_2 3 rfl rfl)
theorem dX1_wholePlan_51 : decode cX1_wholePlan 51 = .ok (.if_icmp .ne 18, 3) := dk_160 0 18 (dk_at dksX1_wholePlan_2 5 rfl rfl)
theorem dX1_wholePlan_54 : decode cX1_wholePlan 54 = .ok (.aload_n 0, 1) := dk_42 (dk_at dksX1_wholePlan_2 8 rfl rfl)
theorem dX1_wholePlan_55 : decode cX1_wholePlan 55 = .ok (.getfield 42, 3) := dk_180 0 42 (dk_at dksX1_wholePlan_2 9 rfl rfl)
theorem dX1_wholePlan_58 : decode cX1_wholePlan 58 = .ok (.iload_n 1, 1) := dk_27 (dk_at dksX1_wholePlan_2 12 rfl rfl)
theorem dX1_wholePlan_59 : decode cX1_wholePlan 59 = .ok (.iaload, 1) := dk_46 (dk_at dksX1_wholePlan_2 13 rfl rfl)
theorem dX1_wholePlan_60 : decode cX1_wholePlan 60 = .ok (.bipush 16, 2) := dk_16 16 (dk_at dksX1_wholePlan_2 14 rfl rfl)
theorem dX1_wholePlan_62 : decode cX1_wholePlan 62 = .ok (.if_icmp .ge 7, 3) := dk_162 0 7 (dk_at dksX1_wholePlan_2 16 rfl rfl)
theorem dX1_wholePlan_65 : decode cX1_wholePlan 65 = .ok (.iconst 1, 1) := dk_4 (dk_at dksX1_wholePlan_2 19 rfl rfl)
theorem dX1_wholePlan_66 : decode cX1_wholePlan 66 = .ok (.goto 4, 3) := dk_167 0 4 (dk_at dksX1_wholePlan_2 20 rfl rfl)
theorem dX1_wholePlan_69 : decode cX1_wholePlan 69 = .ok (.iconst 0, 1) := dk_3 (dk_at dksX1_wholePlan_2 23 rfl rfl)
theorem dX1_wholePlan_70 : decode cX1_wholePlan 70 = .ok (.istore_n 2, 1) := dk_61 (dk_at dksX1_wholePlan_3 0 rfl rfl)
theorem dX1_wholePlan_71 : decode cX1_wholePlan 71 = .ok (.iload_n 2, 1) := dk_28 (dk_at dksX1_wholePlan_3 1 rfl rfl)
theorem dX1_wholePlan_72 : decode cX1_wholePlan 72 = .ok (.ifCond .eq (-58), 3) := dk_153 255 198 (dk_at dksX1_wholePlan_3 2 rfl rfl)
theorem dX1_wholePlan_75 : decode cX1_wholePlan 75 = .ok (.aload_n 0, 1) := dk_42 (dk_at dksX1_wholePlan_3 5 rfl rfl)
theorem dX1_wholePlan_76 : decode cX1_wholePlan 76 = .ok (.dup, 1) := dk_89 (dk_at dksX1_wholePlan_3 6 rfl rfl)
theorem dX1_wholePlan_77 : decode cX1_wholePlan 77 = .ok (.getfield 105, 3) := dk_180 0 105 (dk_at dksX1_wholePlan_3 7 rfl rfl)
theorem dX1_wholePlan_80 : decode cX1_wholePlan 80 = .ok (.iconst 1, 1) := dk_4 (dk_at dksX1_wholePlan_3 10 rfl rfl)
theorem dX1_wholePlan_81 : decode cX1_wholePlan 81 = .ok (.iadd, 1) := dk_96 (dk_at dksX1_wholePlan_3 11 rfl rfl)
theorem dX1_wholePlan_82 : decode cX1_wholePlan 82 = .ok (.putfield 105, 3) := dk_181 0 105 (dk_at dksX1_wholePlan_3 12 rfl rfl)
theorem dX1_wholePlan_85 : decode cX1_wholePlan 85 = .ok (.goto (-71), 3) := dk_167 255 185 (dk_at dksX1_wholePlan_3 15 rfl rfl)
theorem dX1_wholePlan_88 : decode cX1_wholePlan 88 = .ok (.aload_n 0, 1) := dk_42 (dk_at dksX1_wholePlan_3 18 rfl rfl)
theorem dX1_wholePlan_89 : decode cX1_wholePlan 89 = .ok (.aload_n 0, 1) := dk_42 (dk_at dksX1_wholePlan_3 19 rfl rfl)
theorem dX1_wholePlan_90 : decode cX1_wholePlan 90 = .ok (.invokevirtual 115, 3) := dk_182 0 115 (dk_at dksX1_wholePlan_3 20 rfl rfl)
theorem dX1_wholePlan_93 : decode cX1_wholePlan 93 = .ok (.iconst (-1), 1) := dk_2 (dk_at dksX1_wholePlan_3 23 rfl rfl)
theorem dX1_wholePlan_94 : decode cX1_wholePlan 94 = .ok (.if_icmp .ne 7, 3) := dk_160 0 7 (dk_at dksX1_wholePlan_4 0 rfl rfl)
theorem dX1_wholePlan_97 : decode cX1_wholePlan 97 = .ok (.iconst 1, 1) := dk_4 (dk_at dksX1_wholePlan_4 3 rfl rfl)
theorem dX1_wholePlan_98 : decode cX1_wholePlan 98 = .ok (.goto 4, 3) := dk_167 0 4 (dk_at dksX1_wholePlan_4 4 rfl rfl)
theorem dX1_wholePlan_101 : decode cX1_wholePlan 101 = .ok (.iconst 0, 1) := dk_3 (dk_at dksX1_wholePlan_4 7 rfl rfl)
theorem dX1_wholePlan_102 : decode cX1_wholePlan 102 = .ok (.invokevirtual 111, 3) := dk_182 0 111 (dk_at dksX1_wholePlan_4 8 rfl rfl)
theorem dX1_wholePlan_105 : decode cX1_wholePlan 105 = .ok (.return_, 1) := dk_177 (dk_at dksX1_wholePlan_4 11 rfl rfl)
abbrev cX1_stepRead : ByteArray := prog_1_method_35_code
def yX1_stepRead : MethodName := ⟨RX1, "stepRead", "(I)V"⟩
def dkwX1_stepRead_6 : List UInt8 := [2, 79, 177]
abbrev dktX1_stepRead_6 : List UInt8 := dkwX1_stepRead_6 ++ []
def dkwX1_stepRead_5 : List UInt8 := [167, 0, 4, 2, 79, 42, 180, 0, 39, 27, 6, 96, 28, 154, 0, 11, 42, 4, 182, 1, 36, 167, 0, 4]
abbrev dktX1_stepRead_5 : List UInt8 := dkwX1_stepRead_5 ++ dktX1_stepRead_6
def dkwX1_stepRead_4 : List UInt8 := [182, 1, 36, 96, 79, 42, 180, 0, 39, 27, 5, 96, 28, 154, 0, 12, 42, 16, 9, 182, 1, 36]
abbrev dktX1_stepRead_4 : List UInt8 := dkwX1_stepRead_4 ++ dktX1_stepRead_5
def dkwX1_stepRead_3 : List UInt8 := [164, 0, 29, 42, 180, 0, 39, 27, 4, 96, 16, 10, 42, 180, 0, 39, 27, 4, 96, 46, 104, 42, 16, 9]
abbrev dktX1_stepRead_3 : List UInt8 := dkwX1_stepRead_3 ++ dktX1_stepRead_4
def dkwX1_stepRead_2 : List UInt8 := [180, 0, 39, 27, 28, 79, 42, 180, 0, 39, 27, 4, 96, 42, 16, 9, 182, 1, 36, 79, 28, 6]
abbrev dktX1_stepRead_2 : List UInt8 := dkwX1_stepRead_2 ++ dktX1_stepRead_3
def dkwX1_stepRead_1 : List UInt8 := [28, 155, 0, 7, 4, 167, 0, 4, 3, 182, 0, 111, 42, 89, 180, 0, 105, 4, 96, 181, 0, 105, 42]
abbrev dktX1_stepRead_1 : List UInt8 := dkwX1_stepRead_1 ++ dktX1_stepRead_2
def dkwX1_stepRead_0 : List UInt8 := [42, 182, 0, 115, 2, 160, 0, 7, 2, 167, 0, 13, 19, 1, 34, 42, 182, 0, 243, 182, 0, 132, 61, 42]
abbrev dktX1_stepRead_0 : List UInt8 := dkwX1_stepRead_0 ++ dktX1_stepRead_1
theorem dksX1_stepRead_0 : cX1_stepRead.data.toList.drop 0 = dktX1_stepRead_0 := by decide +kernel
theorem dksX1_stepRead_1 : cX1_stepRead.data.toList.drop 24 = dktX1_stepRead_1 := dk_seg dksX1_stepRead_0 24 rfl rfl
theorem dksX1_stepRead_2 : cX1_stepRead.data.toList.drop 47 = dktX1_stepRead_2 := dk_seg dksX1_stepRead_1 23 rfl rfl
theorem dksX1_stepRead_3 : cX1_stepRead.data.toList.drop 69 = dktX1_stepRead_3 := dk_seg dksX1_stepRead_2 22 rfl rfl
theorem dksX1_stepRead_4 : cX1_stepRead.data.toList.drop 93 = dktX1_stepRead_4 := dk_seg dksX1_stepRead_3 24 rfl rfl
theorem dksX1_stepRead_5 : cX1_stepRead.data.toList.drop 115 = dktX1_stepRead_5 := dk_seg dksX1_stepRead_4 22 rfl rfl
theorem dksX1_stepRead_6 : cX1_stepRead.data.toList.drop 139 = dktX1_stepRead_6 := dk_seg dksX1_stepRead_5 24 rfl rfl
theorem dX1_stepRead_0 : decode cX1_stepRead 0 = .ok (.aload_n 0, 1) := dk_42 (dk_at dksX1_stepRead_0 0 rfl rfl)
theorem dX1_stepRead_1 : decode cX1_stepRead 1 = .ok (.invokevirtual 115, 3) := dk_182 0 115 (dk_at dksX1_stepRead_0 1 rfl rfl)
theorem dX1_stepRead_4 : decode cX1_stepRead 4 = .ok (.iconst (-1), 1) := dk_2 (dk_at dksX1_stepRead_0 4 rfl rfl)
theorem dX1_stepRead_5 : decode cX1_stepRead 5 = .ok (.if_icmp .ne 7, 3) := dk_160 0 7 (dk_at dksX1_stepRead_0 5 rfl rfl)
theorem dX1_stepRead_8 : decode cX1_stepRead 8 = .ok (.iconst (-1), 1) := dk_2 (dk_at dksX1_stepRead_0 8 rfl rfl)
theorem dX1_stepRead_9 : decode cX1_stepRead 9 = .ok (.goto 13, 3) := dk_167 0 13 (dk_at dksX1_stepRead_0 9 rfl rfl)
theorem dX1_stepRead_12 : decode cX1_stepRead 12 = .ok (.ldc_w 290, 3) := dk_19 1 34 (dk_at dksX1_stepRead_0 12 rfl rfl)
theorem dX1_stepRead_15 : decode cX1_stepRead 15 = .ok (.aload_n 0, 1) := dk_42 (dk_at dksX1_stepRead_0 15 rfl rfl)
theorem dX1_stepRead_16 : decode cX1_stepRead 16 = .ok (.invokevirtual 243, 3) := dk_182 0 243 (dk_at dksX1_stepRead_0 16 rfl rfl)
theorem dX1_stepRead_19 : decode cX1_stepRead 19 = .ok (.invokevirtual 132, 3) := dk_182 0 132 (dk_at dksX1_stepRead_0 19 rfl rfl)
theorem dX1_stepRead_22 : decode cX1_stepRead 22 = .ok (.istore_n 2, 1) := dk_61 (dk_at dksX1_stepRead_0 22 rfl rfl)
theorem dX1_stepRead_23 : decode cX1_stepRead 23 = .ok (.aload_n 0, 1) := dk_42 (dk_at dksX1_stepRead_0 23 rfl rfl)
theorem dX1_stepRead_24 : decode cX1_stepRead 24 = .ok (.iload_n 2, 1) := dk_28 (dk_at dksX1_stepRead_1 0 rfl rfl)
theorem dX1_stepRead_25 : decode cX1_stepRead 25 = .ok (.ifCond .lt 7, 3) := dk_155 0 7 (dk_at dksX1_stepRead_1 1 rfl rfl)
theorem dX1_stepRead_28 : decode cX1_stepRead 28 = .ok (.iconst 1, 1) := dk_4 (dk_at dksX1_stepRead_1 4 rfl rfl)
theorem dX1_stepRead_29 : decode cX1_stepRead 29 = .ok (.goto 4, 3) := dk_167 0 4 (dk_at dksX1_stepRead_1 5 rfl rfl)
theorem dX1_stepRead_32 : decode cX1_stepRead 32 = .ok (.iconst 0, 1) := dk_3 (dk_at dksX1_stepRead_1 8 rfl rfl)
theorem dX1_stepRead_33 : decode cX1_stepRead 33 = .ok (.invokevirtual 111, 3) := dk_182 0 111 (dk_at dksX1_stepRead_1 9 rfl rfl)
theorem dX1_stepRead_36 : decode cX1_stepRead 36 = .ok (.aload_n 0, 1) := dk_42 (dk_at dksX1_stepRead_1 12 rfl rfl)
theorem dX1_stepRead_37 : decode cX1_stepRead 37 = .ok (.dup, 1) := dk_89 (dk_at dksX1_stepRead_1 13 rfl rfl)
theorem dX1_stepRead_38 : decode cX1_stepRead 38 = .ok (.getfield 105, 3) := dk_180 0 105 (dk_at dksX1_stepRead_1 14 rfl rfl)
theorem dX1_stepRead_41 : decode cX1_stepRead 41 = .ok (.iconst 1, 1) := dk_4 (dk_at dksX1_stepRead_1 17 rfl rfl)
theorem dX1_stepRead_42 : decode cX1_stepRead 42 = .ok (.iadd, 1) := dk_96 (dk_at dksX1_stepRead_1 18 rfl rfl)
theorem dX1_stepRead_43 : decode cX1_stepRead 43 = .ok (.putfield 105, 3) := dk_181 0 105 (dk_at dksX1_stepRead_1 19 rfl rfl)
theorem dX1_stepRead_46 : decode cX1_stepRead 46 = .ok (.aload_n 0, 1) := dk_42 (dk_at dksX1_stepRead_1 22 rfl rfl)
theorem dX1_stepRead_47 : decode cX1_stepRead 47 = .ok (.getfield 39, 3) := dk_180 0 39 (dk_at dksX1_stepRead_2 0 rfl rfl)
theorem dX1_stepRead_50 : decode cX1_stepRead 50 = .ok (.iload_n 1, 1) := dk_27 (dk_at dksX1_stepRead_2 3 rfl rfl)
theorem dX1_stepRead_51 : decode cX1_stepRead 51 = .ok (.iload_n 2, 1) := dk_28 (dk_at dksX1_stepRead_2 4 rfl rfl)
theorem dX1_stepRead_52 : decode cX1_stepRead 52 = .ok (.iastore, 1) := dk_79 (dk_at dksX1_stepRead_2 5 rfl rfl)
theorem dX1_stepRead_53 : decode cX1_stepRead 53 = .ok (.aload_n 0, 1) := dk_42 (dk_at dksX1_stepRead_2 6 rfl rfl)
theorem dX1_stepRead_54 : decode cX1_stepRead 54 = .ok (.getfield 39, 3) := dk_180 0 39 (dk_at dksX1_stepRead_2 7 rfl rfl)
theorem dX1_stepRead_57 : decode cX1_stepRead 57 = .ok (.iload_n 1, 1) := dk_27 (dk_at dksX1_stepRead_2 10 rfl rfl)
theorem dX1_stepRead_58 : decode cX1_stepRead 58 = .ok (.iconst 1, 1) := dk_4 (dk_at dksX1_stepRead_2 11 rfl rfl)
theorem dX1_stepRead_59 : decode cX1_stepRead 59 = .ok (.iadd, 1) := dk_96 (dk_at dksX1_stepRead_2 12 rfl rfl)
theorem dX1_stepRead_60 : decode cX1_stepRead 60 = .ok (.aload_n 0, 1) := dk_42 (dk_at dksX1_stepRead_2 13 rfl rfl)
theorem dX1_stepRead_61 : decode cX1_stepRead 61 = .ok (.bipush 9, 2) := dk_16 9 (dk_at dksX1_stepRead_2 14 rfl rfl)
theorem dX1_stepRead_63 : decode cX1_stepRead 63 = .ok (.invokevirtual 292, 3) := dk_182 1 36 (dk_at dksX1_stepRead_2 16 rfl rfl)
theorem dX1_stepRead_66 : decode cX1_stepRead 66 = .ok (.iastore, 1) := dk_79 (dk_at dksX1_stepRead_2 19 rfl rfl)
theorem dX1_stepRead_67 : decode cX1_stepRead 67 = .ok (.iload_n 2, 1) := dk_28 (dk_at dksX1_stepRead_2 20 rfl rfl)
theorem dX1_stepRead_68 : decode cX1_stepRead 68 = .ok (.iconst 3, 1) := dk_6 (dk_at dksX1_stepRead_2 21 rfl rfl)
theorem dX1_stepRead_69 : decode cX1_stepRead 69 = .ok (.if_icmp .le 29, 3) := dk_164 0 29 (dk_at dksX1_stepRead_3 0 rfl rfl)
theorem dX1_stepRead_72 : decode cX1_stepRead 72 = .ok (.aload_n 0, 1) := dk_42 (dk_at dksX1_stepRead_3 3 rfl rfl)
theorem dX1_stepRead_73 : decode cX1_stepRead 73 = .ok (.getfield 39, 3) := dk_180 0 39 (dk_at dksX1_stepRead_3 4 rfl rfl)
theorem dX1_stepRead_76 : decode cX1_stepRead 76 = .ok (.iload_n 1, 1) := dk_27 (dk_at dksX1_stepRead_3 7 rfl rfl)
theorem dX1_stepRead_77 : decode cX1_stepRead 77 = .ok (.iconst 1, 1) := dk_4 (dk_at dksX1_stepRead_3 8 rfl rfl)
theorem dX1_stepRead_78 : decode cX1_stepRead 78 = .ok (.iadd, 1) := dk_96 (dk_at dksX1_stepRead_3 9 rfl rfl)
theorem dX1_stepRead_79 : decode cX1_stepRead 79 = .ok (.bipush 10, 2) := dk_16 10 (dk_at dksX1_stepRead_3 10 rfl rfl)
theorem dX1_stepRead_81 : decode cX1_stepRead 81 = .ok (.aload_n 0, 1) := dk_42 (dk_at dksX1_stepRead_3 12 rfl rfl)
theorem dX1_stepRead_82 : decode cX1_stepRead 82 = .ok (.getfield 39, 3) := dk_180 0 39 (dk_at dksX1_stepRead_3 13 rfl rfl)
theorem dX1_stepRead_85 : decode cX1_stepRead 85 = .ok (.iload_n 1, 1) := dk_27 (dk_at dksX1_stepRead_3 16 rfl rfl)
theorem dX1_stepRead_86 : decode cX1_stepRead 86 = .ok (.iconst 1, 1) := dk_4 (dk_at dksX1_stepRead_3 17 rfl rfl)
theorem dX1_stepRead_87 : decode cX1_stepRead 87 = .ok (.iadd, 1) := dk_96 (dk_at dksX1_stepRead_3 18 rfl rfl)
theorem dX1_stepRead_88 : decode cX1_stepRead 88 = .ok (.iaload, 1) := dk_46 (dk_at dksX1_stepRead_3 19 rfl rfl)
theorem dX1_stepRead_89 : decode cX1_stepRead 89 = .ok (.imul, 1) := dk_104 (dk_at dksX1_stepRead_3 20 rfl rfl)
theorem dX1_stepRead_90 : decode cX1_stepRead 90 = .ok (.aload_n 0, 1) := dk_42 (dk_at dksX1_stepRead_3 21 rfl rfl)
theorem dX1_stepRead_91 : decode cX1_stepRead 91 = .ok (.bipush 9, 2) := dk_16 9 (dk_at dksX1_stepRead_3 22 rfl rfl)
theorem dX1_stepRead_93 : decode cX1_stepRead 93 = .ok (.invokevirtual 292, 3) := dk_182 1 36 (dk_at dksX1_stepRead_4 0 rfl rfl)
theorem dX1_stepRead_96 : decode cX1_stepRead 96 = .ok (.iadd, 1) := dk_96 (dk_at dksX1_stepRead_4 3 rfl rfl)
theorem dX1_stepRead_97 : decode cX1_stepRead 97 = .ok (.iastore, 1) := dk_79 (dk_at dksX1_stepRead_4 4 rfl rfl)
theorem dX1_stepRead_98 : decode cX1_stepRead 98 = .ok (.aload_n 0, 1) := dk_42 (dk_at dksX1_stepRead_4 5 rfl rfl)
theorem dX1_stepRead_99 : decode cX1_stepRead 99 = .ok (.getfield 39, 3) := dk_180 0 39 (dk_at dksX1_stepRead_4 6 rfl rfl)
theorem dX1_stepRead_102 : decode cX1_stepRead 102 = .ok (.iload_n 1, 1) := dk_27 (dk_at dksX1_stepRead_4 9 rfl rfl)
theorem dX1_stepRead_103 : decode cX1_stepRead 103 = .ok (.iconst 2, 1) := dk_5 (dk_at dksX1_stepRead_4 10 rfl rfl)
theorem dX1_stepRead_104 : decode cX1_stepRead 104 = .ok (.iadd, 1) := dk_96 (dk_at dksX1_stepRead_4 11 rfl rfl)
theorem dX1_stepRead_105 : decode cX1_stepRead 105 = .ok (.iload_n 2, 1) := dk_28 (dk_at dksX1_stepRead_4 12 rfl rfl)
theorem dX1_stepRead_106 : decode cX1_stepRead 106 = .ok (.ifCond .ne 12, 3) := dk_154 0 12 (dk_at dksX1_stepRead_4 13 rfl rfl)
theorem dX1_stepRead_109 : decode cX1_stepRead 109 = .ok (.aload_n 0, 1) := dk_42 (dk_at dksX1_stepRead_4 16 rfl rfl)
theorem dX1_stepRead_110 : decode cX1_stepRead 110 = .ok (.bipush 9, 2) := dk_16 9 (dk_at dksX1_stepRead_4 17 rfl rfl)
theorem dX1_stepRead_112 : decode cX1_stepRead 112 = .ok (.invokevirtual 292, 3) := dk_182 1 36 (dk_at dksX1_stepRead_4 19 rfl rfl)
theorem dX1_stepRead_115 : decode cX1_stepRead 115 = .ok (.goto 4, 3) := dk_167 0 4 (dk_at dksX1_stepRead_5 0 rfl rfl)
theorem dX1_stepRead_118 : decode cX1_stepRead 118 = .ok (.iconst (-1), 1) := dk_2 (dk_at dksX1_stepRead_5 3 rfl rfl)
theorem dX1_stepRead_119 : decode cX1_stepRead 119 = .ok (.iastore, 1) := dk_79 (dk_at dksX1_stepRead_5 4 rfl rfl)
theorem dX1_stepRead_120 : decode cX1_stepRead 120 = .ok (.aload_n 0, 1) := dk_42 (dk_at dksX1_stepRead_5 5 rfl rfl)
theorem dX1_stepRead_121 : decode cX1_stepRead 121 = .ok (.getfield 39, 3) := dk_180 0 39 (dk_at dksX1_stepRead_5 6 rfl rfl)
theorem dX1_stepRead_124 : decode cX1_stepRead 124 = .ok (.iload_n 1, 1) := dk_27 (dk_at dksX1_stepRead_5 9 rfl rfl)
theorem dX1_stepRead_125 : decode cX1_stepRead 125 = .ok (.iconst 3, 1) := dk_6 (dk_at dksX1_stepRead_5 10 rfl rfl)
theorem dX1_stepRead_126 : decode cX1_stepRead 126 = .ok (.iadd, 1) := dk_96 (dk_at dksX1_stepRead_5 11 rfl rfl)
theorem dX1_stepRead_127 : decode cX1_stepRead 127 = .ok (.iload_n 2, 1) := dk_28 (dk_at dksX1_stepRead_5 12 rfl rfl)
theorem dX1_stepRead_128 : decode cX1_stepRead 128 = .ok (.ifCond .ne 11, 3) := dk_154 0 11 (dk_at dksX1_stepRead_5 13 rfl rfl)
theorem dX1_stepRead_131 : decode cX1_stepRead 131 = .ok (.aload_n 0, 1) := dk_42 (dk_at dksX1_stepRead_5 16 rfl rfl)
theorem dX1_stepRead_132 : decode cX1_stepRead 132 = .ok (.iconst 1, 1) := dk_4 (dk_at dksX1_stepRead_5 17 rfl rfl)
theorem dX1_stepRead_133 : decode cX1_stepRead 133 = .ok (.invokevirtual 292, 3) := dk_182 1 36 (dk_at dksX1_stepRead_5 18 rfl rfl)
theorem dX1_stepRead_136 : decode cX1_stepRead 136 = .ok (.goto 4, 3) := dk_167 0 4 (dk_at dksX1_stepRead_5 21 rfl rfl)
theorem dX1_stepRead_139 : decode cX1_stepRead 139 = .ok (.iconst (-1), 1) := dk_2 (dk_at dksX1_stepRead_6 0 rfl rfl)
theorem dX1_stepRead_140 : decode cX1_stepRead 140 = .ok (.iastore, 1) := dk_79 (dk_at dksX1_stepRead_6 1 rfl rfl)
theorem dX1_stepRead_141 : decode cX1_stepRead 141 = .ok (.return_, 1) := dk_177 (dk_at dksX1_stepRead_6 2 rfl rfl)
abbrev cX1_digit : ByteArray := prog_1_method_34_code
def yX1_digit : MethodName := ⟨RX1, "digit", "(I)I"⟩
def dkwX1_digit_2 : List UInt8 := [180, 0, 105, 4, 100, 51, 16, 48, 100, 172]
abbrev dktX1_digit_2 : List UInt8 := dkwX1_digit_2 ++ []
def dkwX1_digit_1 : List UInt8 := [167, 0, 4, 3, 182, 0, 111, 42, 89, 180, 0, 105, 4, 96, 181, 0, 105, 42, 180, 0, 16, 42]
abbrev dktX1_digit_1 : List UInt8 := dkwX1_digit_1 ++ dktX1_digit_2
def dkwX1_digit_0 : List UInt8 := [42, 42, 182, 0, 115, 184, 0, 142, 153, 0, 18, 42, 182, 0, 243, 16, 48, 100, 27, 163, 0, 7, 4]
abbrev dktX1_digit_0 : List UInt8 := dkwX1_digit_0 ++ dktX1_digit_1
theorem dksX1_digit_0 : cX1_digit.data.toList.drop 0 = dktX1_digit_0 := by decide +kernel
theorem dksX1_digit_1 : cX1_digit.data.toList.drop 23 = dktX1_digit_1 := dk_seg dksX1_digit_0 23 rfl rfl
theorem dksX1_digit_2 : cX1_digit.data.toList.drop 45 = dktX1_digit_2 := dk_seg dksX1_digit_1 22 rfl rfl
theorem dX1_digit_0 : decode cX1_digit 0 = .ok (.aload_n 0, 1) := dk_42 (dk_at dksX1_digit_0 0 rfl rfl)
theorem dX1_digit_1 : decode cX1_digit 1 = .ok (.aload_n 0, 1) := dk_42 (dk_at dksX1_digit_0 1 rfl rfl)
theorem dX1_digit_2 : decode cX1_digit 2 = .ok (.invokevirtual 115, 3) := dk_182 0 115 (dk_at dksX1_digit_0 2 rfl rfl)
theorem dX1_digit_5 : decode cX1_digit 5 = .ok (.invokestatic 142, 3) := dk_184 0 142 (dk_at dksX1_digit_0 5 rfl rfl)
theorem dX1_digit_8 : decode cX1_digit 8 = .ok (.ifCond .eq 18, 3) := dk_153 0 18 (dk_at dksX1_digit_0 8 rfl rfl)
theorem dX1_digit_11 : decode cX1_digit 11 = .ok (.aload_n 0, 1) := dk_42 (dk_at dksX1_digit_0 11 rfl rfl)
theorem dX1_digit_12 : decode cX1_digit 12 = .ok (.invokevirtual 243, 3) := dk_182 0 243 (dk_at dksX1_digit_0 12 rfl rfl)
theorem dX1_digit_15 : decode cX1_digit 15 = .ok (.bipush 48, 2) := dk_16 48 (dk_at dksX1_digit_0 15 rfl rfl)
theorem dX1_digit_17 : decode cX1_digit 17 = .ok (.isub, 1) := dk_100 (dk_at dksX1_digit_0 17 rfl rfl)
theorem dX1_digit_18 : decode cX1_digit 18 = .ok (.iload_n 1, 1) := dk_27 (dk_at dksX1_digit_0 18 rfl rfl)
theorem dX1_digit_19 : decode cX1_digit 19 = .ok (.if_icmp .gt 7, 3) := dk_163 0 7 (dk_at dksX1_digit_0 19 rfl rfl)
theorem dX1_digit_22 : decode cX1_digit 22 = .ok (.iconst 1, 1) := dk_4 (dk_at dksX1_digit_0 22 rfl rfl)
theorem dX1_digit_23 : decode cX1_digit 23 = .ok (.goto 4, 3) := dk_167 0 4 (dk_at dksX1_digit_1 0 rfl rfl)
theorem dX1_digit_26 : decode cX1_digit 26 = .ok (.iconst 0, 1) := dk_3 (dk_at dksX1_digit_1 3 rfl rfl)
theorem dX1_digit_27 : decode cX1_digit 27 = .ok (.invokevirtual 111, 3) := dk_182 0 111 (dk_at dksX1_digit_1 4 rfl rfl)
theorem dX1_digit_30 : decode cX1_digit 30 = .ok (.aload_n 0, 1) := dk_42 (dk_at dksX1_digit_1 7 rfl rfl)
theorem dX1_digit_31 : decode cX1_digit 31 = .ok (.dup, 1) := dk_89 (dk_at dksX1_digit_1 8 rfl rfl)
theorem dX1_digit_32 : decode cX1_digit 32 = .ok (.getfield 105, 3) := dk_180 0 105 (dk_at dksX1_digit_1 9 rfl rfl)
theorem dX1_digit_35 : decode cX1_digit 35 = .ok (.iconst 1, 1) := dk_4 (dk_at dksX1_digit_1 12 rfl rfl)
theorem dX1_digit_36 : decode cX1_digit 36 = .ok (.iadd, 1) := dk_96 (dk_at dksX1_digit_1 13 rfl rfl)
theorem dX1_digit_37 : decode cX1_digit 37 = .ok (.putfield 105, 3) := dk_181 0 105 (dk_at dksX1_digit_1 14 rfl rfl)
theorem dX1_digit_40 : decode cX1_digit 40 = .ok (.aload_n 0, 1) := dk_42 (dk_at dksX1_digit_1 17 rfl rfl)
theorem dX1_digit_41 : decode cX1_digit 41 = .ok (.getfield 16, 3) := dk_180 0 16 (dk_at dksX1_digit_1 18 rfl rfl)
theorem dX1_digit_44 : decode cX1_digit 44 = .ok (.aload_n 0, 1) := dk_42 (dk_at dksX1_digit_1 21 rfl rfl)
theorem dX1_digit_45 : decode cX1_digit 45 = .ok (.getfield 105, 3) := dk_180 0 105 (dk_at dksX1_digit_2 0 rfl rfl)
theorem dX1_digit_48 : decode cX1_digit 48 = .ok (.iconst 1, 1) := dk_4 (dk_at dksX1_digit_2 3 rfl rfl)
theorem dX1_digit_49 : decode cX1_digit 49 = .ok (.isub, 1) := dk_100 (dk_at dksX1_digit_2 4 rfl rfl)
theorem dX1_digit_50 : decode cX1_digit 50 = .ok (.baload, 1) := dk_51 (dk_at dksX1_digit_2 5 rfl rfl)
theorem dX1_digit_51 : decode cX1_digit 51 = .ok (.bipush 48, 2) := dk_16 48 (dk_at dksX1_digit_2 6 rfl rfl)
theorem dX1_digit_53 : decode cX1_digit 53 = .ok (.isub, 1) := dk_100 (dk_at dksX1_digit_2 8 rfl rfl)
theorem dX1_digit_54 : decode cX1_digit 54 = .ok (.ireturn, 1) := dk_172 (dk_at dksX1_digit_2 9 rfl rfl)
abbrev cX1_text : ByteArray := prog_1_method_41_code
def yX1_text : MethodName := ⟨RX1, "text", "(I)I"⟩
def dkwX1_text_9 : List UInt8 := [42, 3, 181, 1, 80, 42, 180, 1, 68, 172]
abbrev dktX1_text_9 : List UInt8 := dkwX1_text_9 ++ []
def dkwX1_text_8 : List UInt8 := [4, 100, 79, 132, 2, 1, 167, 255, 231, 42, 3, 181, 1, 71, 42, 3, 181, 1, 74, 42, 3, 181, 1, 77]
abbrev dktX1_text_8 : List UInt8 := dkwX1_text_8 ++ dktX1_text_9
def dkwX1_text_7 : List UInt8 := [167, 255, 231, 3, 61, 28, 42, 180, 1, 23, 162, 0, 23, 42, 180, 0, 58, 7, 28, 104, 6, 96, 92, 46]
abbrev dktX1_text_7 : List UInt8 := dkwX1_text_7 ++ dktX1_text_8
def dkwX1_text_6 : List UInt8 := [180, 1, 23, 104, 162, 0, 21, 42, 180, 0, 58, 28, 42, 180, 0, 30, 28, 46, 79, 132, 2, 1]
abbrev dktX1_text_6 : List UInt8 := dkwX1_text_6 ++ dktX1_text_7
def dkwX1_text_5 : List UInt8 := [132, 2, 1, 167, 255, 239, 42, 180, 0, 58, 16, 32, 42, 180, 1, 23, 79, 3, 61, 28, 7, 42]
abbrev dktX1_text_5 : List UInt8 := dkwX1_text_5 ++ dktX1_text_6
def dkwX1_text_4 : List UInt8 := [132, 2, 1, 167, 255, 235, 3, 61, 28, 17, 1, 19, 162, 0, 16, 42, 180, 0, 58, 28, 3, 79]
abbrev dktX1_text_4 : List UInt8 := dkwX1_text_4 ++ dktX1_text_5
def dkwX1_text_3 : List UInt8 := [167, 255, 236, 3, 61, 28, 16, 30, 162, 0, 21, 42, 180, 0, 36, 28, 42, 180, 0, 27, 28, 46, 79]
abbrev dktX1_text_3 : List UInt8 := dkwX1_text_3 ++ dktX1_text_4
def dkwX1_text_2 : List UInt8 := [3, 61, 28, 7, 162, 0, 21, 42, 180, 0, 33, 28, 42, 180, 0, 24, 28, 46, 79, 132, 2, 1]
abbrev dktX1_text_2 : List UInt8 := dkwX1_text_2 ++ dktX1_text_3
def dkwX1_text_1 : List UInt8 := [42, 3, 182, 1, 66, 2, 159, 0, 5, 2, 172, 42, 3, 181, 0, 102, 42, 42, 180, 1, 20, 181, 1, 68]
abbrev dktX1_text_1 : List UInt8 := dkwX1_text_1 ++ dktX1_text_2
def dkwX1_text_0 : List UInt8 := [27, 4, 160, 0, 8, 42, 182, 1, 60, 172, 27, 5, 160, 0, 8, 42, 182, 1, 63, 172, 27, 154, 0, 12]
abbrev dktX1_text_0 : List UInt8 := dkwX1_text_0 ++ dktX1_text_1
theorem dksX1_text_0 : cX1_text.data.toList.drop 0 = dktX1_text_0 := by decide +kernel
theorem dksX1_text_1 : cX1_text.data.toList.drop 24 = dktX1_text_1 := dk_seg dksX1_text_0 24 rfl rfl
theorem dksX1_text_2 : cX1_text.data.toList.drop 48 = dktX1_text_2 := dk_seg dksX1_text_1 24 rfl rfl
theorem dksX1_text_3 : cX1_text.data.toList.drop 70 = dktX1_text_3 := dk_seg dksX1_text_2 22 rfl rfl
theorem dksX1_text_4 : cX1_text.data.toList.drop 93 = dktX1_text_4 := dk_seg dksX1_text_3 23 rfl rfl
theorem dksX1_text_5 : cX1_text.data.toList.drop 115 = dktX1_text_5 := dk_seg dksX1_text_4 22 rfl rfl
theorem dksX1_text_6 : cX1_text.data.toList.drop 137 = dktX1_text_6 := dk_seg dksX1_text_5 22 rfl rfl
theorem dksX1_text_7 : cX1_text.data.toList.drop 159 = dktX1_text_7 := dk_seg dksX1_text_6 22 rfl rfl
theorem dksX1_text_8 : cX1_text.data.toList.drop 183 = dktX1_text_8 := dk_seg dksX1_text_7 24 rfl rfl
theorem dksX1_text_9 : cX1_text.data.toList.drop 207 = dktX1_text_9 := dk_seg dksX1_text_8 24 rfl rfl
theorem dX1_text_0 : decode cX1_text 0 = .ok (.iload_n 1, 1) := dk_27 (dk_at dksX1_text_0 0 rfl rfl)
theorem dX1_text_1 : decode cX1_text 1 = .ok (.iconst 1, 1) := dk_4 (dk_at dksX1_text_0 1 rfl rfl)
theorem dX1_text_2 : decode cX1_text 2 = .ok (.if_icmp .ne 8, 3) := dk_160 0 8 (dk_at dksX1_text_0 2 rfl rfl)
theorem dX1_text_5 : decode cX1_text 5 = .ok (.aload_n 0, 1) := dk_42 (dk_at dksX1_text_0 5 rfl rfl)
theorem dX1_text_6 : decode cX1_text 6 = .ok (.invokevirtual 316, 3) := dk_182 1 60 (dk_at dksX1_text_0 6 rfl rfl)
theorem dX1_text_9 : decode cX1_text 9 = .ok (.ireturn, 1) := dk_172 (dk_at dksX1_text_0 9 rfl rfl)
theorem dX1_text_10 : decode cX1_text 10 = .ok (.iload_n 1, 1) := dk_27 (dk_at dksX1_text_0 10 rfl rfl)
theorem dX1_text_11 : decode cX1_text 11 = .ok (.iconst 2, 1) := dk_5 (dk_at dksX1_text_0 11 rfl rfl)
theorem dX1_text_12 : decode cX1_text 12 = .ok (.if_icmp .ne 8, 3) := dk_160 0 8 (dk_at dksX1_text_0 12 rfl rfl)
theorem dX1_text_15 : decode cX1_text 15 = .ok (.aload_n 0, 1) := dk_42 (dk_at dksX1_text_0 15 rfl rfl)
theorem dX1_text_16 : decode cX1_text 16 = .ok (.invokevirtual 319, 3) := dk_182 1 63 (dk_at dksX1_text_0 16 rfl rfl)
theorem dX1_text_19 : decode cX1_text 19 = .ok (.ireturn, 1) := dk_172 (dk_at dksX1_text_0 19 rfl rfl)
theorem dX1_text_20 : decode cX1_text 20 = .ok (.iload_n 1, 1) := dk_27 (dk_at dksX1_text_0 20 rfl rfl)
theorem dX1_text_21 : decode cX1_text 21 = .ok (.ifCond .ne 12, 3) := dk_154 0 12 (dk_at dksX1_text_0 21 rfl rfl)
theorem dX1_text_24 : decode cX1_text 24 = .ok (.aload_n 0, 1) := dk_42 (dk_at dksX1_text_1 0 rfl rfl)
theorem dX1_text_25 : decode cX1_text 25 = .ok (.iconst 0, 1) := dk_3 (dk_at dksX1_text_1 1 rfl rfl)
theorem dX1_text_26 : decode cX1_text 26 = .ok (.invokevirtual 322, 3) := dk_182 1 66 (dk_at dksX1_text_1 2 rfl rfl)
theorem dX1_text_29 : decode cX1_text 29 = .ok (.iconst (-1), 1) := dk_2 (dk_at dksX1_text_1 5 rfl rfl)
theorem dX1_text_30 : decode cX1_text 30 = .ok (.if_icmp .eq 5, 3) := dk_159 0 5 (dk_at dksX1_text_1 6 rfl rfl)
theorem dX1_text_33 : decode cX1_text 33 = .ok (.iconst (-1), 1) := dk_2 (dk_at dksX1_text_1 9 rfl rfl)
theorem dX1_text_34 : decode cX1_text 34 = .ok (.ireturn, 1) := dk_172 (dk_at dksX1_text_1 10 rfl rfl)
theorem dX1_text_35 : decode cX1_text 35 = .ok (.aload_n 0, 1) := dk_42 (dk_at dksX1_text_1 11 rfl rfl)
theorem dX1_text_36 : decode cX1_text 36 = .ok (.iconst 0, 1) := dk_3 (dk_at dksX1_text_1 12 rfl rfl)
theorem dX1_text_37 : decode cX1_text 37 = .ok (.putfield 102, 3) := dk_181 0 102 (dk_at dksX1_text_1 13 rfl rfl)
theorem dX1_text_40 : decode cX1_text 40 = .ok (.aload_n 0, 1) := dk_42 (dk_at dksX1_text_1 16 rfl rfl)
theorem dX1_text_41 : decode cX1_text 41 = .ok (.aload_n 0, 1) := dk_42 (dk_at dksX1_text_1 17 rfl rfl)
theorem dX1_text_42 : decode cX1_text 42 = .ok (.getfield 276, 3) := dk_180 1 20 (dk_at dksX1_text_1 18 rfl rfl)
theorem dX1_text_45 : decode cX1_text 45 = .ok (.putfield 324, 3) := dk_181 1 68 (dk_at dksX1_text_1 21 rfl rfl)
theorem dX1_text_48 : decode cX1_text 48 = .ok (.iconst 0, 1) := dk_3 (dk_at dksX1_text_2 0 rfl rfl)
theorem dX1_text_49 : decode cX1_text 49 = .ok (.istore_n 2, 1) := dk_61 (dk_at dksX1_text_2 1 rfl rfl)
theorem dX1_text_50 : decode cX1_text 50 = .ok (.iload_n 2, 1) := dk_28 (dk_at dksX1_text_2 2 rfl rfl)
theorem dX1_text_51 : decode cX1_text 51 = .ok (.iconst 4, 1) := dk_7 (dk_at dksX1_text_2 3 rfl rfl)
theorem dX1_text_52 : decode cX1_text 52 = .ok (.if_icmp .ge 21, 3) := dk_162 0 21 (dk_at dksX1_text_2 4 rfl rfl)
theorem dX1_text_55 : decode cX1_text 55 = .ok (.aload_n 0, 1) := dk_42 (dk_at dksX1_text_2 7 rfl rfl)
theorem dX1_text_56 : decode cX1_text 56 = .ok (.getfield 33, 3) := dk_180 0 33 (dk_at dksX1_text_2 8 rfl rfl)
theorem dX1_text_59 : decode cX1_text 59 = .ok (.iload_n 2, 1) := dk_28 (dk_at dksX1_text_2 11 rfl rfl)
theorem dX1_text_60 : decode cX1_text 60 = .ok (.aload_n 0, 1) := dk_42 (dk_at dksX1_text_2 12 rfl rfl)
theorem dX1_text_61 : decode cX1_text 61 = .ok (.getfield 24, 3) := dk_180 0 24 (dk_at dksX1_text_2 13 rfl rfl)
theorem dX1_text_64 : decode cX1_text 64 = .ok (.iload_n 2, 1) := dk_28 (dk_at dksX1_text_2 16 rfl rfl)
theorem dX1_text_65 : decode cX1_text 65 = .ok (.iaload, 1) := dk_46 (dk_at dksX1_text_2 17 rfl rfl)
theorem dX1_text_66 : decode cX1_text 66 = .ok (.iastore, 1) := dk_79 (dk_at dksX1_text_2 18 rfl rfl)
theorem dX1_text_67 : decode cX1_text 67 = .ok (.iinc 2 1, 3) := dk_132 2 1 (dk_at dksX1_text_2 19 rfl rfl)
theorem dX1_text_70 : decode cX1_text 70 = .ok (.goto (-20), 3) := dk_167 255 236 (dk_at dksX1_text_3 0 rfl rfl)
theorem dX1_text_73 : decode cX1_text 73 = .ok (.iconst 0, 1) := dk_3 (dk_at dksX1_text_3 3 rfl rfl)
theorem dX1_text_74 : decode cX1_text 74 = .ok (.istore_n 2, 1) := dk_61 (dk_at dksX1_text_3 4 rfl rfl)
theorem dX1_text_75 : decode cX1_text 75 = .ok (.iload_n 2, 1) := dk_28 (dk_at dksX1_text_3 5 rfl rfl)
theorem dX1_text_76 : decode cX1_text 76 = .ok (.bipush 30, 2) := dk_16 30 (dk_at dksX1_text_3 6 rfl rfl)
theorem dX1_text_78 : decode cX1_text 78 = .ok (.if_icmp .ge 21, 3) := dk_162 0 21 (dk_at dksX1_text_3 8 rfl rfl)
theorem dX1_text_81 : decode cX1_text 81 = .ok (.aload_n 0, 1) := dk_42 (dk_at dksX1_text_3 11 rfl rfl)
theorem dX1_text_82 : decode cX1_text 82 = .ok (.getfield 36, 3) := dk_180 0 36 (dk_at dksX1_text_3 12 rfl rfl)
theorem dX1_text_85 : decode cX1_text 85 = .ok (.iload_n 2, 1) := dk_28 (dk_at dksX1_text_3 15 rfl rfl)
theorem dX1_text_86 : decode cX1_text 86 = .ok (.aload_n 0, 1) := dk_42 (dk_at dksX1_text_3 16 rfl rfl)
theorem dX1_text_87 : decode cX1_text 87 = .ok (.getfield 27, 3) := dk_180 0 27 (dk_at dksX1_text_3 17 rfl rfl)
theorem dX1_text_90 : decode cX1_text 90 = .ok (.iload_n 2, 1) := dk_28 (dk_at dksX1_text_3 20 rfl rfl)
theorem dX1_text_91 : decode cX1_text 91 = .ok (.iaload, 1) := dk_46 (dk_at dksX1_text_3 21 rfl rfl)
theorem dX1_text_92 : decode cX1_text 92 = .ok (.iastore, 1) := dk_79 (dk_at dksX1_text_3 22 rfl rfl)
theorem dX1_text_93 : decode cX1_text 93 = .ok (.iinc 2 1, 3) := dk_132 2 1 (dk_at dksX1_text_4 0 rfl rfl)
theorem dX1_text_96 : decode cX1_text 96 = .ok (.goto (-21), 3) := dk_167 255 235 (dk_at dksX1_text_4 3 rfl rfl)
theorem dX1_text_99 : decode cX1_text 99 = .ok (.iconst 0, 1) := dk_3 (dk_at dksX1_text_4 6 rfl rfl)
theorem dX1_text_100 : decode cX1_text 100 = .ok (.istore_n 2, 1) := dk_61 (dk_at dksX1_text_4 7 rfl rfl)
theorem dX1_text_101 : decode cX1_text 101 = .ok (.iload_n 2, 1) := dk_28 (dk_at dksX1_text_4 8 rfl rfl)
theorem dX1_text_102 : decode cX1_text 102 = .ok (.sipush 275, 3) := dk_17 1 19 (dk_at dksX1_text_4 9 rfl rfl)
theorem dX1_text_105 : decode cX1_text 105 = .ok (.if_icmp .ge 16, 3) := dk_162 0 16 (dk_at dksX1_text_4 12 rfl rfl)
theorem dX1_text_108 : decode cX1_text 108 = .ok (.aload_n 0, 1) := dk_42 (dk_at dksX1_text_4 15 rfl rfl)
theorem dX1_text_109 : decode cX1_text 109 = .ok (.getfield 58, 3) := dk_180 0 58 (dk_at dksX1_text_4 16 rfl rfl)
theorem dX1_text_112 : decode cX1_text 112 = .ok (.iload_n 2, 1) := dk_28 (dk_at dksX1_text_4 19 rfl rfl)
theorem dX1_text_113 : decode cX1_text 113 = .ok (.iconst 0, 1) := dk_3 (dk_at dksX1_text_4 20 rfl rfl)
theorem dX1_text_114 : decode cX1_text 114 = .ok (.iastore, 1) := dk_79 (dk_at dksX1_text_4 21 rfl rfl)
theorem dX1_text_115 : decode cX1_text 115 = .ok (.iinc 2 1, 3) := dk_132 2 1 (dk_at dksX1_text_5 0 rfl rfl)
theorem dX1_text_118 : decode cX1_text 118 = .ok (.goto (-17), 3) := dk_167 255 239 (dk_at dksX1_text_5 3 rfl rfl)
theorem dX1_text_121 : decode cX1_text 121 = .ok (.aload_n 0, 1) := dk_42 (dk_at dksX1_text_5 6 rfl rfl)
theorem dX1_text_122 : decode cX1_text 122 = .ok (.getfield 58, 3) := dk_180 0 58 (dk_at dksX1_text_5 7 rfl rfl)
theorem dX1_text_125 : decode cX1_text 125 = .ok (.bipush 32, 2) := dk_16 32 (dk_at dksX1_text_5 10 rfl rfl)
theorem dX1_text_127 : decode cX1_text 127 = .ok (.aload_n 0, 1) := dk_42 (dk_at dksX1_text_5 12 rfl rfl)
theorem dX1_text_128 : decode cX1_text 128 = .ok (.getfield 279, 3) := dk_180 1 23 (dk_at dksX1_text_5 13 rfl rfl)
theorem dX1_text_131 : decode cX1_text 131 = .ok (.iastore, 1) := dk_79 (dk_at dksX1_text_5 16 rfl rfl)
theorem dX1_text_132 : decode cX1_text 132 = .ok (.iconst 0, 1) := dk_3 (dk_at dksX1_text_5 17 rfl rfl)
theorem dX1_text_133 : decode cX1_text 133 = .ok (.istore_n 2, 1) := dk_61 (dk_at dksX1_text_5 18 rfl rfl)
theorem dX1_text_134 : decode cX1_text 134 = .ok (.iload_n 2, 1) := dk_28 (dk_at dksX1_text_5 19 rfl rfl)
theorem dX1_text_135 : decode cX1_text 135 = .ok (.iconst 4, 1) := dk_7 (dk_at dksX1_text_5 20 rfl rfl)
theorem dX1_text_136 : decode cX1_text 136 = .ok (.aload_n 0, 1) := dk_42 (dk_at dksX1_text_5 21 rfl rfl)
theorem dX1_text_137 : decode cX1_text 137 = .ok (.getfield 279, 3) := dk_180 1 23 (dk_at dksX1_text_6 0 rfl rfl)
theorem dX1_text_140 : decode cX1_text 140 = .ok (.imul, 1) := dk_104 (dk_at dksX1_text_6 3 rfl rfl)
theorem dX1_text_141 : decode cX1_text 141 = .ok (.if_icmp .ge 21, 3) := dk_162 0 21 (dk_at dksX1_text_6 4 rfl rfl)
theorem dX1_text_144 : decode cX1_text 144 = .ok (.aload_n 0, 1) := dk_42 (dk_at dksX1_text_6 7 rfl rfl)
theorem dX1_text_145 : decode cX1_text 145 = .ok (.getfield 58, 3) := dk_180 0 58 (dk_at dksX1_text_6 8 rfl rfl)
theorem dX1_text_148 : decode cX1_text 148 = .ok (.iload_n 2, 1) := dk_28 (dk_at dksX1_text_6 11 rfl rfl)
theorem dX1_text_149 : decode cX1_text 149 = .ok (.aload_n 0, 1) := dk_42 (dk_at dksX1_text_6 12 rfl rfl)
theorem dX1_text_150 : decode cX1_text 150 = .ok (.getfield 30, 3) := dk_180 0 30 (dk_at dksX1_text_6 13 rfl rfl)
theorem dX1_text_153 : decode cX1_text 153 = .ok (.iload_n 2, 1) := dk_28 (dk_at dksX1_text_6 16 rfl rfl)
theorem dX1_text_154 : decode cX1_text 154 = .ok (.iaload, 1) := dk_46 (dk_at dksX1_text_6 17 rfl rfl)
theorem dX1_text_155 : decode cX1_text 155 = .ok (.iastore, 1) := dk_79 (dk_at dksX1_text_6 18 rfl rfl)
theorem dX1_text_156 : decode cX1_text 156 = .ok (.iinc 2 1, 3) := dk_132 2 1 (dk_at dksX1_text_6 19 rfl rfl)
theorem dX1_text_159 : decode cX1_text 159 = .ok (.goto (-25), 3) := dk_167 255 231 (dk_at dksX1_text_7 0 rfl rfl)
theorem dX1_text_162 : decode cX1_text 162 = .ok (.iconst 0, 1) := dk_3 (dk_at dksX1_text_7 3 rfl rfl)
theorem dX1_text_163 : decode cX1_text 163 = .ok (.istore_n 2, 1) := dk_61 (dk_at dksX1_text_7 4 rfl rfl)
theorem dX1_text_164 : decode cX1_text 164 = .ok (.iload_n 2, 1) := dk_28 (dk_at dksX1_text_7 5 rfl rfl)
theorem dX1_text_165 : decode cX1_text 165 = .ok (.aload_n 0, 1) := dk_42 (dk_at dksX1_text_7 6 rfl rfl)
theorem dX1_text_166 : decode cX1_text 166 = .ok (.getfield 279, 3) := dk_180 1 23 (dk_at dksX1_text_7 7 rfl rfl)
theorem dX1_text_169 : decode cX1_text 169 = .ok (.if_icmp .ge 23, 3) := dk_162 0 23 (dk_at dksX1_text_7 10 rfl rfl)
theorem dX1_text_172 : decode cX1_text 172 = .ok (.aload_n 0, 1) := dk_42 (dk_at dksX1_text_7 13 rfl rfl)
theorem dX1_text_173 : decode cX1_text 173 = .ok (.getfield 58, 3) := dk_180 0 58 (dk_at dksX1_text_7 14 rfl rfl)
theorem dX1_text_176 : decode cX1_text 176 = .ok (.iconst 4, 1) := dk_7 (dk_at dksX1_text_7 17 rfl rfl)
theorem dX1_text_177 : decode cX1_text 177 = .ok (.iload_n 2, 1) := dk_28 (dk_at dksX1_text_7 18 rfl rfl)
theorem dX1_text_178 : decode cX1_text 178 = .ok (.imul, 1) := dk_104 (dk_at dksX1_text_7 19 rfl rfl)
theorem dX1_text_179 : decode cX1_text 179 = .ok (.iconst 3, 1) := dk_6 (dk_at dksX1_text_7 20 rfl rfl)
theorem dX1_text_180 : decode cX1_text 180 = .ok (.iadd, 1) := dk_96 (dk_at dksX1_text_7 21 rfl rfl)
theorem dX1_text_181 : decode cX1_text 181 = .ok (.dup2, 1) := dk_92 (dk_at dksX1_text_7 22 rfl rfl)
theorem dX1_text_182 : decode cX1_text 182 = .ok (.iaload, 1) := dk_46 (dk_at dksX1_text_7 23 rfl rfl)
theorem dX1_text_183 : decode cX1_text 183 = .ok (.iconst 1, 1) := dk_4 (dk_at dksX1_text_8 0 rfl rfl)
theorem dX1_text_184 : decode cX1_text 184 = .ok (.isub, 1) := dk_100 (dk_at dksX1_text_8 1 rfl rfl)
theorem dX1_text_185 : decode cX1_text 185 = .ok (.iastore, 1) := dk_79 (dk_at dksX1_text_8 2 rfl rfl)
theorem dX1_text_186 : decode cX1_text 186 = .ok (.iinc 2 1, 3) := dk_132 2 1 (dk_at dksX1_text_8 3 rfl rfl)
theorem dX1_text_189 : decode cX1_text 189 = .ok (.goto (-25), 3) := dk_167 255 231 (dk_at dksX1_text_8 6 rfl rfl)
theorem dX1_text_192 : decode cX1_text 192 = .ok (.aload_n 0, 1) := dk_42 (dk_at dksX1_text_8 9 rfl rfl)
theorem dX1_text_193 : decode cX1_text 193 = .ok (.iconst 0, 1) := dk_3 (dk_at dksX1_text_8 10 rfl rfl)
theorem dX1_text_194 : decode cX1_text 194 = .ok (.putfield 327, 3) := dk_181 1 71 (dk_at dksX1_text_8 11 rfl rfl)
theorem dX1_text_197 : decode cX1_text 197 = .ok (.aload_n 0, 1) := dk_42 (dk_at dksX1_text_8 14 rfl rfl)
theorem dX1_text_198 : decode cX1_text 198 = .ok (.iconst 0, 1) := dk_3 (dk_at dksX1_text_8 15 rfl rfl)
theorem dX1_text_199 : decode cX1_text 199 = .ok (.putfield 330, 3) := dk_181 1 74 (dk_at dksX1_text_8 16 rfl rfl)
theorem dX1_text_202 : decode cX1_text 202 = .ok (.aload_n 0, 1) := dk_42 (dk_at dksX1_text_8 19 rfl rfl)
theorem dX1_text_203 : decode cX1_text 203 = .ok (.iconst 0, 1) := dk_3 (dk_at dksX1_text_8 20 rfl rfl)
theorem dX1_text_204 : decode cX1_text 204 = .ok (.putfield 333, 3) := dk_181 1 77 (dk_at dksX1_text_8 21 rfl rfl)
theorem dX1_text_207 : decode cX1_text 207 = .ok (.aload_n 0, 1) := dk_42 (dk_at dksX1_text_9 0 rfl rfl)
theorem dX1_text_208 : decode cX1_text 208 = .ok (.iconst 0, 1) := dk_3 (dk_at dksX1_text_9 1 rfl rfl)
theorem dX1_text_209 : decode cX1_text 209 = .ok (.putfield 336, 3) := dk_181 1 80 (dk_at dksX1_text_9 2 rfl rfl)
theorem dX1_text_212 : decode cX1_text 212 = .ok (.aload_n 0, 1) := dk_42 (dk_at dksX1_text_9 5 rfl rfl)
theorem dX1_text_213 : decode cX1_text 213 = .ok (.getfield 324, 3) := dk_180 1 68 (dk_at dksX1_text_9 6 rfl rfl)
theorem dX1_text_216 : decode cX1_text 216 = .ok (.ireturn, 1) := dk_172 (dk_at dksX1_text_9 9 rfl rfl)
abbrev cX1_lawRead : ByteArray := prog_1_method_39_code
def yX1_lawRead : MethodName := ⟨RX1, "lawRead", "()I"⟩
def dkwX1_lawRead_2 : List UInt8 := [180, 1, 54, 4, 100, 172]
abbrev dktX1_lawRead_2 : List UInt8 := dkwX1_lawRead_2 ++ []
def dkwX1_lawRead_1 : List UInt8 := [167, 0, 6, 76, 2, 172, 42, 3, 181, 0, 102, 42, 89, 180, 1, 54, 4, 96, 181, 1, 54, 42]
abbrev dktX1_lawRead_1 : List UInt8 := dkwX1_lawRead_1 ++ dktX1_lawRead_2
def dkwX1_lawRead_0 : List UInt8 := [42, 180, 1, 54, 7, 160, 0, 5, 2, 172, 42, 180, 0, 47, 42, 180, 1, 54, 42, 182, 0, 211, 83]
abbrev dktX1_lawRead_0 : List UInt8 := dkwX1_lawRead_0 ++ dktX1_lawRead_1
theorem dksX1_lawRead_0 : cX1_lawRead.data.toList.drop 0 = dktX1_lawRead_0 := by decide +kernel
theorem dksX1_lawRead_1 : cX1_lawRead.data.toList.drop 23 = dktX1_lawRead_1 := dk_seg dksX1_lawRead_0 23 rfl rfl
theorem dksX1_lawRead_2 : cX1_lawRead.data.toList.drop 45 = dktX1_lawRead_2 := dk_seg dksX1_lawRead_1 22 rfl rfl
theorem dX1_lawRead_0 : decode cX1_lawRead 0 = .ok (.aload_n 0, 1) := dk_42 (dk_at dksX1_lawRead_0 0 rfl rfl)
theorem dX1_lawRead_1 : decode cX1_lawRead 1 = .ok (.getfield 310, 3) := dk_180 1 54 (dk_at dksX1_lawRead_0 1 rfl rfl)
theorem dX1_lawRead_4 : decode cX1_lawRead 4 = .ok (.iconst 4, 1) := dk_7 (dk_at dksX1_lawRead_0 4 rfl rfl)
theorem dX1_lawRead_5 : decode cX1_lawRead 5 = .ok (.if_icmp .ne 5, 3) := dk_160 0 5 (dk_at dksX1_lawRead_0 5 rfl rfl)
theorem dX1_lawRead_8 : decode cX1_lawRead 8 = .ok (.iconst (-1), 1) := dk_2 (dk_at dksX1_lawRead_0 8 rfl rfl)
theorem dX1_lawRead_9 : decode cX1_lawRead 9 = .ok (.ireturn, 1) := dk_172 (dk_at dksX1_lawRead_0 9 rfl rfl)
theorem dX1_lawRead_10 : decode cX1_lawRead 10 = .ok (.aload_n 0, 1) := dk_42 (dk_at dksX1_lawRead_0 10 rfl rfl)
theorem dX1_lawRead_11 : decode cX1_lawRead 11 = .ok (.getfield 47, 3) := dk_180 0 47 (dk_at dksX1_lawRead_0 11 rfl rfl)
theorem dX1_lawRead_14 : decode cX1_lawRead 14 = .ok (.aload_n 0, 1) := dk_42 (dk_at dksX1_lawRead_0 14 rfl rfl)
theorem dX1_lawRead_15 : decode cX1_lawRead 15 = .ok (.getfield 310, 3) := dk_180 1 54 (dk_at dksX1_lawRead_0 15 rfl rfl)
theorem dX1_lawRead_18 : decode cX1_lawRead 18 = .ok (.aload_n 0, 1) := dk_42 (dk_at dksX1_lawRead_0 18 rfl rfl)
theorem dX1_lawRead_19 : decode cX1_lawRead 19 = .ok (.invokevirtual 211, 3) := dk_182 0 211 (dk_at dksX1_lawRead_0 19 rfl rfl)
theorem dX1_lawRead_22 : decode cX1_lawRead 22 = .ok (.aastore, 1) := dk_83 (dk_at dksX1_lawRead_0 22 rfl rfl)
theorem dX1_lawRead_23 : decode cX1_lawRead 23 = .ok (.goto 6, 3) := dk_167 0 6 (dk_at dksX1_lawRead_1 0 rfl rfl)
theorem dX1_lawRead_26 : decode cX1_lawRead 26 = .ok (.astore_n 1, 1) := dk_76 (dk_at dksX1_lawRead_1 3 rfl rfl)
theorem dX1_lawRead_27 : decode cX1_lawRead 27 = .ok (.iconst (-1), 1) := dk_2 (dk_at dksX1_lawRead_1 4 rfl rfl)
theorem dX1_lawRead_28 : decode cX1_lawRead 28 = .ok (.ireturn, 1) := dk_172 (dk_at dksX1_lawRead_1 5 rfl rfl)
theorem dX1_lawRead_29 : decode cX1_lawRead 29 = .ok (.aload_n 0, 1) := dk_42 (dk_at dksX1_lawRead_1 6 rfl rfl)
theorem dX1_lawRead_30 : decode cX1_lawRead 30 = .ok (.iconst 0, 1) := dk_3 (dk_at dksX1_lawRead_1 7 rfl rfl)
theorem dX1_lawRead_31 : decode cX1_lawRead 31 = .ok (.putfield 102, 3) := dk_181 0 102 (dk_at dksX1_lawRead_1 8 rfl rfl)
theorem dX1_lawRead_34 : decode cX1_lawRead 34 = .ok (.aload_n 0, 1) := dk_42 (dk_at dksX1_lawRead_1 11 rfl rfl)
theorem dX1_lawRead_35 : decode cX1_lawRead 35 = .ok (.dup, 1) := dk_89 (dk_at dksX1_lawRead_1 12 rfl rfl)
theorem dX1_lawRead_36 : decode cX1_lawRead 36 = .ok (.getfield 310, 3) := dk_180 1 54 (dk_at dksX1_lawRead_1 13 rfl rfl)
theorem dX1_lawRead_39 : decode cX1_lawRead 39 = .ok (.iconst 1, 1) := dk_4 (dk_at dksX1_lawRead_1 16 rfl rfl)
theorem dX1_lawRead_40 : decode cX1_lawRead 40 = .ok (.iadd, 1) := dk_96 (dk_at dksX1_lawRead_1 17 rfl rfl)
theorem dX1_lawRead_41 : decode cX1_lawRead 41 = .ok (.putfield 310, 3) := dk_181 1 54 (dk_at dksX1_lawRead_1 18 rfl rfl)
theorem dX1_lawRead_44 : decode cX1_lawRead 44 = .ok (.aload_n 0, 1) := dk_42 (dk_at dksX1_lawRead_1 21 rfl rfl)
theorem dX1_lawRead_45 : decode cX1_lawRead 45 = .ok (.getfield 310, 3) := dk_180 1 54 (dk_at dksX1_lawRead_2 0 rfl rfl)
theorem dX1_lawRead_48 : decode cX1_lawRead 48 = .ok (.iconst 1, 1) := dk_4 (dk_at dksX1_lawRead_2 3 rfl rfl)
theorem dX1_lawRead_49 : decode cX1_lawRead 49 = .ok (.isub, 1) := dk_100 (dk_at dksX1_lawRead_2 4 rfl rfl)
theorem dX1_lawRead_50 : decode cX1_lawRead 50 = .ok (.ireturn, 1) := dk_172 (dk_at dksX1_lawRead_2 5 rfl rfl)
abbrev cX1_planRead : ByteArray := prog_1_method_40_code
def yX1_planRead : MethodName := ⟨RX1, "planRead", "()I"⟩
def dkwX1_planRead_1 : List UInt8 := [42, 3, 181, 0, 102, 42, 89, 180, 1, 57, 4, 96, 181, 1, 57, 42, 180, 1, 57, 4, 100, 172]
abbrev dktX1_planRead_1 : List UInt8 := dkwX1_planRead_1 ++ []
def dkwX1_planRead_0 : List UInt8 := [42, 180, 1, 57, 7, 160, 0, 5, 2, 172, 42, 42, 180, 1, 57, 182, 1, 45, 167, 0, 6, 76, 2, 172]
abbrev dktX1_planRead_0 : List UInt8 := dkwX1_planRead_0 ++ dktX1_planRead_1
theorem dksX1_planRead_0 : cX1_planRead.data.toList.drop 0 = dktX1_planRead_0 := by decide +kernel
theorem dksX1_planRead_1 : cX1_planRead.data.toList.drop 24 = dktX1_planRead_1 := dk_seg dksX1_planRead_0 24 rfl rfl
theorem dX1_planRead_0 : decode cX1_planRead 0 = .ok (.aload_n 0, 1) := dk_42 (dk_at dksX1_planRead_0 0 rfl rfl)
theorem dX1_planRead_1 : decode cX1_planRead 1 = .ok (.getfield 313, 3) := dk_180 1 57 (dk_at dksX1_planRead_0 1 rfl rfl)
theorem dX1_planRead_4 : decode cX1_planRead 4 = .ok (.iconst 4, 1) := dk_7 (dk_at dksX1_planRead_0 4 rfl rfl)
theorem dX1_planRead_5 : decode cX1_planRead 5 = .ok (.if_icmp .ne 5, 3) := dk_160 0 5 (dk_at dksX1_planRead_0 5 rfl rfl)
theorem dX1_planRead_8 : decode cX1_planRead 8 = .ok (.iconst (-1), 1) := dk_2 (dk_at dksX1_planRead_0 8 rfl rfl)
theorem dX1_planRead_9 : decode cX1_planRead 9 = .ok (.ireturn, 1) := dk_172 (dk_at dksX1_planRead_0 9 rfl rfl)
theorem dX1_planRead_10 : decode cX1_planRead 10 = .ok (.aload_n 0, 1) := dk_42 (dk_at dksX1_planRead_0 10 rfl rfl)
theorem dX1_planRead_11 : decode cX1_planRead 11 = .ok (.aload_n 0, 1) := dk_42 (dk_at dksX1_planRead_0 11 rfl rfl)
theorem dX1_planRead_12 : decode cX1_planRead 12 = .ok (.getfield 313, 3) := dk_180 1 57 (dk_at dksX1_planRead_0 12 rfl rfl)
theorem dX1_planRead_15 : decode cX1_planRead 15 = .ok (.invokevirtual 301, 3) := dk_182 1 45 (dk_at dksX1_planRead_0 15 rfl rfl)
theorem dX1_planRead_18 : decode cX1_planRead 18 = .ok (.goto 6, 3) := dk_167 0 6 (dk_at dksX1_planRead_0 18 rfl rfl)
theorem dX1_planRead_21 : decode cX1_planRead 21 = .ok (.astore_n 1, 1) := dk_76 (dk_at dksX1_planRead_0 21 rfl rfl)
theorem dX1_planRead_22 : decode cX1_planRead 22 = .ok (.iconst (-1), 1) := dk_2 (dk_at dksX1_planRead_0 22 rfl rfl)
theorem dX1_planRead_23 : decode cX1_planRead 23 = .ok (.ireturn, 1) := dk_172 (dk_at dksX1_planRead_0 23 rfl rfl)
theorem dX1_planRead_24 : decode cX1_planRead 24 = .ok (.aload_n 0, 1) := dk_42 (dk_at dksX1_planRead_1 0 rfl rfl)
theorem dX1_planRead_25 : decode cX1_planRead 25 = .ok (.iconst 0, 1) := dk_3 (dk_at dksX1_planRead_1 1 rfl rfl)
theorem dX1_planRead_26 : decode cX1_planRead 26 = .ok (.putfield 102, 3) := dk_181 0 102 (dk_at dksX1_planRead_1 2 rfl rfl)
theorem dX1_planRead_29 : decode cX1_planRead 29 = .ok (.aload_n 0, 1) := dk_42 (dk_at dksX1_planRead_1 5 rfl rfl)
theorem dX1_planRead_30 : decode cX1_planRead 30 = .ok (.dup, 1) := dk_89 (dk_at dksX1_planRead_1 6 rfl rfl)
theorem dX1_planRead_31 : decode cX1_planRead 31 = .ok (.getfield 313, 3) := dk_180 1 57 (dk_at dksX1_planRead_1 7 rfl rfl)
theorem dX1_planRead_34 : decode cX1_planRead 34 = .ok (.iconst 1, 1) := dk_4 (dk_at dksX1_planRead_1 10 rfl rfl)
theorem dX1_planRead_35 : decode cX1_planRead 35 = .ok (.iadd, 1) := dk_96 (dk_at dksX1_planRead_1 11 rfl rfl)
theorem dX1_planRead_36 : decode cX1_planRead 36 = .ok (.putfield 313, 3) := dk_181 1 57 (dk_at dksX1_planRead_1 12 rfl rfl)
theorem dX1_planRead_39 : decode cX1_planRead 39 = .ok (.aload_n 0, 1) := dk_42 (dk_at dksX1_planRead_1 15 rfl rfl)
theorem dX1_planRead_40 : decode cX1_planRead 40 = .ok (.getfield 313, 3) := dk_180 1 57 (dk_at dksX1_planRead_1 16 rfl rfl)
theorem dX1_planRead_43 : decode cX1_planRead 43 = .ok (.iconst 1, 1) := dk_4 (dk_at dksX1_planRead_1 19 rfl rfl)
theorem dX1_planRead_44 : decode cX1_planRead 44 = .ok (.isub, 1) := dk_100 (dk_at dksX1_planRead_1 20 rfl rfl)
theorem dX1_planRead_45 : decode cX1_planRead 45 = .ok (.ireturn, 1) := dk_172 (dk_at dksX1_planRead_1 21 rfl rfl)
abbrev cX1_rule : ByteArray := prog_1_method_59_code
def yX1_rule : MethodName := ⟨RX1, "rule", "(I)I"⟩
def dkwX1_rule_1 : List UInt8 := [167, 0, 4, 2, 172]
abbrev dktX1_rule_1 : List UInt8 := dkwX1_rule_1 ++ []
def dkwX1_rule_0 : List UInt8 := [42, 182, 1, 128, 153, 0, 21, 27, 3, 6, 184, 0, 246, 153, 0, 12, 42, 180, 0, 33, 27, 46]
abbrev dktX1_rule_0 : List UInt8 := dkwX1_rule_0 ++ dktX1_rule_1
theorem dksX1_rule_0 : cX1_rule.data.toList.drop 0 = dktX1_rule_0 := by decide +kernel
theorem dksX1_rule_1 : cX1_rule.data.toList.drop 22 = dktX1_rule_1 := dk_seg dksX1_rule_0 22 rfl rfl
theorem dX1_rule_0 : decode cX1_rule 0 = .ok (.aload_n 0, 1) := dk_42 (dk_at dksX1_rule_0 0 rfl rfl)
theorem dX1_rule_1 : decode cX1_rule 1 = .ok (.invokevirtual 384, 3) := dk_182 1 128 (dk_at dksX1_rule_0 1 rfl rfl)
theorem dX1_rule_4 : decode cX1_rule 4 = .ok (.ifCond .eq 21, 3) := dk_153 0 21 (dk_at dksX1_rule_0 4 rfl rfl)
theorem dX1_rule_7 : decode cX1_rule 7 = .ok (.iload_n 1, 1) := dk_27 (dk_at dksX1_rule_0 7 rfl rfl)
theorem dX1_rule_8 : decode cX1_rule 8 = .ok (.iconst 0, 1) := dk_3 (dk_at dksX1_rule_0 8 rfl rfl)
theorem dX1_rule_9 : decode cX1_rule 9 = .ok (.iconst 3, 1) := dk_6 (dk_at dksX1_rule_0 9 rfl rfl)
theorem dX1_rule_10 : decode cX1_rule 10 = .ok (.invokestatic 246, 3) := dk_184 0 246 (dk_at dksX1_rule_0 10 rfl rfl)
theorem dX1_rule_13 : decode cX1_rule 13 = .ok (.ifCond .eq 12, 3) := dk_153 0 12 (dk_at dksX1_rule_0 13 rfl rfl)
theorem dX1_rule_16 : decode cX1_rule 16 = .ok (.aload_n 0, 1) := dk_42 (dk_at dksX1_rule_0 16 rfl rfl)
theorem dX1_rule_17 : decode cX1_rule 17 = .ok (.getfield 33, 3) := dk_180 0 33 (dk_at dksX1_rule_0 17 rfl rfl)
theorem dX1_rule_20 : decode cX1_rule 20 = .ok (.iload_n 1, 1) := dk_27 (dk_at dksX1_rule_0 20 rfl rfl)
theorem dX1_rule_21 : decode cX1_rule 21 = .ok (.iaload, 1) := dk_46 (dk_at dksX1_rule_0 21 rfl rfl)
theorem dX1_rule_22 : decode cX1_rule 22 = .ok (.goto 4, 3) := dk_167 0 4 (dk_at dksX1_rule_1 0 rfl rfl)
theorem dX1_rule_25 : decode cX1_rule 25 = .ok (.iconst (-1), 1) := dk_2 (dk_at dksX1_rule_1 3 rfl rfl)
theorem dX1_rule_26 : decode cX1_rule 26 = .ok (.ireturn, 1) := dk_172 (dk_at dksX1_rule_1 4 rfl rfl)
abbrev cX1_isHouse : ByteArray := prog_1_method_42_code
def yX1_isHouse : MethodName := ⟨RX1, "isHouse", "()Z"⟩
def dkwX1_isHouse_0 : List UInt8 := [42, 180, 1, 68, 158, 0, 7, 4, 167, 0, 4, 3, 172]
abbrev dktX1_isHouse_0 : List UInt8 := dkwX1_isHouse_0 ++ []
theorem dksX1_isHouse_0 : cX1_isHouse.data.toList.drop 0 = dktX1_isHouse_0 := by decide +kernel
theorem dX1_isHouse_0 : decode cX1_isHouse 0 = .ok (.aload_n 0, 1) := dk_42 (dk_at dksX1_isHouse_0 0 rfl rfl)
theorem dX1_isHouse_1 : decode cX1_isHouse 1 = .ok (.getfield 324, 3) := dk_180 1 68 (dk_at dksX1_isHouse_0 1 rfl rfl)
theorem dX1_isHouse_4 : decode cX1_isHouse 4 = .ok (.ifCond .le 7, 3) := dk_158 0 7 (dk_at dksX1_isHouse_0 4 rfl rfl)
theorem dX1_isHouse_7 : decode cX1_isHouse 7 = .ok (.iconst 1, 1) := dk_4 (dk_at dksX1_isHouse_0 7 rfl rfl)
theorem dX1_isHouse_8 : decode cX1_isHouse 8 = .ok (.goto 4, 3) := dk_167 0 4 (dk_at dksX1_isHouse_0 8 rfl rfl)
theorem dX1_isHouse_11 : decode cX1_isHouse 11 = .ok (.iconst 0, 1) := dk_3 (dk_at dksX1_isHouse_0 11 rfl rfl)
theorem dX1_isHouse_12 : decode cX1_isHouse 12 = .ok (.ireturn, 1) := dk_172 (dk_at dksX1_isHouse_0 12 rfl rfl)
abbrev cX1_kind : ByteArray := prog_1_method_60_code
def yX1_kind : MethodName := ⟨RX1, "kind", "(II)I"⟩
def dkwX1_kind_1 : List UInt8 := [160, 0, 11, 42, 27, 182, 1, 134, 167, 0, 9, 42, 27, 28, 182, 1, 90, 172]
abbrev dktX1_kind_1 : List UInt8 := dkwX1_kind_1 ++ []
def dkwX1_kind_0 : List UInt8 := [42, 27, 182, 1, 131, 153, 0, 12, 28, 3, 7, 184, 0, 246, 154, 0, 7, 2, 167, 0, 22, 28, 7]
abbrev dktX1_kind_0 : List UInt8 := dkwX1_kind_0 ++ dktX1_kind_1
theorem dksX1_kind_0 : cX1_kind.data.toList.drop 0 = dktX1_kind_0 := by decide +kernel
theorem dksX1_kind_1 : cX1_kind.data.toList.drop 23 = dktX1_kind_1 := dk_seg dksX1_kind_0 23 rfl rfl
theorem dX1_kind_0 : decode cX1_kind 0 = .ok (.aload_n 0, 1) := dk_42 (dk_at dksX1_kind_0 0 rfl rfl)
theorem dX1_kind_1 : decode cX1_kind 1 = .ok (.iload_n 1, 1) := dk_27 (dk_at dksX1_kind_0 1 rfl rfl)
theorem dX1_kind_2 : decode cX1_kind 2 = .ok (.invokevirtual 387, 3) := dk_182 1 131 (dk_at dksX1_kind_0 2 rfl rfl)
theorem dX1_kind_5 : decode cX1_kind 5 = .ok (.ifCond .eq 12, 3) := dk_153 0 12 (dk_at dksX1_kind_0 5 rfl rfl)
theorem dX1_kind_8 : decode cX1_kind 8 = .ok (.iload_n 2, 1) := dk_28 (dk_at dksX1_kind_0 8 rfl rfl)
theorem dX1_kind_9 : decode cX1_kind 9 = .ok (.iconst 0, 1) := dk_3 (dk_at dksX1_kind_0 9 rfl rfl)
theorem dX1_kind_10 : decode cX1_kind 10 = .ok (.iconst 4, 1) := dk_7 (dk_at dksX1_kind_0 10 rfl rfl)
theorem dX1_kind_11 : decode cX1_kind 11 = .ok (.invokestatic 246, 3) := dk_184 0 246 (dk_at dksX1_kind_0 11 rfl rfl)
theorem dX1_kind_14 : decode cX1_kind 14 = .ok (.ifCond .ne 7, 3) := dk_154 0 7 (dk_at dksX1_kind_0 14 rfl rfl)
theorem dX1_kind_17 : decode cX1_kind 17 = .ok (.iconst (-1), 1) := dk_2 (dk_at dksX1_kind_0 17 rfl rfl)
theorem dX1_kind_18 : decode cX1_kind 18 = .ok (.goto 22, 3) := dk_167 0 22 (dk_at dksX1_kind_0 18 rfl rfl)
theorem dX1_kind_21 : decode cX1_kind 21 = .ok (.iload_n 2, 1) := dk_28 (dk_at dksX1_kind_0 21 rfl rfl)
theorem dX1_kind_22 : decode cX1_kind 22 = .ok (.iconst 4, 1) := dk_7 (dk_at dksX1_kind_0 22 rfl rfl)
theorem dX1_kind_23 : decode cX1_kind 23 = .ok (.if_icmp .ne 11, 3) := dk_160 0 11 (dk_at dksX1_kind_1 0 rfl rfl)
theorem dX1_kind_26 : decode cX1_kind 26 = .ok (.aload_n 0, 1) := dk_42 (dk_at dksX1_kind_1 3 rfl rfl)
theorem dX1_kind_27 : decode cX1_kind 27 = .ok (.iload_n 1, 1) := dk_27 (dk_at dksX1_kind_1 4 rfl rfl)
theorem dX1_kind_28 : decode cX1_kind 28 = .ok (.invokevirtual 390, 3) := dk_182 1 134 (dk_at dksX1_kind_1 5 rfl rfl)
theorem dX1_kind_31 : decode cX1_kind 31 = .ok (.goto 9, 3) := dk_167 0 9 (dk_at dksX1_kind_1 8 rfl rfl)
theorem dX1_kind_34 : decode cX1_kind 34 = .ok (.aload_n 0, 1) := dk_42 (dk_at dksX1_kind_1 11 rfl rfl)
theorem dX1_kind_35 : decode cX1_kind 35 = .ok (.iload_n 1, 1) := dk_27 (dk_at dksX1_kind_1 12 rfl rfl)
theorem dX1_kind_36 : decode cX1_kind 36 = .ok (.iload_n 2, 1) := dk_28 (dk_at dksX1_kind_1 13 rfl rfl)
theorem dX1_kind_37 : decode cX1_kind 37 = .ok (.invokevirtual 346, 3) := dk_182 1 90 (dk_at dksX1_kind_1 14 rfl rfl)
theorem dX1_kind_40 : decode cX1_kind 40 = .ok (.ireturn, 1) := dk_172 (dk_at dksX1_kind_1 17 rfl rfl)
abbrev cX1_isKind : ByteArray := prog_1_method_43_code
def yX1_isKind : MethodName := ⟨RX1, "isKind", "(I)Z"⟩
def dkwX1_isKind_0 : List UInt8 := [27, 3, 42, 180, 1, 68, 4, 100, 184, 0, 246, 172]
abbrev dktX1_isKind_0 : List UInt8 := dkwX1_isKind_0 ++ []
theorem dksX1_isKind_0 : cX1_isKind.data.toList.drop 0 = dktX1_isKind_0 := by decide +kernel
theorem dX1_isKind_0 : decode cX1_isKind 0 = .ok (.iload_n 1, 1) := dk_27 (dk_at dksX1_isKind_0 0 rfl rfl)
theorem dX1_isKind_1 : decode cX1_isKind 1 = .ok (.iconst 0, 1) := dk_3 (dk_at dksX1_isKind_0 1 rfl rfl)
theorem dX1_isKind_2 : decode cX1_isKind 2 = .ok (.aload_n 0, 1) := dk_42 (dk_at dksX1_isKind_0 2 rfl rfl)
theorem dX1_isKind_3 : decode cX1_isKind 3 = .ok (.getfield 324, 3) := dk_180 1 68 (dk_at dksX1_isKind_0 3 rfl rfl)
theorem dX1_isKind_6 : decode cX1_isKind 6 = .ok (.iconst 1, 1) := dk_4 (dk_at dksX1_isKind_0 6 rfl rfl)
theorem dX1_isKind_7 : decode cX1_isKind 7 = .ok (.isub, 1) := dk_100 (dk_at dksX1_isKind_0 7 rfl rfl)
theorem dX1_isKind_8 : decode cX1_isKind 8 = .ok (.invokestatic 246, 3) := dk_184 0 246 (dk_at dksX1_isKind_0 8 rfl rfl)
theorem dX1_isKind_11 : decode cX1_isKind 11 = .ok (.ireturn, 1) := dk_172 (dk_at dksX1_isKind_0 11 rfl rfl)
abbrev cX1_goesWith : ByteArray := prog_1_method_49_code
def yX1_goesWith : MethodName := ⟨RX1, "goesWith", "(I)I"⟩
def dkwX1_goesWith_0 : List UInt8 := [42, 27, 7, 182, 1, 90, 16, 6, 160, 0, 7, 2, 167, 0, 9, 42, 27, 7, 182, 1, 90, 172]
abbrev dktX1_goesWith_0 : List UInt8 := dkwX1_goesWith_0 ++ []
theorem dksX1_goesWith_0 : cX1_goesWith.data.toList.drop 0 = dktX1_goesWith_0 := by decide +kernel
theorem dX1_goesWith_0 : decode cX1_goesWith 0 = .ok (.aload_n 0, 1) := dk_42 (dk_at dksX1_goesWith_0 0 rfl rfl)
theorem dX1_goesWith_1 : decode cX1_goesWith 1 = .ok (.iload_n 1, 1) := dk_27 (dk_at dksX1_goesWith_0 1 rfl rfl)
theorem dX1_goesWith_2 : decode cX1_goesWith 2 = .ok (.iconst 4, 1) := dk_7 (dk_at dksX1_goesWith_0 2 rfl rfl)
theorem dX1_goesWith_3 : decode cX1_goesWith 3 = .ok (.invokevirtual 346, 3) := dk_182 1 90 (dk_at dksX1_goesWith_0 3 rfl rfl)
theorem dX1_goesWith_6 : decode cX1_goesWith 6 = .ok (.bipush 6, 2) := dk_16 6 (dk_at dksX1_goesWith_0 6 rfl rfl)
theorem dX1_goesWith_8 : decode cX1_goesWith 8 = .ok (.if_icmp .ne 7, 3) := dk_160 0 7 (dk_at dksX1_goesWith_0 8 rfl rfl)
theorem dX1_goesWith_11 : decode cX1_goesWith 11 = .ok (.iconst (-1), 1) := dk_2 (dk_at dksX1_goesWith_0 11 rfl rfl)
theorem dX1_goesWith_12 : decode cX1_goesWith 12 = .ok (.goto 9, 3) := dk_167 0 9 (dk_at dksX1_goesWith_0 12 rfl rfl)
theorem dX1_goesWith_15 : decode cX1_goesWith 15 = .ok (.aload_n 0, 1) := dk_42 (dk_at dksX1_goesWith_0 15 rfl rfl)
theorem dX1_goesWith_16 : decode cX1_goesWith 16 = .ok (.iload_n 1, 1) := dk_27 (dk_at dksX1_goesWith_0 16 rfl rfl)
theorem dX1_goesWith_17 : decode cX1_goesWith 17 = .ok (.iconst 4, 1) := dk_7 (dk_at dksX1_goesWith_0 17 rfl rfl)
theorem dX1_goesWith_18 : decode cX1_goesWith 18 = .ok (.invokevirtual 346, 3) := dk_182 1 90 (dk_at dksX1_goesWith_0 18 rfl rfl)
theorem dX1_goesWith_21 : decode cX1_goesWith 21 = .ok (.ireturn, 1) := dk_172 (dk_at dksX1_goesWith_0 21 rfl rfl)
abbrev cX1_ofKind : ByteArray := prog_1_method_48_code
def yX1_ofKind : MethodName := ⟨RX1, "ofKind", "(II)I"⟩
def dkwX1_ofKind_0 : List UInt8 := [42, 180, 0, 36, 8, 27, 104, 28, 96, 46, 172]
abbrev dktX1_ofKind_0 : List UInt8 := dkwX1_ofKind_0 ++ []
theorem dksX1_ofKind_0 : cX1_ofKind.data.toList.drop 0 = dktX1_ofKind_0 := by decide +kernel
theorem dX1_ofKind_0 : decode cX1_ofKind 0 = .ok (.aload_n 0, 1) := dk_42 (dk_at dksX1_ofKind_0 0 rfl rfl)
theorem dX1_ofKind_1 : decode cX1_ofKind 1 = .ok (.getfield 36, 3) := dk_180 0 36 (dk_at dksX1_ofKind_0 1 rfl rfl)
theorem dX1_ofKind_4 : decode cX1_ofKind 4 = .ok (.iconst 5, 1) := dk_8 (dk_at dksX1_ofKind_0 4 rfl rfl)
theorem dX1_ofKind_5 : decode cX1_ofKind 5 = .ok (.iload_n 1, 1) := dk_27 (dk_at dksX1_ofKind_0 5 rfl rfl)
theorem dX1_ofKind_6 : decode cX1_ofKind 6 = .ok (.imul, 1) := dk_104 (dk_at dksX1_ofKind_0 6 rfl rfl)
theorem dX1_ofKind_7 : decode cX1_ofKind 7 = .ok (.iload_n 2, 1) := dk_28 (dk_at dksX1_ofKind_0 7 rfl rfl)
theorem dX1_ofKind_8 : decode cX1_ofKind 8 = .ok (.iadd, 1) := dk_96 (dk_at dksX1_ofKind_0 8 rfl rfl)
theorem dX1_ofKind_9 : decode cX1_ofKind 9 = .ok (.iaload, 1) := dk_46 (dk_at dksX1_ofKind_0 9 rfl rfl)
theorem dX1_ofKind_10 : decode cX1_ofKind 10 = .ok (.ireturn, 1) := dk_172 (dk_at dksX1_ofKind_0 10 rfl rfl)
abbrev cX1_law : ByteArray := prog_1_method_62_code
def yX1_law : MethodName := ⟨RX1, "law", "(I)Z"⟩
def dkwX1_law_0 : List UInt8 := [27, 2, 42, 180, 1, 54, 4, 100, 184, 0, 246, 154, 0, 5, 3, 172, 42, 27, 181, 0, 51, 4, 172]
abbrev dktX1_law_0 : List UInt8 := dkwX1_law_0 ++ []
theorem dksX1_law_0 : cX1_law.data.toList.drop 0 = dktX1_law_0 := by decide +kernel
theorem dX1_law_0 : decode cX1_law 0 = .ok (.iload_n 1, 1) := dk_27 (dk_at dksX1_law_0 0 rfl rfl)
theorem dX1_law_1 : decode cX1_law 1 = .ok (.iconst (-1), 1) := dk_2 (dk_at dksX1_law_0 1 rfl rfl)
theorem dX1_law_2 : decode cX1_law 2 = .ok (.aload_n 0, 1) := dk_42 (dk_at dksX1_law_0 2 rfl rfl)
theorem dX1_law_3 : decode cX1_law 3 = .ok (.getfield 310, 3) := dk_180 1 54 (dk_at dksX1_law_0 3 rfl rfl)
theorem dX1_law_6 : decode cX1_law 6 = .ok (.iconst 1, 1) := dk_4 (dk_at dksX1_law_0 6 rfl rfl)
theorem dX1_law_7 : decode cX1_law 7 = .ok (.isub, 1) := dk_100 (dk_at dksX1_law_0 7 rfl rfl)
theorem dX1_law_8 : decode cX1_law 8 = .ok (.invokestatic 246, 3) := dk_184 0 246 (dk_at dksX1_law_0 8 rfl rfl)
theorem dX1_law_11 : decode cX1_law 11 = .ok (.ifCond .ne 5, 3) := dk_154 0 5 (dk_at dksX1_law_0 11 rfl rfl)
theorem dX1_law_14 : decode cX1_law 14 = .ok (.iconst 0, 1) := dk_3 (dk_at dksX1_law_0 14 rfl rfl)
theorem dX1_law_15 : decode cX1_law 15 = .ok (.ireturn, 1) := dk_172 (dk_at dksX1_law_0 15 rfl rfl)
theorem dX1_law_16 : decode cX1_law 16 = .ok (.aload_n 0, 1) := dk_42 (dk_at dksX1_law_0 16 rfl rfl)
theorem dX1_law_17 : decode cX1_law 17 = .ok (.iload_n 1, 1) := dk_27 (dk_at dksX1_law_0 17 rfl rfl)
theorem dX1_law_18 : decode cX1_law 18 = .ok (.putfield 51, 3) := dk_181 0 51 (dk_at dksX1_law_0 18 rfl rfl)
theorem dX1_law_21 : decode cX1_law 21 = .ok (.iconst 1, 1) := dk_4 (dk_at dksX1_law_0 21 rfl rfl)
theorem dX1_law_22 : decode cX1_law 22 = .ok (.ireturn, 1) := dk_172 (dk_at dksX1_law_0 22 rfl rfl)
abbrev cX1_habit : ByteArray := prog_1_method_63_code
def yX1_habit : MethodName := ⟨RX1, "habit", "(I)Z"⟩
def dkwX1_habit_1 : List UInt8 := [181, 0, 55, 4, 172]
abbrev dktX1_habit_1 : List UInt8 := dkwX1_habit_1 ++ []
def dkwX1_habit_0 : List UInt8 := [27, 3, 16, 9, 184, 0, 246, 153, 0, 11, 27, 42, 180, 0, 55, 160, 0, 5, 3, 172, 42, 27]
abbrev dktX1_habit_0 : List UInt8 := dkwX1_habit_0 ++ dktX1_habit_1
theorem dksX1_habit_0 : cX1_habit.data.toList.drop 0 = dktX1_habit_0 := by decide +kernel
theorem dksX1_habit_1 : cX1_habit.data.toList.drop 22 = dktX1_habit_1 := dk_seg dksX1_habit_0 22 rfl rfl
theorem dX1_habit_0 : decode cX1_habit 0 = .ok (.iload_n 1, 1) := dk_27 (dk_at dksX1_habit_0 0 rfl rfl)
theorem dX1_habit_1 : decode cX1_habit 1 = .ok (.iconst 0, 1) := dk_3 (dk_at dksX1_habit_0 1 rfl rfl)
theorem dX1_habit_2 : decode cX1_habit 2 = .ok (.bipush 9, 2) := dk_16 9 (dk_at dksX1_habit_0 2 rfl rfl)
theorem dX1_habit_4 : decode cX1_habit 4 = .ok (.invokestatic 246, 3) := dk_184 0 246 (dk_at dksX1_habit_0 4 rfl rfl)
theorem dX1_habit_7 : decode cX1_habit 7 = .ok (.ifCond .eq 11, 3) := dk_153 0 11 (dk_at dksX1_habit_0 7 rfl rfl)
theorem dX1_habit_10 : decode cX1_habit 10 = .ok (.iload_n 1, 1) := dk_27 (dk_at dksX1_habit_0 10 rfl rfl)
theorem dX1_habit_11 : decode cX1_habit 11 = .ok (.aload_n 0, 1) := dk_42 (dk_at dksX1_habit_0 11 rfl rfl)
theorem dX1_habit_12 : decode cX1_habit 12 = .ok (.getfield 55, 3) := dk_180 0 55 (dk_at dksX1_habit_0 12 rfl rfl)
theorem dX1_habit_15 : decode cX1_habit 15 = .ok (.if_icmp .ne 5, 3) := dk_160 0 5 (dk_at dksX1_habit_0 15 rfl rfl)
theorem dX1_habit_18 : decode cX1_habit 18 = .ok (.iconst 0, 1) := dk_3 (dk_at dksX1_habit_0 18 rfl rfl)
theorem dX1_habit_19 : decode cX1_habit 19 = .ok (.ireturn, 1) := dk_172 (dk_at dksX1_habit_0 19 rfl rfl)
theorem dX1_habit_20 : decode cX1_habit 20 = .ok (.aload_n 0, 1) := dk_42 (dk_at dksX1_habit_0 20 rfl rfl)
theorem dX1_habit_21 : decode cX1_habit 21 = .ok (.iload_n 1, 1) := dk_27 (dk_at dksX1_habit_0 21 rfl rfl)
theorem dX1_habit_22 : decode cX1_habit 22 = .ok (.putfield 55, 3) := dk_181 0 55 (dk_at dksX1_habit_1 0 rfl rfl)
theorem dX1_habit_25 : decode cX1_habit 25 = .ok (.iconst 1, 1) := dk_4 (dk_at dksX1_habit_1 3 rfl rfl)
theorem dX1_habit_26 : decode cX1_habit 26 = .ok (.ireturn, 1) := dk_172 (dk_at dksX1_habit_1 4 rfl rfl)
abbrev cX1_put : ByteArray := prog_1_method_67_code
def yX1_put : MethodName := ⟨RX1, "put", "(IIZ)I"⟩
def dkwX1_put_1 : List UInt8 := [182, 1, 84, 172]
abbrev dktX1_put_1 : List UInt8 := dkwX1_put_1 ++ []
def dkwX1_put_0 : List UInt8 := [42, 27, 28, 182, 1, 152, 154, 0, 5, 2, 172, 42, 182, 1, 155, 42, 27, 28, 29, 182, 1, 158, 42]
abbrev dktX1_put_0 : List UInt8 := dkwX1_put_0 ++ dktX1_put_1
theorem dksX1_put_0 : cX1_put.data.toList.drop 0 = dktX1_put_0 := by decide +kernel
theorem dksX1_put_1 : cX1_put.data.toList.drop 23 = dktX1_put_1 := dk_seg dksX1_put_0 23 rfl rfl
theorem dX1_put_0 : decode cX1_put 0 = .ok (.aload_n 0, 1) := dk_42 (dk_at dksX1_put_0 0 rfl rfl)
theorem dX1_put_1 : decode cX1_put 1 = .ok (.iload_n 1, 1) := dk_27 (dk_at dksX1_put_0 1 rfl rfl)
theorem dX1_put_2 : decode cX1_put 2 = .ok (.iload_n 2, 1) := dk_28 (dk_at dksX1_put_0 2 rfl rfl)
theorem dX1_put_3 : decode cX1_put 3 = .ok (.invokevirtual 408, 3) := dk_182 1 152 (dk_at dksX1_put_0 3 rfl rfl)
theorem dX1_put_6 : decode cX1_put 6 = .ok (.ifCond .ne 5, 3) := dk_154 0 5 (dk_at dksX1_put_0 6 rfl rfl)
theorem dX1_put_9 : decode cX1_put 9 = .ok (.iconst (-1), 1) := dk_2 (dk_at dksX1_put_0 9 rfl rfl)
theorem dX1_put_10 : decode cX1_put 10 = .ok (.ireturn, 1) := dk_172 (dk_at dksX1_put_0 10 rfl rfl)
theorem dX1_put_11 : decode cX1_put 11 = .ok (.aload_n 0, 1) := dk_42 (dk_at dksX1_put_0 11 rfl rfl)
theorem dX1_put_12 : decode cX1_put 12 = .ok (.invokevirtual 411, 3) := dk_182 1 155 (dk_at dksX1_put_0 12 rfl rfl)
theorem dX1_put_15 : decode cX1_put 15 = .ok (.aload_n 0, 1) := dk_42 (dk_at dksX1_put_0 15 rfl rfl)
theorem dX1_put_16 : decode cX1_put 16 = .ok (.iload_n 1, 1) := dk_27 (dk_at dksX1_put_0 16 rfl rfl)
theorem dX1_put_17 : decode cX1_put 17 = .ok (.iload_n 2, 1) := dk_28 (dk_at dksX1_put_0 17 rfl rfl)
theorem dX1_put_18 : decode cX1_put 18 = .ok (.iload_n 3, 1) := dk_29 (dk_at dksX1_put_0 18 rfl rfl)
theorem dX1_put_19 : decode cX1_put 19 = .ok (.invokevirtual 414, 3) := dk_182 1 158 (dk_at dksX1_put_0 19 rfl rfl)
theorem dX1_put_22 : decode cX1_put 22 = .ok (.aload_n 0, 1) := dk_42 (dk_at dksX1_put_0 22 rfl rfl)
theorem dX1_put_23 : decode cX1_put 23 = .ok (.invokevirtual 340, 3) := dk_182 1 84 (dk_at dksX1_put_1 0 rfl rfl)
theorem dX1_put_26 : decode cX1_put 26 = .ok (.ireturn, 1) := dk_172 (dk_at dksX1_put_1 3 rfl rfl)
abbrev cX1_canPut : ByteArray := prog_1_method_65_code
def yX1_canPut : MethodName := ⟨RX1, "canPut", "(II)Z"⟩
def dkwX1_canPut_1 : List UInt8 := [162, 0, 22, 42, 182, 1, 149, 28, 96, 42, 180, 0, 33, 3, 46, 163, 0, 7, 4, 167, 0, 4, 3, 172]
abbrev dktX1_canPut_1 : List UInt8 := dkwX1_canPut_1 ++ []
def dkwX1_canPut_0 : List UInt8 := [42, 27, 182, 1, 131, 153, 0, 41, 28, 4, 16, 9, 184, 0, 246, 153, 0, 31, 42, 182, 1, 84, 16, 8]
abbrev dktX1_canPut_0 : List UInt8 := dkwX1_canPut_0 ++ dktX1_canPut_1
theorem dksX1_canPut_0 : cX1_canPut.data.toList.drop 0 = dktX1_canPut_0 := by decide +kernel
theorem dksX1_canPut_1 : cX1_canPut.data.toList.drop 24 = dktX1_canPut_1 := dk_seg dksX1_canPut_0 24 rfl rfl
theorem dX1_canPut_0 : decode cX1_canPut 0 = .ok (.aload_n 0, 1) := dk_42 (dk_at dksX1_canPut_0 0 rfl rfl)
theorem dX1_canPut_1 : decode cX1_canPut 1 = .ok (.iload_n 1, 1) := dk_27 (dk_at dksX1_canPut_0 1 rfl rfl)
theorem dX1_canPut_2 : decode cX1_canPut 2 = .ok (.invokevirtual 387, 3) := dk_182 1 131 (dk_at dksX1_canPut_0 2 rfl rfl)
theorem dX1_canPut_5 : decode cX1_canPut 5 = .ok (.ifCond .eq 41, 3) := dk_153 0 41 (dk_at dksX1_canPut_0 5 rfl rfl)
theorem dX1_canPut_8 : decode cX1_canPut 8 = .ok (.iload_n 2, 1) := dk_28 (dk_at dksX1_canPut_0 8 rfl rfl)
theorem dX1_canPut_9 : decode cX1_canPut 9 = .ok (.iconst 1, 1) := dk_4 (dk_at dksX1_canPut_0 9 rfl rfl)
theorem dX1_canPut_10 : decode cX1_canPut 10 = .ok (.bipush 9, 2) := dk_16 9 (dk_at dksX1_canPut_0 10 rfl rfl)
theorem dX1_canPut_12 : decode cX1_canPut 12 = .ok (.invokestatic 246, 3) := dk_184 0 246 (dk_at dksX1_canPut_0 12 rfl rfl)
theorem dX1_canPut_15 : decode cX1_canPut 15 = .ok (.ifCond .eq 31, 3) := dk_153 0 31 (dk_at dksX1_canPut_0 15 rfl rfl)
theorem dX1_canPut_18 : decode cX1_canPut 18 = .ok (.aload_n 0, 1) := dk_42 (dk_at dksX1_canPut_0 18 rfl rfl)
theorem dX1_canPut_19 : decode cX1_canPut 19 = .ok (.invokevirtual 340, 3) := dk_182 1 84 (dk_at dksX1_canPut_0 19 rfl rfl)
theorem dX1_canPut_22 : decode cX1_canPut 22 = .ok (.bipush 8, 2) := dk_16 8 (dk_at dksX1_canPut_0 22 rfl rfl)
theorem dX1_canPut_24 : decode cX1_canPut 24 = .ok (.if_icmp .ge 22, 3) := dk_162 0 22 (dk_at dksX1_canPut_1 0 rfl rfl)
theorem dX1_canPut_27 : decode cX1_canPut 27 = .ok (.aload_n 0, 1) := dk_42 (dk_at dksX1_canPut_1 3 rfl rfl)
theorem dX1_canPut_28 : decode cX1_canPut 28 = .ok (.invokevirtual 405, 3) := dk_182 1 149 (dk_at dksX1_canPut_1 4 rfl rfl)
theorem dX1_canPut_31 : decode cX1_canPut 31 = .ok (.iload_n 2, 1) := dk_28 (dk_at dksX1_canPut_1 7 rfl rfl)
theorem dX1_canPut_32 : decode cX1_canPut 32 = .ok (.iadd, 1) := dk_96 (dk_at dksX1_canPut_1 8 rfl rfl)
theorem dX1_canPut_33 : decode cX1_canPut 33 = .ok (.aload_n 0, 1) := dk_42 (dk_at dksX1_canPut_1 9 rfl rfl)
theorem dX1_canPut_34 : decode cX1_canPut 34 = .ok (.getfield 33, 3) := dk_180 0 33 (dk_at dksX1_canPut_1 10 rfl rfl)
theorem dX1_canPut_37 : decode cX1_canPut 37 = .ok (.iconst 0, 1) := dk_3 (dk_at dksX1_canPut_1 13 rfl rfl)
theorem dX1_canPut_38 : decode cX1_canPut 38 = .ok (.iaload, 1) := dk_46 (dk_at dksX1_canPut_1 14 rfl rfl)
theorem dX1_canPut_39 : decode cX1_canPut 39 = .ok (.if_icmp .gt 7, 3) := dk_163 0 7 (dk_at dksX1_canPut_1 15 rfl rfl)
theorem dX1_canPut_42 : decode cX1_canPut 42 = .ok (.iconst 1, 1) := dk_4 (dk_at dksX1_canPut_1 18 rfl rfl)
theorem dX1_canPut_43 : decode cX1_canPut 43 = .ok (.goto 4, 3) := dk_167 0 4 (dk_at dksX1_canPut_1 19 rfl rfl)
theorem dX1_canPut_46 : decode cX1_canPut 46 = .ok (.iconst 0, 1) := dk_3 (dk_at dksX1_canPut_1 22 rfl rfl)
theorem dX1_canPut_47 : decode cX1_canPut 47 = .ok (.ireturn, 1) := dk_172 (dk_at dksX1_canPut_1 23 rfl rfl)
abbrev cX1_boxMany : ByteArray := prog_1_method_44_code
def yX1_boxMany : MethodName := ⟨RX1, "boxMany", "()I"⟩
def dkwX1_boxMany_0 : List UInt8 := [42, 180, 0, 58, 16, 32, 46, 172]
abbrev dktX1_boxMany_0 : List UInt8 := dkwX1_boxMany_0 ++ []
theorem dksX1_boxMany_0 : cX1_boxMany.data.toList.drop 0 = dktX1_boxMany_0 := by decide +kernel
theorem dX1_boxMany_0 : decode cX1_boxMany 0 = .ok (.aload_n 0, 1) := dk_42 (dk_at dksX1_boxMany_0 0 rfl rfl)
theorem dX1_boxMany_1 : decode cX1_boxMany 1 = .ok (.getfield 58, 3) := dk_180 0 58 (dk_at dksX1_boxMany_0 1 rfl rfl)
theorem dX1_boxMany_4 : decode cX1_boxMany 4 = .ok (.bipush 32, 2) := dk_16 32 (dk_at dksX1_boxMany_0 4 rfl rfl)
theorem dX1_boxMany_6 : decode cX1_boxMany 6 = .ok (.iaload, 1) := dk_46 (dk_at dksX1_boxMany_0 6 rfl rfl)
theorem dX1_boxMany_7 : decode cX1_boxMany 7 = .ok (.ireturn, 1) := dk_172 (dk_at dksX1_boxMany_0 7 rfl rfl)
abbrev cX1_portionsAll : ByteArray := prog_1_method_53_code
def yX1_portionsAll : MethodName := ⟨RX1, "portionsAll", "()I"⟩
def dkwX1_portionsAll_0 : List UInt8 := [42, 4, 42, 182, 1, 84, 120, 4, 100, 182, 1, 96, 172]
abbrev dktX1_portionsAll_0 : List UInt8 := dkwX1_portionsAll_0 ++ []
theorem dksX1_portionsAll_0 : cX1_portionsAll.data.toList.drop 0 = dktX1_portionsAll_0 := by decide +kernel
theorem dX1_portionsAll_0 : decode cX1_portionsAll 0 = .ok (.aload_n 0, 1) := dk_42 (dk_at dksX1_portionsAll_0 0 rfl rfl)
theorem dX1_portionsAll_1 : decode cX1_portionsAll 1 = .ok (.iconst 1, 1) := dk_4 (dk_at dksX1_portionsAll_0 1 rfl rfl)
theorem dX1_portionsAll_2 : decode cX1_portionsAll 2 = .ok (.aload_n 0, 1) := dk_42 (dk_at dksX1_portionsAll_0 2 rfl rfl)
theorem dX1_portionsAll_3 : decode cX1_portionsAll 3 = .ok (.invokevirtual 340, 3) := dk_182 1 84 (dk_at dksX1_portionsAll_0 3 rfl rfl)
theorem dX1_portionsAll_6 : decode cX1_portionsAll 6 = .ok (.ishl, 1) := dk_120 (dk_at dksX1_portionsAll_0 6 rfl rfl)
theorem dX1_portionsAll_7 : decode cX1_portionsAll 7 = .ok (.iconst 1, 1) := dk_4 (dk_at dksX1_portionsAll_0 7 rfl rfl)
theorem dX1_portionsAll_8 : decode cX1_portionsAll 8 = .ok (.isub, 1) := dk_100 (dk_at dksX1_portionsAll_0 8 rfl rfl)
theorem dX1_portionsAll_9 : decode cX1_portionsAll 9 = .ok (.invokevirtual 352, 3) := dk_182 1 96 (dk_at dksX1_portionsAll_0 9 rfl rfl)
theorem dX1_portionsAll_12 : decode cX1_portionsAll 12 = .ok (.ireturn, 1) := dk_172 (dk_at dksX1_portionsAll_0 12 rfl rfl)
abbrev cX1_portionsOf : ByteArray := prog_1_method_52_code
def yX1_portionsOf : MethodName := ⟨RX1, "portionsOf", "(I)I"⟩
def dkwX1_portionsOf_1 : List UInt8 := [182, 1, 93, 96, 61, 132, 3, 1, 167, 255, 228, 28, 172]
abbrev dktX1_portionsOf_1 : List UInt8 := dkwX1_portionsOf_1 ++ []
def dkwX1_portionsOf_0 : List UInt8 := [3, 61, 3, 62, 29, 42, 182, 1, 84, 162, 0, 26, 27, 29, 184, 1, 7, 153, 0, 12, 28, 42, 29, 4]
abbrev dktX1_portionsOf_0 : List UInt8 := dkwX1_portionsOf_0 ++ dktX1_portionsOf_1
theorem dksX1_portionsOf_0 : cX1_portionsOf.data.toList.drop 0 = dktX1_portionsOf_0 := by decide +kernel
theorem dksX1_portionsOf_1 : cX1_portionsOf.data.toList.drop 24 = dktX1_portionsOf_1 := dk_seg dksX1_portionsOf_0 24 rfl rfl
theorem dX1_portionsOf_0 : decode cX1_portionsOf 0 = .ok (.iconst 0, 1) := dk_3 (dk_at dksX1_portionsOf_0 0 rfl rfl)
theorem dX1_portionsOf_1 : decode cX1_portionsOf 1 = .ok (.istore_n 2, 1) := dk_61 (dk_at dksX1_portionsOf_0 1 rfl rfl)
theorem dX1_portionsOf_2 : decode cX1_portionsOf 2 = .ok (.iconst 0, 1) := dk_3 (dk_at dksX1_portionsOf_0 2 rfl rfl)
theorem dX1_portionsOf_3 : decode cX1_portionsOf 3 = .ok (.istore_n 3, 1) := dk_62 (dk_at dksX1_portionsOf_0 3 rfl rfl)
theorem dX1_portionsOf_4 : decode cX1_portionsOf 4 = .ok (.iload_n 3, 1) := dk_29 (dk_at dksX1_portionsOf_0 4 rfl rfl)
theorem dX1_portionsOf_5 : decode cX1_portionsOf 5 = .ok (.aload_n 0, 1) := dk_42 (dk_at dksX1_portionsOf_0 5 rfl rfl)
theorem dX1_portionsOf_6 : decode cX1_portionsOf 6 = .ok (.invokevirtual 340, 3) := dk_182 1 84 (dk_at dksX1_portionsOf_0 6 rfl rfl)
theorem dX1_portionsOf_9 : decode cX1_portionsOf 9 = .ok (.if_icmp .ge 26, 3) := dk_162 0 26 (dk_at dksX1_portionsOf_0 9 rfl rfl)
theorem dX1_portionsOf_12 : decode cX1_portionsOf 12 = .ok (.iload_n 1, 1) := dk_27 (dk_at dksX1_portionsOf_0 12 rfl rfl)
theorem dX1_portionsOf_13 : decode cX1_portionsOf 13 = .ok (.iload_n 3, 1) := dk_29 (dk_at dksX1_portionsOf_0 13 rfl rfl)
theorem dX1_portionsOf_14 : decode cX1_portionsOf 14 = .ok (.invokestatic 263, 3) := dk_184 1 7 (dk_at dksX1_portionsOf_0 14 rfl rfl)
theorem dX1_portionsOf_17 : decode cX1_portionsOf 17 = .ok (.ifCond .eq 12, 3) := dk_153 0 12 (dk_at dksX1_portionsOf_0 17 rfl rfl)
theorem dX1_portionsOf_20 : decode cX1_portionsOf 20 = .ok (.iload_n 2, 1) := dk_28 (dk_at dksX1_portionsOf_0 20 rfl rfl)
theorem dX1_portionsOf_21 : decode cX1_portionsOf 21 = .ok (.aload_n 0, 1) := dk_42 (dk_at dksX1_portionsOf_0 21 rfl rfl)
theorem dX1_portionsOf_22 : decode cX1_portionsOf 22 = .ok (.iload_n 3, 1) := dk_29 (dk_at dksX1_portionsOf_0 22 rfl rfl)
theorem dX1_portionsOf_23 : decode cX1_portionsOf 23 = .ok (.iconst 1, 1) := dk_4 (dk_at dksX1_portionsOf_0 23 rfl rfl)
theorem dX1_portionsOf_24 : decode cX1_portionsOf 24 = .ok (.invokevirtual 349, 3) := dk_182 1 93 (dk_at dksX1_portionsOf_1 0 rfl rfl)
theorem dX1_portionsOf_27 : decode cX1_portionsOf 27 = .ok (.iadd, 1) := dk_96 (dk_at dksX1_portionsOf_1 3 rfl rfl)
theorem dX1_portionsOf_28 : decode cX1_portionsOf 28 = .ok (.istore_n 2, 1) := dk_61 (dk_at dksX1_portionsOf_1 4 rfl rfl)
theorem dX1_portionsOf_29 : decode cX1_portionsOf 29 = .ok (.iinc 3 1, 3) := dk_132 3 1 (dk_at dksX1_portionsOf_1 5 rfl rfl)
theorem dX1_portionsOf_32 : decode cX1_portionsOf 32 = .ok (.goto (-28), 3) := dk_167 255 228 (dk_at dksX1_portionsOf_1 8 rfl rfl)
theorem dX1_portionsOf_35 : decode cX1_portionsOf 35 = .ok (.iload_n 2, 1) := dk_28 (dk_at dksX1_portionsOf_1 11 rfl rfl)
theorem dX1_portionsOf_36 : decode cX1_portionsOf 36 = .ok (.ireturn, 1) := dk_172 (dk_at dksX1_portionsOf_1 12 rfl rfl)
abbrev cX1_of : ByteArray := prog_1_method_47_code
def yX1_of : MethodName := ⟨RX1, "of", "(II)I"⟩
def dkwX1_of_0 : List UInt8 := [42, 180, 0, 58, 7, 42, 27, 182, 1, 87, 104, 28, 96, 46, 172]
abbrev dktX1_of_0 : List UInt8 := dkwX1_of_0 ++ []
theorem dksX1_of_0 : cX1_of.data.toList.drop 0 = dktX1_of_0 := by decide +kernel
theorem dX1_of_0 : decode cX1_of 0 = .ok (.aload_n 0, 1) := dk_42 (dk_at dksX1_of_0 0 rfl rfl)
theorem dX1_of_1 : decode cX1_of 1 = .ok (.getfield 58, 3) := dk_180 0 58 (dk_at dksX1_of_0 1 rfl rfl)
theorem dX1_of_4 : decode cX1_of 4 = .ok (.iconst 4, 1) := dk_7 (dk_at dksX1_of_0 4 rfl rfl)
theorem dX1_of_5 : decode cX1_of 5 = .ok (.aload_n 0, 1) := dk_42 (dk_at dksX1_of_0 5 rfl rfl)
theorem dX1_of_6 : decode cX1_of 6 = .ok (.iload_n 1, 1) := dk_27 (dk_at dksX1_of_0 6 rfl rfl)
theorem dX1_of_7 : decode cX1_of 7 = .ok (.invokevirtual 343, 3) := dk_182 1 87 (dk_at dksX1_of_0 7 rfl rfl)
theorem dX1_of_10 : decode cX1_of 10 = .ok (.imul, 1) := dk_104 (dk_at dksX1_of_0 10 rfl rfl)
theorem dX1_of_11 : decode cX1_of 11 = .ok (.iload_n 2, 1) := dk_28 (dk_at dksX1_of_0 11 rfl rfl)
theorem dX1_of_12 : decode cX1_of 12 = .ok (.iadd, 1) := dk_96 (dk_at dksX1_of_0 12 rfl rfl)
theorem dX1_of_13 : decode cX1_of 13 = .ok (.iaload, 1) := dk_46 (dk_at dksX1_of_0 13 rfl rfl)
theorem dX1_of_14 : decode cX1_of 14 = .ok (.ireturn, 1) := dk_172 (dk_at dksX1_of_0 14 rfl rfl)
abbrev cX1_turned : ByteArray := prog_1_method_46_code
def yX1_turned : MethodName := ⟨RX1, "turned", "(I)I"⟩
def dkwX1_turned_0 : List UInt8 := [42, 182, 1, 84, 4, 100, 27, 100, 172]
abbrev dktX1_turned_0 : List UInt8 := dkwX1_turned_0 ++ []
theorem dksX1_turned_0 : cX1_turned.data.toList.drop 0 = dktX1_turned_0 := by decide +kernel
theorem dX1_turned_0 : decode cX1_turned 0 = .ok (.aload_n 0, 1) := dk_42 (dk_at dksX1_turned_0 0 rfl rfl)
theorem dX1_turned_1 : decode cX1_turned 1 = .ok (.invokevirtual 340, 3) := dk_182 1 84 (dk_at dksX1_turned_0 1 rfl rfl)
theorem dX1_turned_4 : decode cX1_turned 4 = .ok (.iconst 1, 1) := dk_4 (dk_at dksX1_turned_0 4 rfl rfl)
theorem dX1_turned_5 : decode cX1_turned 5 = .ok (.isub, 1) := dk_100 (dk_at dksX1_turned_0 5 rfl rfl)
theorem dX1_turned_6 : decode cX1_turned 6 = .ok (.iload_n 1, 1) := dk_27 (dk_at dksX1_turned_0 6 rfl rfl)
theorem dX1_turned_7 : decode cX1_turned 7 = .ok (.isub, 1) := dk_100 (dk_at dksX1_turned_0 7 rfl rfl)
theorem dX1_turned_8 : decode cX1_turned 8 = .ok (.ireturn, 1) := dk_172 (dk_at dksX1_turned_0 8 rfl rfl)
abbrev cX1_act : ByteArray := prog_1_method_64_code
def yX1_act : MethodName := ⟨RX1, "act", "()V"⟩
def dkwX1_act_4 : List UInt8 := [181, 1, 77, 177]
abbrev dktX1_act_4 : List UInt8 := dkwX1_act_4 ++ []
def dkwX1_act_3 : List UInt8 := [104, 27, 96, 42, 180, 0, 58, 27, 46, 79, 132, 1, 1, 167, 255, 225, 42, 89, 180, 1, 77, 4, 96]
abbrev dktX1_act_3 : List UInt8 := dkwX1_act_3 ++ dktX1_act_4
def dkwX1_act_2 : List UInt8 := [100, 181, 1, 77, 3, 60, 27, 17, 1, 19, 162, 0, 30, 42, 180, 0, 61, 17, 1, 19, 42, 180, 1, 77]
abbrev dktX1_act_2 : List UInt8 := dkwX1_act_2 ++ dktX1_act_3
def dkwX1_act_1 : List UInt8 := [27, 17, 1, 19, 100, 42, 180, 0, 61, 27, 46, 79, 132, 1, 1, 167, 255, 230, 42, 89, 180, 1, 77, 4]
abbrev dktX1_act_1 : List UInt8 := dkwX1_act_1 ++ dktX1_act_2
def dkwX1_act_0 : List UInt8 := [42, 180, 1, 77, 16, 40, 160, 0, 46, 17, 1, 19, 60, 27, 17, 42, 248, 162, 0, 25, 42, 180, 0, 61]
abbrev dktX1_act_0 : List UInt8 := dkwX1_act_0 ++ dktX1_act_1
theorem dksX1_act_0 : cX1_act.data.toList.drop 0 = dktX1_act_0 := by decide +kernel
theorem dksX1_act_1 : cX1_act.data.toList.drop 24 = dktX1_act_1 := dk_seg dksX1_act_0 24 rfl rfl
theorem dksX1_act_2 : cX1_act.data.toList.drop 48 = dktX1_act_2 := dk_seg dksX1_act_1 24 rfl rfl
theorem dksX1_act_3 : cX1_act.data.toList.drop 72 = dktX1_act_3 := dk_seg dksX1_act_2 24 rfl rfl
theorem dksX1_act_4 : cX1_act.data.toList.drop 95 = dktX1_act_4 := dk_seg dksX1_act_3 23 rfl rfl
theorem dX1_act_0 : decode cX1_act 0 = .ok (.aload_n 0, 1) := dk_42 (dk_at dksX1_act_0 0 rfl rfl)
theorem dX1_act_1 : decode cX1_act 1 = .ok (.getfield 333, 3) := dk_180 1 77 (dk_at dksX1_act_0 1 rfl rfl)
theorem dX1_act_4 : decode cX1_act 4 = .ok (.bipush 40, 2) := dk_16 40 (dk_at dksX1_act_0 4 rfl rfl)
theorem dX1_act_6 : decode cX1_act 6 = .ok (.if_icmp .ne 46, 3) := dk_160 0 46 (dk_at dksX1_act_0 6 rfl rfl)
theorem dX1_act_9 : decode cX1_act 9 = .ok (.sipush 275, 3) := dk_17 1 19 (dk_at dksX1_act_0 9 rfl rfl)
theorem dX1_act_12 : decode cX1_act 12 = .ok (.istore_n 1, 1) := dk_60 (dk_at dksX1_act_0 12 rfl rfl)
theorem dX1_act_13 : decode cX1_act 13 = .ok (.iload_n 1, 1) := dk_27 (dk_at dksX1_act_0 13 rfl rfl)
theorem dX1_act_14 : decode cX1_act 14 = .ok (.sipush 11000, 3) := dk_17 42 248 (dk_at dksX1_act_0 14 rfl rfl)
theorem dX1_act_17 : decode cX1_act 17 = .ok (.if_icmp .ge 25, 3) := dk_162 0 25 (dk_at dksX1_act_0 17 rfl rfl)
theorem dX1_act_20 : decode cX1_act 20 = .ok (.aload_n 0, 1) := dk_42 (dk_at dksX1_act_0 20 rfl rfl)
theorem dX1_act_21 : decode cX1_act 21 = .ok (.getfield 61, 3) := dk_180 0 61 (dk_at dksX1_act_0 21 rfl rfl)
theorem dX1_act_24 : decode cX1_act 24 = .ok (.iload_n 1, 1) := dk_27 (dk_at dksX1_act_1 0 rfl rfl)
theorem dX1_act_25 : decode cX1_act 25 = .ok (.sipush 275, 3) := dk_17 1 19 (dk_at dksX1_act_1 1 rfl rfl)
theorem dX1_act_28 : decode cX1_act 28 = .ok (.isub, 1) := dk_100 (dk_at dksX1_act_1 4 rfl rfl)
theorem dX1_act_29 : decode cX1_act 29 = .ok (.aload_n 0, 1) := dk_42 (dk_at dksX1_act_1 5 rfl rfl)
theorem dX1_act_30 : decode cX1_act 30 = .ok (.getfield 61, 3) := dk_180 0 61 (dk_at dksX1_act_1 6 rfl rfl)
theorem dX1_act_33 : decode cX1_act 33 = .ok (.iload_n 1, 1) := dk_27 (dk_at dksX1_act_1 9 rfl rfl)
theorem dX1_act_34 : decode cX1_act 34 = .ok (.iaload, 1) := dk_46 (dk_at dksX1_act_1 10 rfl rfl)
theorem dX1_act_35 : decode cX1_act 35 = .ok (.iastore, 1) := dk_79 (dk_at dksX1_act_1 11 rfl rfl)
theorem dX1_act_36 : decode cX1_act 36 = .ok (.iinc 1 1, 3) := dk_132 1 1 (dk_at dksX1_act_1 12 rfl rfl)
theorem dX1_act_39 : decode cX1_act 39 = .ok (.goto (-26), 3) := dk_167 255 230 (dk_at dksX1_act_1 15 rfl rfl)
theorem dX1_act_42 : decode cX1_act 42 = .ok (.aload_n 0, 1) := dk_42 (dk_at dksX1_act_1 18 rfl rfl)
theorem dX1_act_43 : decode cX1_act 43 = .ok (.dup, 1) := dk_89 (dk_at dksX1_act_1 19 rfl rfl)
theorem dX1_act_44 : decode cX1_act 44 = .ok (.getfield 333, 3) := dk_180 1 77 (dk_at dksX1_act_1 20 rfl rfl)
theorem dX1_act_47 : decode cX1_act 47 = .ok (.iconst 1, 1) := dk_4 (dk_at dksX1_act_1 23 rfl rfl)
theorem dX1_act_48 : decode cX1_act 48 = .ok (.isub, 1) := dk_100 (dk_at dksX1_act_2 0 rfl rfl)
theorem dX1_act_49 : decode cX1_act 49 = .ok (.putfield 333, 3) := dk_181 1 77 (dk_at dksX1_act_2 1 rfl rfl)
theorem dX1_act_52 : decode cX1_act 52 = .ok (.iconst 0, 1) := dk_3 (dk_at dksX1_act_2 4 rfl rfl)
theorem dX1_act_53 : decode cX1_act 53 = .ok (.istore_n 1, 1) := dk_60 (dk_at dksX1_act_2 5 rfl rfl)
theorem dX1_act_54 : decode cX1_act 54 = .ok (.iload_n 1, 1) := dk_27 (dk_at dksX1_act_2 6 rfl rfl)
theorem dX1_act_55 : decode cX1_act 55 = .ok (.sipush 275, 3) := dk_17 1 19 (dk_at dksX1_act_2 7 rfl rfl)
theorem dX1_act_58 : decode cX1_act 58 = .ok (.if_icmp .ge 30, 3) := dk_162 0 30 (dk_at dksX1_act_2 10 rfl rfl)
theorem dX1_act_61 : decode cX1_act 61 = .ok (.aload_n 0, 1) := dk_42 (dk_at dksX1_act_2 13 rfl rfl)
theorem dX1_act_62 : decode cX1_act 62 = .ok (.getfield 61, 3) := dk_180 0 61 (dk_at dksX1_act_2 14 rfl rfl)
theorem dX1_act_65 : decode cX1_act 65 = .ok (.sipush 275, 3) := dk_17 1 19 (dk_at dksX1_act_2 17 rfl rfl)
theorem dX1_act_68 : decode cX1_act 68 = .ok (.aload_n 0, 1) := dk_42 (dk_at dksX1_act_2 20 rfl rfl)
theorem dX1_act_69 : decode cX1_act 69 = .ok (.getfield 333, 3) := dk_180 1 77 (dk_at dksX1_act_2 21 rfl rfl)
theorem dX1_act_72 : decode cX1_act 72 = .ok (.imul, 1) := dk_104 (dk_at dksX1_act_3 0 rfl rfl)
theorem dX1_act_73 : decode cX1_act 73 = .ok (.iload_n 1, 1) := dk_27 (dk_at dksX1_act_3 1 rfl rfl)
theorem dX1_act_74 : decode cX1_act 74 = .ok (.iadd, 1) := dk_96 (dk_at dksX1_act_3 2 rfl rfl)
theorem dX1_act_75 : decode cX1_act 75 = .ok (.aload_n 0, 1) := dk_42 (dk_at dksX1_act_3 3 rfl rfl)
theorem dX1_act_76 : decode cX1_act 76 = .ok (.getfield 58, 3) := dk_180 0 58 (dk_at dksX1_act_3 4 rfl rfl)
theorem dX1_act_79 : decode cX1_act 79 = .ok (.iload_n 1, 1) := dk_27 (dk_at dksX1_act_3 7 rfl rfl)
theorem dX1_act_80 : decode cX1_act 80 = .ok (.iaload, 1) := dk_46 (dk_at dksX1_act_3 8 rfl rfl)
theorem dX1_act_81 : decode cX1_act 81 = .ok (.iastore, 1) := dk_79 (dk_at dksX1_act_3 9 rfl rfl)
theorem dX1_act_82 : decode cX1_act 82 = .ok (.iinc 1 1, 3) := dk_132 1 1 (dk_at dksX1_act_3 10 rfl rfl)
theorem dX1_act_85 : decode cX1_act 85 = .ok (.goto (-31), 3) := dk_167 255 225 (dk_at dksX1_act_3 13 rfl rfl)
theorem dX1_act_88 : decode cX1_act 88 = .ok (.aload_n 0, 1) := dk_42 (dk_at dksX1_act_3 16 rfl rfl)
theorem dX1_act_89 : decode cX1_act 89 = .ok (.dup, 1) := dk_89 (dk_at dksX1_act_3 17 rfl rfl)
theorem dX1_act_90 : decode cX1_act 90 = .ok (.getfield 333, 3) := dk_180 1 77 (dk_at dksX1_act_3 18 rfl rfl)
theorem dX1_act_93 : decode cX1_act 93 = .ok (.iconst 1, 1) := dk_4 (dk_at dksX1_act_3 21 rfl rfl)
theorem dX1_act_94 : decode cX1_act 94 = .ok (.iadd, 1) := dk_96 (dk_at dksX1_act_3 22 rfl rfl)
theorem dX1_act_95 : decode cX1_act 95 = .ok (.putfield 333, 3) := dk_181 1 77 (dk_at dksX1_act_4 0 rfl rfl)
theorem dX1_act_98 : decode cX1_act 98 = .ok (.return_, 1) := dk_177 (dk_at dksX1_act_4 3 rfl rfl)
abbrev cX1_putNow : ByteArray := prog_1_method_66_code
def yX1_putNow : MethodName := ⟨RX1, "putNow", "(IIZ)V"⟩
def dkwX1_putNow_3 : List UInt8 := [96, 79, 177]
abbrev dktX1_putNow_3 : List UInt8 := dkwX1_putNow_3 ++ []
def dkwX1_putNow_2 : List UInt8 := [153, 0, 13, 42, 180, 0, 58, 16, 33, 46, 167, 0, 4, 2, 79, 42, 180, 0, 58, 16, 32, 92, 46, 4]
abbrev dktX1_putNow_2 : List UInt8 := dkwX1_putNow_2 ++ dktX1_putNow_3
def dkwX1_putNow_1 : List UInt8 := [4, 96, 28, 79, 42, 180, 0, 58, 21, 4, 5, 96, 3, 79, 42, 180, 0, 58, 21, 4, 6, 96, 29]
abbrev dktX1_putNow_1 : List UInt8 := dkwX1_putNow_1 ++ dktX1_putNow_2
def dkwX1_putNow_0 : List UInt8 := [7, 42, 182, 1, 84, 104, 54, 4, 42, 180, 0, 58, 21, 4, 3, 96, 27, 79, 42, 180, 0, 58, 21, 4]
abbrev dktX1_putNow_0 : List UInt8 := dkwX1_putNow_0 ++ dktX1_putNow_1
theorem dksX1_putNow_0 : cX1_putNow.data.toList.drop 0 = dktX1_putNow_0 := by decide +kernel
theorem dksX1_putNow_1 : cX1_putNow.data.toList.drop 24 = dktX1_putNow_1 := dk_seg dksX1_putNow_0 24 rfl rfl
theorem dksX1_putNow_2 : cX1_putNow.data.toList.drop 47 = dktX1_putNow_2 := dk_seg dksX1_putNow_1 23 rfl rfl
theorem dksX1_putNow_3 : cX1_putNow.data.toList.drop 71 = dktX1_putNow_3 := dk_seg dksX1_putNow_2 24 rfl rfl
theorem dX1_putNow_0 : decode cX1_putNow 0 = .ok (.iconst 4, 1) := dk_7 (dk_at dksX1_putNow_0 0 rfl rfl)
theorem dX1_putNow_1 : decode cX1_putNow 1 = .ok (.aload_n 0, 1) := dk_42 (dk_at dksX1_putNow_0 1 rfl rfl)
theorem dX1_putNow_2 : decode cX1_putNow 2 = .ok (.invokevirtual 340, 3) := dk_182 1 84 (dk_at dksX1_putNow_0 2 rfl rfl)
theorem dX1_putNow_5 : decode cX1_putNow 5 = .ok (.imul, 1) := dk_104 (dk_at dksX1_putNow_0 5 rfl rfl)
theorem dX1_putNow_6 : decode cX1_putNow 6 = .ok (.istore 4, 2) := dk_54 4 (dk_at dksX1_putNow_0 6 rfl rfl)
theorem dX1_putNow_8 : decode cX1_putNow 8 = .ok (.aload_n 0, 1) := dk_42 (dk_at dksX1_putNow_0 8 rfl rfl)
theorem dX1_putNow_9 : decode cX1_putNow 9 = .ok (.getfield 58, 3) := dk_180 0 58 (dk_at dksX1_putNow_0 9 rfl rfl)
theorem dX1_putNow_12 : decode cX1_putNow 12 = .ok (.iload 4, 2) := dk_21 4 (dk_at dksX1_putNow_0 12 rfl rfl)
theorem dX1_putNow_14 : decode cX1_putNow 14 = .ok (.iconst 0, 1) := dk_3 (dk_at dksX1_putNow_0 14 rfl rfl)
theorem dX1_putNow_15 : decode cX1_putNow 15 = .ok (.iadd, 1) := dk_96 (dk_at dksX1_putNow_0 15 rfl rfl)
theorem dX1_putNow_16 : decode cX1_putNow 16 = .ok (.iload_n 1, 1) := dk_27 (dk_at dksX1_putNow_0 16 rfl rfl)
theorem dX1_putNow_17 : decode cX1_putNow 17 = .ok (.iastore, 1) := dk_79 (dk_at dksX1_putNow_0 17 rfl rfl)
theorem dX1_putNow_18 : decode cX1_putNow 18 = .ok (.aload_n 0, 1) := dk_42 (dk_at dksX1_putNow_0 18 rfl rfl)
theorem dX1_putNow_19 : decode cX1_putNow 19 = .ok (.getfield 58, 3) := dk_180 0 58 (dk_at dksX1_putNow_0 19 rfl rfl)
theorem dX1_putNow_22 : decode cX1_putNow 22 = .ok (.iload 4, 2) := dk_21 4 (dk_at dksX1_putNow_0 22 rfl rfl)
theorem dX1_putNow_24 : decode cX1_putNow 24 = .ok (.iconst 1, 1) := dk_4 (dk_at dksX1_putNow_1 0 rfl rfl)
theorem dX1_putNow_25 : decode cX1_putNow 25 = .ok (.iadd, 1) := dk_96 (dk_at dksX1_putNow_1 1 rfl rfl)
theorem dX1_putNow_26 : decode cX1_putNow 26 = .ok (.iload_n 2, 1) := dk_28 (dk_at dksX1_putNow_1 2 rfl rfl)
theorem dX1_putNow_27 : decode cX1_putNow 27 = .ok (.iastore, 1) := dk_79 (dk_at dksX1_putNow_1 3 rfl rfl)
theorem dX1_putNow_28 : decode cX1_putNow 28 = .ok (.aload_n 0, 1) := dk_42 (dk_at dksX1_putNow_1 4 rfl rfl)
theorem dX1_putNow_29 : decode cX1_putNow 29 = .ok (.getfield 58, 3) := dk_180 0 58 (dk_at dksX1_putNow_1 5 rfl rfl)
theorem dX1_putNow_32 : decode cX1_putNow 32 = .ok (.iload 4, 2) := dk_21 4 (dk_at dksX1_putNow_1 8 rfl rfl)
theorem dX1_putNow_34 : decode cX1_putNow 34 = .ok (.iconst 2, 1) := dk_5 (dk_at dksX1_putNow_1 10 rfl rfl)
theorem dX1_putNow_35 : decode cX1_putNow 35 = .ok (.iadd, 1) := dk_96 (dk_at dksX1_putNow_1 11 rfl rfl)
theorem dX1_putNow_36 : decode cX1_putNow 36 = .ok (.iconst 0, 1) := dk_3 (dk_at dksX1_putNow_1 12 rfl rfl)
theorem dX1_putNow_37 : decode cX1_putNow 37 = .ok (.iastore, 1) := dk_79 (dk_at dksX1_putNow_1 13 rfl rfl)
theorem dX1_putNow_38 : decode cX1_putNow 38 = .ok (.aload_n 0, 1) := dk_42 (dk_at dksX1_putNow_1 14 rfl rfl)
theorem dX1_putNow_39 : decode cX1_putNow 39 = .ok (.getfield 58, 3) := dk_180 0 58 (dk_at dksX1_putNow_1 15 rfl rfl)
theorem dX1_putNow_42 : decode cX1_putNow 42 = .ok (.iload 4, 2) := dk_21 4 (dk_at dksX1_putNow_1 18 rfl rfl)
theorem dX1_putNow_44 : decode cX1_putNow 44 = .ok (.iconst 3, 1) := dk_6 (dk_at dksX1_putNow_1 20 rfl rfl)
theorem dX1_putNow_45 : decode cX1_putNow 45 = .ok (.iadd, 1) := dk_96 (dk_at dksX1_putNow_1 21 rfl rfl)
theorem dX1_putNow_46 : decode cX1_putNow 46 = .ok (.iload_n 3, 1) := dk_29 (dk_at dksX1_putNow_1 22 rfl rfl)
theorem dX1_putNow_47 : decode cX1_putNow 47 = .ok (.ifCond .eq 13, 3) := dk_153 0 13 (dk_at dksX1_putNow_2 0 rfl rfl)
theorem dX1_putNow_50 : decode cX1_putNow 50 = .ok (.aload_n 0, 1) := dk_42 (dk_at dksX1_putNow_2 3 rfl rfl)
theorem dX1_putNow_51 : decode cX1_putNow 51 = .ok (.getfield 58, 3) := dk_180 0 58 (dk_at dksX1_putNow_2 4 rfl rfl)
theorem dX1_putNow_54 : decode cX1_putNow 54 = .ok (.bipush 33, 2) := dk_16 33 (dk_at dksX1_putNow_2 7 rfl rfl)
theorem dX1_putNow_56 : decode cX1_putNow 56 = .ok (.iaload, 1) := dk_46 (dk_at dksX1_putNow_2 9 rfl rfl)
theorem dX1_putNow_57 : decode cX1_putNow 57 = .ok (.goto 4, 3) := dk_167 0 4 (dk_at dksX1_putNow_2 10 rfl rfl)
theorem dX1_putNow_60 : decode cX1_putNow 60 = .ok (.iconst (-1), 1) := dk_2 (dk_at dksX1_putNow_2 13 rfl rfl)
theorem dX1_putNow_61 : decode cX1_putNow 61 = .ok (.iastore, 1) := dk_79 (dk_at dksX1_putNow_2 14 rfl rfl)
theorem dX1_putNow_62 : decode cX1_putNow 62 = .ok (.aload_n 0, 1) := dk_42 (dk_at dksX1_putNow_2 15 rfl rfl)
theorem dX1_putNow_63 : decode cX1_putNow 63 = .ok (.getfield 58, 3) := dk_180 0 58 (dk_at dksX1_putNow_2 16 rfl rfl)
theorem dX1_putNow_66 : decode cX1_putNow 66 = .ok (.bipush 32, 2) := dk_16 32 (dk_at dksX1_putNow_2 19 rfl rfl)
theorem dX1_putNow_68 : decode cX1_putNow 68 = .ok (.dup2, 1) := dk_92 (dk_at dksX1_putNow_2 21 rfl rfl)
theorem dX1_putNow_69 : decode cX1_putNow 69 = .ok (.iaload, 1) := dk_46 (dk_at dksX1_putNow_2 22 rfl rfl)
theorem dX1_putNow_70 : decode cX1_putNow 70 = .ok (.iconst 1, 1) := dk_4 (dk_at dksX1_putNow_2 23 rfl rfl)
theorem dX1_putNow_71 : decode cX1_putNow 71 = .ok (.iadd, 1) := dk_96 (dk_at dksX1_putNow_3 0 rfl rfl)
theorem dX1_putNow_72 : decode cX1_putNow 72 = .ok (.iastore, 1) := dk_79 (dk_at dksX1_putNow_3 1 rfl rfl)
theorem dX1_putNow_73 : decode cX1_putNow 73 = .ok (.return_, 1) := dk_177 (dk_at dksX1_putNow_3 2 rfl rfl)
abbrev cX1_take : ByteArray := prog_1_method_69_code
def yX1_take : MethodName := ⟨RX1, "take", "(I)I"⟩
def dkwX1_take_0 : List UInt8 := [42, 27, 182, 1, 137, 154, 0, 5, 2, 172, 42, 182, 1, 155, 42, 27, 182, 1, 162, 172]
abbrev dktX1_take_0 : List UInt8 := dkwX1_take_0 ++ []
theorem dksX1_take_0 : cX1_take.data.toList.drop 0 = dktX1_take_0 := by decide +kernel
theorem dX1_take_0 : decode cX1_take 0 = .ok (.aload_n 0, 1) := dk_42 (dk_at dksX1_take_0 0 rfl rfl)
theorem dX1_take_1 : decode cX1_take 1 = .ok (.iload_n 1, 1) := dk_27 (dk_at dksX1_take_0 1 rfl rfl)
theorem dX1_take_2 : decode cX1_take 2 = .ok (.invokevirtual 393, 3) := dk_182 1 137 (dk_at dksX1_take_0 2 rfl rfl)
theorem dX1_take_5 : decode cX1_take 5 = .ok (.ifCond .ne 5, 3) := dk_154 0 5 (dk_at dksX1_take_0 5 rfl rfl)
theorem dX1_take_8 : decode cX1_take 8 = .ok (.iconst (-1), 1) := dk_2 (dk_at dksX1_take_0 8 rfl rfl)
theorem dX1_take_9 : decode cX1_take 9 = .ok (.ireturn, 1) := dk_172 (dk_at dksX1_take_0 9 rfl rfl)
theorem dX1_take_10 : decode cX1_take 10 = .ok (.aload_n 0, 1) := dk_42 (dk_at dksX1_take_0 10 rfl rfl)
theorem dX1_take_11 : decode cX1_take 11 = .ok (.invokevirtual 411, 3) := dk_182 1 155 (dk_at dksX1_take_0 11 rfl rfl)
theorem dX1_take_14 : decode cX1_take 14 = .ok (.aload_n 0, 1) := dk_42 (dk_at dksX1_take_0 14 rfl rfl)
theorem dX1_take_15 : decode cX1_take 15 = .ok (.iload_n 1, 1) := dk_27 (dk_at dksX1_take_0 15 rfl rfl)
theorem dX1_take_16 : decode cX1_take 16 = .ok (.invokevirtual 418, 3) := dk_182 1 162 (dk_at dksX1_take_0 16 rfl rfl)
theorem dX1_take_19 : decode cX1_take 19 = .ok (.ireturn, 1) := dk_172 (dk_at dksX1_take_0 19 rfl rfl)
abbrev cX1_isBox : ByteArray := prog_1_method_45_code
def yX1_isBox : MethodName := ⟨RX1, "isBox", "(I)Z"⟩
def dkwX1_isBox_0 : List UInt8 := [27, 3, 42, 182, 1, 84, 4, 100, 184, 0, 246, 172]
abbrev dktX1_isBox_0 : List UInt8 := dkwX1_isBox_0 ++ []
theorem dksX1_isBox_0 : cX1_isBox.data.toList.drop 0 = dktX1_isBox_0 := by decide +kernel
theorem dX1_isBox_0 : decode cX1_isBox 0 = .ok (.iload_n 1, 1) := dk_27 (dk_at dksX1_isBox_0 0 rfl rfl)
theorem dX1_isBox_1 : decode cX1_isBox 1 = .ok (.iconst 0, 1) := dk_3 (dk_at dksX1_isBox_0 1 rfl rfl)
theorem dX1_isBox_2 : decode cX1_isBox 2 = .ok (.aload_n 0, 1) := dk_42 (dk_at dksX1_isBox_0 2 rfl rfl)
theorem dX1_isBox_3 : decode cX1_isBox 3 = .ok (.invokevirtual 340, 3) := dk_182 1 84 (dk_at dksX1_isBox_0 3 rfl rfl)
theorem dX1_isBox_6 : decode cX1_isBox 6 = .ok (.iconst 1, 1) := dk_4 (dk_at dksX1_isBox_0 6 rfl rfl)
theorem dX1_isBox_7 : decode cX1_isBox 7 = .ok (.isub, 1) := dk_100 (dk_at dksX1_isBox_0 7 rfl rfl)
theorem dX1_isBox_8 : decode cX1_isBox 8 = .ok (.invokestatic 246, 3) := dk_184 0 246 (dk_at dksX1_isBox_0 8 rfl rfl)
theorem dX1_isBox_11 : decode cX1_isBox 11 = .ok (.ireturn, 1) := dk_172 (dk_at dksX1_isBox_0 11 rfl rfl)
abbrev cX1_takeNow : ByteArray := prog_1_method_68_code
def yX1_takeNow : MethodName := ⟨RX1, "takeNow", "(I)I"⟩
def dkwX1_takeNow_7 : List UInt8 := [167, 255, 230, 42, 180, 0, 58, 16, 32, 92, 46, 4, 100, 79, 28, 172]
abbrev dktX1_takeNow_7 : List UInt8 := dkwX1_takeNow_7 ++ []
def dkwX1_takeNow_6 : List UInt8 := [16, 32, 162, 0, 25, 42, 180, 0, 58, 21, 4, 7, 100, 42, 180, 0, 58, 21, 4, 46, 79, 132, 4, 1]
abbrev dktX1_takeNow_6 : List UInt8 := dkwX1_takeNow_6 ++ dktX1_takeNow_7
def dkwX1_takeNow_5 : List UInt8 := [180, 0, 58, 16, 34, 92, 46, 4, 96, 79, 7, 42, 27, 182, 1, 87, 4, 96, 104, 54, 4, 21, 4]
abbrev dktX1_takeNow_5 : List UInt8 := dkwX1_takeNow_5 ++ dktX1_takeNow_6
def dkwX1_takeNow_4 : List UInt8 := [27, 21, 4, 182, 1, 93, 79, 132, 4, 1, 167, 255, 231, 42, 180, 0, 58, 29, 6, 96, 28, 79, 42]
abbrev dktX1_takeNow_4 : List UInt8 := dkwX1_takeNow_4 ++ dktX1_takeNow_5
def dkwX1_takeNow_3 : List UInt8 := [16, 34, 46, 104, 96, 62, 3, 54, 4, 21, 4, 6, 162, 0, 25, 42, 180, 0, 58, 29, 21, 4, 96, 42]
abbrev dktX1_takeNow_3 : List UInt8 := dkwX1_takeNow_3 ++ dktX1_takeNow_4
def dkwX1_takeNow_2 : List UInt8 := [132, 3, 1, 167, 255, 226, 42, 180, 0, 58, 16, 34, 92, 46, 4, 100, 79, 16, 35, 7, 42, 180, 0, 58]
abbrev dktX1_takeNow_2 : List UInt8 := dkwX1_takeNow_2 ++ dktX1_takeNow_3
def dkwX1_takeNow_1 : List UInt8 := [162, 0, 29, 42, 180, 0, 58, 16, 35, 29, 96, 7, 100, 42, 180, 0, 58, 16, 35, 29, 96, 46, 79]
abbrev dktX1_takeNow_1 : List UInt8 := dkwX1_takeNow_1 ++ dktX1_takeNow_2
def dkwX1_takeNow_0 : List UInt8 := [42, 27, 182, 1, 125, 61, 42, 180, 0, 58, 16, 34, 46, 16, 60, 160, 0, 49, 7, 62, 29, 17, 0, 240]
abbrev dktX1_takeNow_0 : List UInt8 := dkwX1_takeNow_0 ++ dktX1_takeNow_1
theorem dksX1_takeNow_0 : cX1_takeNow.data.toList.drop 0 = dktX1_takeNow_0 := by decide +kernel
theorem dksX1_takeNow_1 : cX1_takeNow.data.toList.drop 24 = dktX1_takeNow_1 := dk_seg dksX1_takeNow_0 24 rfl rfl
theorem dksX1_takeNow_2 : cX1_takeNow.data.toList.drop 47 = dktX1_takeNow_2 := dk_seg dksX1_takeNow_1 23 rfl rfl
theorem dksX1_takeNow_3 : cX1_takeNow.data.toList.drop 71 = dktX1_takeNow_3 := dk_seg dksX1_takeNow_2 24 rfl rfl
theorem dksX1_takeNow_4 : cX1_takeNow.data.toList.drop 95 = dktX1_takeNow_4 := dk_seg dksX1_takeNow_3 24 rfl rfl
theorem dksX1_takeNow_5 : cX1_takeNow.data.toList.drop 118 = dktX1_takeNow_5 := dk_seg dksX1_takeNow_4 23 rfl rfl
theorem dksX1_takeNow_6 : cX1_takeNow.data.toList.drop 141 = dktX1_takeNow_6 := dk_seg dksX1_takeNow_5 23 rfl rfl
theorem dksX1_takeNow_7 : cX1_takeNow.data.toList.drop 165 = dktX1_takeNow_7 := dk_seg dksX1_takeNow_6 24 rfl rfl
theorem dX1_takeNow_0 : decode cX1_takeNow 0 = .ok (.aload_n 0, 1) := dk_42 (dk_at dksX1_takeNow_0 0 rfl rfl)
theorem dX1_takeNow_1 : decode cX1_takeNow 1 = .ok (.iload_n 1, 1) := dk_27 (dk_at dksX1_takeNow_0 1 rfl rfl)
theorem dX1_takeNow_2 : decode cX1_takeNow 2 = .ok (.invokevirtual 381, 3) := dk_182 1 125 (dk_at dksX1_takeNow_0 2 rfl rfl)
theorem dX1_takeNow_5 : decode cX1_takeNow 5 = .ok (.istore_n 2, 1) := dk_61 (dk_at dksX1_takeNow_0 5 rfl rfl)
theorem dX1_takeNow_6 : decode cX1_takeNow 6 = .ok (.aload_n 0, 1) := dk_42 (dk_at dksX1_takeNow_0 6 rfl rfl)
theorem dX1_takeNow_7 : decode cX1_takeNow 7 = .ok (.getfield 58, 3) := dk_180 0 58 (dk_at dksX1_takeNow_0 7 rfl rfl)
theorem dX1_takeNow_10 : decode cX1_takeNow 10 = .ok (.bipush 34, 2) := dk_16 34 (dk_at dksX1_takeNow_0 10 rfl rfl)
theorem dX1_takeNow_12 : decode cX1_takeNow 12 = .ok (.iaload, 1) := dk_46 (dk_at dksX1_takeNow_0 12 rfl rfl)
theorem dX1_takeNow_13 : decode cX1_takeNow 13 = .ok (.bipush 60, 2) := dk_16 60 (dk_at dksX1_takeNow_0 13 rfl rfl)
theorem dX1_takeNow_15 : decode cX1_takeNow 15 = .ok (.if_icmp .ne 49, 3) := dk_160 0 49 (dk_at dksX1_takeNow_0 15 rfl rfl)
theorem dX1_takeNow_18 : decode cX1_takeNow 18 = .ok (.iconst 4, 1) := dk_7 (dk_at dksX1_takeNow_0 18 rfl rfl)
theorem dX1_takeNow_19 : decode cX1_takeNow 19 = .ok (.istore_n 3, 1) := dk_62 (dk_at dksX1_takeNow_0 19 rfl rfl)
theorem dX1_takeNow_20 : decode cX1_takeNow 20 = .ok (.iload_n 3, 1) := dk_29 (dk_at dksX1_takeNow_0 20 rfl rfl)
theorem dX1_takeNow_21 : decode cX1_takeNow 21 = .ok (.sipush 240, 3) := dk_17 0 240 (dk_at dksX1_takeNow_0 21 rfl rfl)
theorem dX1_takeNow_24 : decode cX1_takeNow 24 = .ok (.if_icmp .ge 29, 3) := dk_162 0 29 (dk_at dksX1_takeNow_1 0 rfl rfl)
theorem dX1_takeNow_27 : decode cX1_takeNow 27 = .ok (.aload_n 0, 1) := dk_42 (dk_at dksX1_takeNow_1 3 rfl rfl)
theorem dX1_takeNow_28 : decode cX1_takeNow 28 = .ok (.getfield 58, 3) := dk_180 0 58 (dk_at dksX1_takeNow_1 4 rfl rfl)
theorem dX1_takeNow_31 : decode cX1_takeNow 31 = .ok (.bipush 35, 2) := dk_16 35 (dk_at dksX1_takeNow_1 7 rfl rfl)
theorem dX1_takeNow_33 : decode cX1_takeNow 33 = .ok (.iload_n 3, 1) := dk_29 (dk_at dksX1_takeNow_1 9 rfl rfl)
theorem dX1_takeNow_34 : decode cX1_takeNow 34 = .ok (.iadd, 1) := dk_96 (dk_at dksX1_takeNow_1 10 rfl rfl)
theorem dX1_takeNow_35 : decode cX1_takeNow 35 = .ok (.iconst 4, 1) := dk_7 (dk_at dksX1_takeNow_1 11 rfl rfl)
theorem dX1_takeNow_36 : decode cX1_takeNow 36 = .ok (.isub, 1) := dk_100 (dk_at dksX1_takeNow_1 12 rfl rfl)
theorem dX1_takeNow_37 : decode cX1_takeNow 37 = .ok (.aload_n 0, 1) := dk_42 (dk_at dksX1_takeNow_1 13 rfl rfl)
theorem dX1_takeNow_38 : decode cX1_takeNow 38 = .ok (.getfield 58, 3) := dk_180 0 58 (dk_at dksX1_takeNow_1 14 rfl rfl)
theorem dX1_takeNow_41 : decode cX1_takeNow 41 = .ok (.bipush 35, 2) := dk_16 35 (dk_at dksX1_takeNow_1 17 rfl rfl)
theorem dX1_takeNow_43 : decode cX1_takeNow 43 = .ok (.iload_n 3, 1) := dk_29 (dk_at dksX1_takeNow_1 19 rfl rfl)
theorem dX1_takeNow_44 : decode cX1_takeNow 44 = .ok (.iadd, 1) := dk_96 (dk_at dksX1_takeNow_1 20 rfl rfl)
theorem dX1_takeNow_45 : decode cX1_takeNow 45 = .ok (.iaload, 1) := dk_46 (dk_at dksX1_takeNow_1 21 rfl rfl)
theorem dX1_takeNow_46 : decode cX1_takeNow 46 = .ok (.iastore, 1) := dk_79 (dk_at dksX1_takeNow_1 22 rfl rfl)
theorem dX1_takeNow_47 : decode cX1_takeNow 47 = .ok (.iinc 3 1, 3) := dk_132 3 1 (dk_at dksX1_takeNow_2 0 rfl rfl)
theorem dX1_takeNow_50 : decode cX1_takeNow 50 = .ok (.goto (-30), 3) := dk_167 255 226 (dk_at dksX1_takeNow_2 3 rfl rfl)
theorem dX1_takeNow_53 : decode cX1_takeNow 53 = .ok (.aload_n 0, 1) := dk_42 (dk_at dksX1_takeNow_2 6 rfl rfl)
theorem dX1_takeNow_54 : decode cX1_takeNow 54 = .ok (.getfield 58, 3) := dk_180 0 58 (dk_at dksX1_takeNow_2 7 rfl rfl)
theorem dX1_takeNow_57 : decode cX1_takeNow 57 = .ok (.bipush 34, 2) := dk_16 34 (dk_at dksX1_takeNow_2 10 rfl rfl)
theorem dX1_takeNow_59 : decode cX1_takeNow 59 = .ok (.dup2, 1) := dk_92 (dk_at dksX1_takeNow_2 12 rfl rfl)
theorem dX1_takeNow_60 : decode cX1_takeNow 60 = .ok (.iaload, 1) := dk_46 (dk_at dksX1_takeNow_2 13 rfl rfl)
theorem dX1_takeNow_61 : decode cX1_takeNow 61 = .ok (.iconst 1, 1) := dk_4 (dk_at dksX1_takeNow_2 14 rfl rfl)
theorem dX1_takeNow_62 : decode cX1_takeNow 62 = .ok (.isub, 1) := dk_100 (dk_at dksX1_takeNow_2 15 rfl rfl)
theorem dX1_takeNow_63 : decode cX1_takeNow 63 = .ok (.iastore, 1) := dk_79 (dk_at dksX1_takeNow_2 16 rfl rfl)
theorem dX1_takeNow_64 : decode cX1_takeNow 64 = .ok (.bipush 35, 2) := dk_16 35 (dk_at dksX1_takeNow_2 17 rfl rfl)
theorem dX1_takeNow_66 : decode cX1_takeNow 66 = .ok (.iconst 4, 1) := dk_7 (dk_at dksX1_takeNow_2 19 rfl rfl)
theorem dX1_takeNow_67 : decode cX1_takeNow 67 = .ok (.aload_n 0, 1) := dk_42 (dk_at dksX1_takeNow_2 20 rfl rfl)
theorem dX1_takeNow_68 : decode cX1_takeNow 68 = .ok (.getfield 58, 3) := dk_180 0 58 (dk_at dksX1_takeNow_2 21 rfl rfl)
theorem dX1_takeNow_71 : decode cX1_takeNow 71 = .ok (.bipush 34, 2) := dk_16 34 (dk_at dksX1_takeNow_3 0 rfl rfl)
theorem dX1_takeNow_73 : decode cX1_takeNow 73 = .ok (.iaload, 1) := dk_46 (dk_at dksX1_takeNow_3 2 rfl rfl)
theorem dX1_takeNow_74 : decode cX1_takeNow 74 = .ok (.imul, 1) := dk_104 (dk_at dksX1_takeNow_3 3 rfl rfl)
theorem dX1_takeNow_75 : decode cX1_takeNow 75 = .ok (.iadd, 1) := dk_96 (dk_at dksX1_takeNow_3 4 rfl rfl)
theorem dX1_takeNow_76 : decode cX1_takeNow 76 = .ok (.istore_n 3, 1) := dk_62 (dk_at dksX1_takeNow_3 5 rfl rfl)
theorem dX1_takeNow_77 : decode cX1_takeNow 77 = .ok (.iconst 0, 1) := dk_3 (dk_at dksX1_takeNow_3 6 rfl rfl)
theorem dX1_takeNow_78 : decode cX1_takeNow 78 = .ok (.istore 4, 2) := dk_54 4 (dk_at dksX1_takeNow_3 7 rfl rfl)
theorem dX1_takeNow_80 : decode cX1_takeNow 80 = .ok (.iload 4, 2) := dk_21 4 (dk_at dksX1_takeNow_3 9 rfl rfl)
theorem dX1_takeNow_82 : decode cX1_takeNow 82 = .ok (.iconst 3, 1) := dk_6 (dk_at dksX1_takeNow_3 11 rfl rfl)
theorem dX1_takeNow_83 : decode cX1_takeNow 83 = .ok (.if_icmp .ge 25, 3) := dk_162 0 25 (dk_at dksX1_takeNow_3 12 rfl rfl)
theorem dX1_takeNow_86 : decode cX1_takeNow 86 = .ok (.aload_n 0, 1) := dk_42 (dk_at dksX1_takeNow_3 15 rfl rfl)
theorem dX1_takeNow_87 : decode cX1_takeNow 87 = .ok (.getfield 58, 3) := dk_180 0 58 (dk_at dksX1_takeNow_3 16 rfl rfl)
theorem dX1_takeNow_90 : decode cX1_takeNow 90 = .ok (.iload_n 3, 1) := dk_29 (dk_at dksX1_takeNow_3 19 rfl rfl)
theorem dX1_takeNow_91 : decode cX1_takeNow 91 = .ok (.iload 4, 2) := dk_21 4 (dk_at dksX1_takeNow_3 20 rfl rfl)
theorem dX1_takeNow_93 : decode cX1_takeNow 93 = .ok (.iadd, 1) := dk_96 (dk_at dksX1_takeNow_3 22 rfl rfl)
theorem dX1_takeNow_94 : decode cX1_takeNow 94 = .ok (.aload_n 0, 1) := dk_42 (dk_at dksX1_takeNow_3 23 rfl rfl)
theorem dX1_takeNow_95 : decode cX1_takeNow 95 = .ok (.iload_n 1, 1) := dk_27 (dk_at dksX1_takeNow_4 0 rfl rfl)
theorem dX1_takeNow_96 : decode cX1_takeNow 96 = .ok (.iload 4, 2) := dk_21 4 (dk_at dksX1_takeNow_4 1 rfl rfl)
theorem dX1_takeNow_98 : decode cX1_takeNow 98 = .ok (.invokevirtual 349, 3) := dk_182 1 93 (dk_at dksX1_takeNow_4 3 rfl rfl)
theorem dX1_takeNow_101 : decode cX1_takeNow 101 = .ok (.iastore, 1) := dk_79 (dk_at dksX1_takeNow_4 6 rfl rfl)
theorem dX1_takeNow_102 : decode cX1_takeNow 102 = .ok (.iinc 4 1, 3) := dk_132 4 1 (dk_at dksX1_takeNow_4 7 rfl rfl)
theorem dX1_takeNow_105 : decode cX1_takeNow 105 = .ok (.goto (-25), 3) := dk_167 255 231 (dk_at dksX1_takeNow_4 10 rfl rfl)
theorem dX1_takeNow_108 : decode cX1_takeNow 108 = .ok (.aload_n 0, 1) := dk_42 (dk_at dksX1_takeNow_4 13 rfl rfl)
theorem dX1_takeNow_109 : decode cX1_takeNow 109 = .ok (.getfield 58, 3) := dk_180 0 58 (dk_at dksX1_takeNow_4 14 rfl rfl)
theorem dX1_takeNow_112 : decode cX1_takeNow 112 = .ok (.iload_n 3, 1) := dk_29 (dk_at dksX1_takeNow_4 17 rfl rfl)
theorem dX1_takeNow_113 : decode cX1_takeNow 113 = .ok (.iconst 3, 1) := dk_6 (dk_at dksX1_takeNow_4 18 rfl rfl)
theorem dX1_takeNow_114 : decode cX1_takeNow 114 = .ok (.iadd, 1) := dk_96 (dk_at dksX1_takeNow_4 19 rfl rfl)
theorem dX1_takeNow_115 : decode cX1_takeNow 115 = .ok (.iload_n 2, 1) := dk_28 (dk_at dksX1_takeNow_4 20 rfl rfl)
theorem dX1_takeNow_116 : decode cX1_takeNow 116 = .ok (.iastore, 1) := dk_79 (dk_at dksX1_takeNow_4 21 rfl rfl)
theorem dX1_takeNow_117 : decode cX1_takeNow 117 = .ok (.aload_n 0, 1) := dk_42 (dk_at dksX1_takeNow_4 22 rfl rfl)
theorem dX1_takeNow_118 : decode cX1_takeNow 118 = .ok (.getfield 58, 3) := dk_180 0 58 (dk_at dksX1_takeNow_5 0 rfl rfl)
theorem dX1_takeNow_121 : decode cX1_takeNow 121 = .ok (.bipush 34, 2) := dk_16 34 (dk_at dksX1_takeNow_5 3 rfl rfl)
theorem dX1_takeNow_123 : decode cX1_takeNow 123 = .ok (.dup2, 1) := dk_92 (dk_at dksX1_takeNow_5 5 rfl rfl)
theorem dX1_takeNow_124 : decode cX1_takeNow 124 = .ok (.iaload, 1) := dk_46 (dk_at dksX1_takeNow_5 6 rfl rfl)
theorem dX1_takeNow_125 : decode cX1_takeNow 125 = .ok (.iconst 1, 1) := dk_4 (dk_at dksX1_takeNow_5 7 rfl rfl)
theorem dX1_takeNow_126 : decode cX1_takeNow 126 = .ok (.iadd, 1) := dk_96 (dk_at dksX1_takeNow_5 8 rfl rfl)
theorem dX1_takeNow_127 : decode cX1_takeNow 127 = .ok (.iastore, 1) := dk_79 (dk_at dksX1_takeNow_5 9 rfl rfl)
theorem dX1_takeNow_128 : decode cX1_takeNow 128 = .ok (.iconst 4, 1) := dk_7 (dk_at dksX1_takeNow_5 10 rfl rfl)
theorem dX1_takeNow_129 : decode cX1_takeNow 129 = .ok (.aload_n 0, 1) := dk_42 (dk_at dksX1_takeNow_5 11 rfl rfl)
theorem dX1_takeNow_130 : decode cX1_takeNow 130 = .ok (.iload_n 1, 1) := dk_27 (dk_at dksX1_takeNow_5 12 rfl rfl)
theorem dX1_takeNow_131 : decode cX1_takeNow 131 = .ok (.invokevirtual 343, 3) := dk_182 1 87 (dk_at dksX1_takeNow_5 13 rfl rfl)
theorem dX1_takeNow_134 : decode cX1_takeNow 134 = .ok (.iconst 1, 1) := dk_4 (dk_at dksX1_takeNow_5 16 rfl rfl)
theorem dX1_takeNow_135 : decode cX1_takeNow 135 = .ok (.iadd, 1) := dk_96 (dk_at dksX1_takeNow_5 17 rfl rfl)
theorem dX1_takeNow_136 : decode cX1_takeNow 136 = .ok (.imul, 1) := dk_104 (dk_at dksX1_takeNow_5 18 rfl rfl)
theorem dX1_takeNow_137 : decode cX1_takeNow 137 = .ok (.istore 4, 2) := dk_54 4 (dk_at dksX1_takeNow_5 19 rfl rfl)
theorem dX1_takeNow_139 : decode cX1_takeNow 139 = .ok (.iload 4, 2) := dk_21 4 (dk_at dksX1_takeNow_5 21 rfl rfl)
theorem dX1_takeNow_141 : decode cX1_takeNow 141 = .ok (.bipush 32, 2) := dk_16 32 (dk_at dksX1_takeNow_6 0 rfl rfl)
theorem dX1_takeNow_143 : decode cX1_takeNow 143 = .ok (.if_icmp .ge 25, 3) := dk_162 0 25 (dk_at dksX1_takeNow_6 2 rfl rfl)
theorem dX1_takeNow_146 : decode cX1_takeNow 146 = .ok (.aload_n 0, 1) := dk_42 (dk_at dksX1_takeNow_6 5 rfl rfl)
theorem dX1_takeNow_147 : decode cX1_takeNow 147 = .ok (.getfield 58, 3) := dk_180 0 58 (dk_at dksX1_takeNow_6 6 rfl rfl)
theorem dX1_takeNow_150 : decode cX1_takeNow 150 = .ok (.iload 4, 2) := dk_21 4 (dk_at dksX1_takeNow_6 9 rfl rfl)
theorem dX1_takeNow_152 : decode cX1_takeNow 152 = .ok (.iconst 4, 1) := dk_7 (dk_at dksX1_takeNow_6 11 rfl rfl)
theorem dX1_takeNow_153 : decode cX1_takeNow 153 = .ok (.isub, 1) := dk_100 (dk_at dksX1_takeNow_6 12 rfl rfl)
theorem dX1_takeNow_154 : decode cX1_takeNow 154 = .ok (.aload_n 0, 1) := dk_42 (dk_at dksX1_takeNow_6 13 rfl rfl)
theorem dX1_takeNow_155 : decode cX1_takeNow 155 = .ok (.getfield 58, 3) := dk_180 0 58 (dk_at dksX1_takeNow_6 14 rfl rfl)
theorem dX1_takeNow_158 : decode cX1_takeNow 158 = .ok (.iload 4, 2) := dk_21 4 (dk_at dksX1_takeNow_6 17 rfl rfl)
theorem dX1_takeNow_160 : decode cX1_takeNow 160 = .ok (.iaload, 1) := dk_46 (dk_at dksX1_takeNow_6 19 rfl rfl)
theorem dX1_takeNow_161 : decode cX1_takeNow 161 = .ok (.iastore, 1) := dk_79 (dk_at dksX1_takeNow_6 20 rfl rfl)
theorem dX1_takeNow_162 : decode cX1_takeNow 162 = .ok (.iinc 4 1, 3) := dk_132 4 1 (dk_at dksX1_takeNow_6 21 rfl rfl)
theorem dX1_takeNow_165 : decode cX1_takeNow 165 = .ok (.goto (-26), 3) := dk_167 255 230 (dk_at dksX1_takeNow_7 0 rfl rfl)
theorem dX1_takeNow_168 : decode cX1_takeNow 168 = .ok (.aload_n 0, 1) := dk_42 (dk_at dksX1_takeNow_7 3 rfl rfl)
theorem dX1_takeNow_169 : decode cX1_takeNow 169 = .ok (.getfield 58, 3) := dk_180 0 58 (dk_at dksX1_takeNow_7 4 rfl rfl)
theorem dX1_takeNow_172 : decode cX1_takeNow 172 = .ok (.bipush 32, 2) := dk_16 32 (dk_at dksX1_takeNow_7 7 rfl rfl)
theorem dX1_takeNow_174 : decode cX1_takeNow 174 = .ok (.dup2, 1) := dk_92 (dk_at dksX1_takeNow_7 9 rfl rfl)
theorem dX1_takeNow_175 : decode cX1_takeNow 175 = .ok (.iaload, 1) := dk_46 (dk_at dksX1_takeNow_7 10 rfl rfl)
theorem dX1_takeNow_176 : decode cX1_takeNow 176 = .ok (.iconst 1, 1) := dk_4 (dk_at dksX1_takeNow_7 11 rfl rfl)
theorem dX1_takeNow_177 : decode cX1_takeNow 177 = .ok (.isub, 1) := dk_100 (dk_at dksX1_takeNow_7 12 rfl rfl)
theorem dX1_takeNow_178 : decode cX1_takeNow 178 = .ok (.iastore, 1) := dk_79 (dk_at dksX1_takeNow_7 13 rfl rfl)
theorem dX1_takeNow_179 : decode cX1_takeNow 179 = .ok (.iload_n 2, 1) := dk_28 (dk_at dksX1_takeNow_7 14 rfl rfl)
theorem dX1_takeNow_180 : decode cX1_takeNow 180 = .ok (.ireturn, 1) := dk_172 (dk_at dksX1_takeNow_7 15 rfl rfl)
abbrev cX1_valueOf : ByteArray := prog_1_method_57_code
def yX1_valueOf : MethodName := ⟨RX1, "valueOf", "(I)I"⟩
def dkwX1_valueOf_0 : List UInt8 := [42, 27, 3, 42, 27, 182, 1, 87, 182, 1, 121, 172]
abbrev dktX1_valueOf_0 : List UInt8 := dkwX1_valueOf_0 ++ []
theorem dksX1_valueOf_0 : cX1_valueOf.data.toList.drop 0 = dktX1_valueOf_0 := by decide +kernel
theorem dX1_valueOf_0 : decode cX1_valueOf 0 = .ok (.aload_n 0, 1) := dk_42 (dk_at dksX1_valueOf_0 0 rfl rfl)
theorem dX1_valueOf_1 : decode cX1_valueOf 1 = .ok (.iload_n 1, 1) := dk_27 (dk_at dksX1_valueOf_0 1 rfl rfl)
theorem dX1_valueOf_2 : decode cX1_valueOf 2 = .ok (.iconst 0, 1) := dk_3 (dk_at dksX1_valueOf_0 2 rfl rfl)
theorem dX1_valueOf_3 : decode cX1_valueOf 3 = .ok (.aload_n 0, 1) := dk_42 (dk_at dksX1_valueOf_0 3 rfl rfl)
theorem dX1_valueOf_4 : decode cX1_valueOf 4 = .ok (.iload_n 1, 1) := dk_27 (dk_at dksX1_valueOf_0 4 rfl rfl)
theorem dX1_valueOf_5 : decode cX1_valueOf 5 = .ok (.invokevirtual 343, 3) := dk_182 1 87 (dk_at dksX1_valueOf_0 5 rfl rfl)
theorem dX1_valueOf_8 : decode cX1_valueOf 8 = .ok (.invokevirtual 377, 3) := dk_182 1 121 (dk_at dksX1_valueOf_0 8 rfl rfl)
theorem dX1_valueOf_11 : decode cX1_valueOf 11 = .ok (.ireturn, 1) := dk_172 (dk_at dksX1_valueOf_0 11 rfl rfl)
abbrev cX1_valueAt : ByteArray := prog_1_method_56_code
def yX1_valueAt : MethodName := ⟨RX1, "valueAt", "(III)I"⟩
def dkwX1_valueAt_1 : List UInt8 := [182, 1, 117, 104, 172]
abbrev dktX1_valueAt_1 : List UInt8 := dkwX1_valueAt_1 ++ []
def dkwX1_valueAt_0 : List UInt8 := [42, 27, 4, 182, 1, 93, 42, 27, 42, 27, 28, 182, 1, 114, 29, 42, 180, 0, 58, 16, 33, 46, 28, 96]
abbrev dktX1_valueAt_0 : List UInt8 := dkwX1_valueAt_0 ++ dktX1_valueAt_1
theorem dksX1_valueAt_0 : cX1_valueAt.data.toList.drop 0 = dktX1_valueAt_0 := by decide +kernel
theorem dksX1_valueAt_1 : cX1_valueAt.data.toList.drop 24 = dktX1_valueAt_1 := dk_seg dksX1_valueAt_0 24 rfl rfl
theorem dX1_valueAt_0 : decode cX1_valueAt 0 = .ok (.aload_n 0, 1) := dk_42 (dk_at dksX1_valueAt_0 0 rfl rfl)
theorem dX1_valueAt_1 : decode cX1_valueAt 1 = .ok (.iload_n 1, 1) := dk_27 (dk_at dksX1_valueAt_0 1 rfl rfl)
theorem dX1_valueAt_2 : decode cX1_valueAt 2 = .ok (.iconst 1, 1) := dk_4 (dk_at dksX1_valueAt_0 2 rfl rfl)
theorem dX1_valueAt_3 : decode cX1_valueAt 3 = .ok (.invokevirtual 349, 3) := dk_182 1 93 (dk_at dksX1_valueAt_0 3 rfl rfl)
theorem dX1_valueAt_6 : decode cX1_valueAt 6 = .ok (.aload_n 0, 1) := dk_42 (dk_at dksX1_valueAt_0 6 rfl rfl)
theorem dX1_valueAt_7 : decode cX1_valueAt 7 = .ok (.iload_n 1, 1) := dk_27 (dk_at dksX1_valueAt_0 7 rfl rfl)
theorem dX1_valueAt_8 : decode cX1_valueAt 8 = .ok (.aload_n 0, 1) := dk_42 (dk_at dksX1_valueAt_0 8 rfl rfl)
theorem dX1_valueAt_9 : decode cX1_valueAt 9 = .ok (.iload_n 1, 1) := dk_27 (dk_at dksX1_valueAt_0 9 rfl rfl)
theorem dX1_valueAt_10 : decode cX1_valueAt 10 = .ok (.iload_n 2, 1) := dk_28 (dk_at dksX1_valueAt_0 10 rfl rfl)
theorem dX1_valueAt_11 : decode cX1_valueAt 11 = .ok (.invokevirtual 370, 3) := dk_182 1 114 (dk_at dksX1_valueAt_0 11 rfl rfl)
theorem dX1_valueAt_14 : decode cX1_valueAt 14 = .ok (.iload_n 3, 1) := dk_29 (dk_at dksX1_valueAt_0 14 rfl rfl)
theorem dX1_valueAt_15 : decode cX1_valueAt 15 = .ok (.aload_n 0, 1) := dk_42 (dk_at dksX1_valueAt_0 15 rfl rfl)
theorem dX1_valueAt_16 : decode cX1_valueAt 16 = .ok (.getfield 58, 3) := dk_180 0 58 (dk_at dksX1_valueAt_0 16 rfl rfl)
theorem dX1_valueAt_19 : decode cX1_valueAt 19 = .ok (.bipush 33, 2) := dk_16 33 (dk_at dksX1_valueAt_0 19 rfl rfl)
theorem dX1_valueAt_21 : decode cX1_valueAt 21 = .ok (.iaload, 1) := dk_46 (dk_at dksX1_valueAt_0 21 rfl rfl)
theorem dX1_valueAt_22 : decode cX1_valueAt 22 = .ok (.iload_n 2, 1) := dk_28 (dk_at dksX1_valueAt_0 22 rfl rfl)
theorem dX1_valueAt_23 : decode cX1_valueAt 23 = .ok (.iadd, 1) := dk_96 (dk_at dksX1_valueAt_0 23 rfl rfl)
theorem dX1_valueAt_24 : decode cX1_valueAt 24 = .ok (.invokevirtual 373, 3) := dk_182 1 117 (dk_at dksX1_valueAt_1 0 rfl rfl)
theorem dX1_valueAt_27 : decode cX1_valueAt 27 = .ok (.imul, 1) := dk_104 (dk_at dksX1_valueAt_1 3 rfl rfl)
theorem dX1_valueAt_28 : decode cX1_valueAt 28 = .ok (.ireturn, 1) := dk_172 (dk_at dksX1_valueAt_1 4 rfl rfl)
abbrev cX1_aged : ByteArray := prog_1_method_55_code
def yX1_aged : MethodName := ⟨RX1, "aged", "(II)I"⟩
def dkwX1_aged_0 : List UInt8 := [16, 99, 42, 27, 5, 182, 1, 93, 28, 96, 184, 1, 99, 172]
abbrev dktX1_aged_0 : List UInt8 := dkwX1_aged_0 ++ []
theorem dksX1_aged_0 : cX1_aged.data.toList.drop 0 = dktX1_aged_0 := by decide +kernel
theorem dX1_aged_0 : decode cX1_aged 0 = .ok (.bipush 99, 2) := dk_16 99 (dk_at dksX1_aged_0 0 rfl rfl)
theorem dX1_aged_2 : decode cX1_aged 2 = .ok (.aload_n 0, 1) := dk_42 (dk_at dksX1_aged_0 2 rfl rfl)
theorem dX1_aged_3 : decode cX1_aged 3 = .ok (.iload_n 1, 1) := dk_27 (dk_at dksX1_aged_0 3 rfl rfl)
theorem dX1_aged_4 : decode cX1_aged 4 = .ok (.iconst 2, 1) := dk_5 (dk_at dksX1_aged_0 4 rfl rfl)
theorem dX1_aged_5 : decode cX1_aged 5 = .ok (.invokevirtual 349, 3) := dk_182 1 93 (dk_at dksX1_aged_0 5 rfl rfl)
theorem dX1_aged_8 : decode cX1_aged 8 = .ok (.iload_n 2, 1) := dk_28 (dk_at dksX1_aged_0 8 rfl rfl)
theorem dX1_aged_9 : decode cX1_aged 9 = .ok (.iadd, 1) := dk_96 (dk_at dksX1_aged_0 9 rfl rfl)
theorem dX1_aged_10 : decode cX1_aged 10 = .ok (.invokestatic 355, 3) := dk_184 1 99 (dk_at dksX1_aged_0 10 rfl rfl)
theorem dX1_aged_13 : decode cX1_aged 13 = .ok (.ireturn, 1) := dk_172 (dk_at dksX1_aged_0 13 rfl rfl)
abbrev cX1_worthAt : ByteArray := prog_1_method_54_code
def yX1_worthAt : MethodName := ⟨RX1, "worthAt", "(IIII)I"⟩
def dkwX1_worthAt_6 : List UInt8 := [100, 184, 1, 104, 172]
abbrev dktX1_worthAt_6 : List UInt8 := dkwX1_worthAt_6 ++ []
def dkwX1_worthAt_5 : List UInt8 := [180, 0, 20, 184, 1, 110, 184, 1, 99, 184, 1, 104, 54, 6, 3, 42, 21, 5, 6, 182, 1, 90, 21, 6]
abbrev dktX1_worthAt_5 : List UInt8 := dkwX1_worthAt_5 ++ dktX1_worthAt_6
def dkwX1_worthAt_4 : List UInt8 := [180, 0, 20, 16, 109, 21, 4, 79, 3, 16, 9, 42, 180, 0, 47, 42, 180, 0, 51, 50, 16, 121, 42]
abbrev dktX1_worthAt_4 : List UInt8 := dkwX1_worthAt_4 ++ dktX1_worthAt_5
def dkwX1_worthAt_3 : List UInt8 := [182, 1, 93, 79, 42, 180, 0, 20, 16, 121, 29, 79, 42, 180, 0, 20, 16, 107, 21, 5, 79, 42]
abbrev dktX1_worthAt_3 : List UInt8 := dkwX1_worthAt_3 ++ dktX1_worthAt_4
def dkwX1_worthAt_2 : List UInt8 := [79, 42, 180, 0, 20, 16, 111, 42, 21, 5, 5, 182, 1, 90, 79, 42, 180, 0, 20, 16, 110, 42, 27, 4]
abbrev dktX1_worthAt_2 : List UInt8 := dkwX1_worthAt_2 ++ dktX1_worthAt_3
def dkwX1_worthAt_1 : List UInt8 := [184, 1, 104, 54, 6, 42, 180, 0, 51, 2, 159, 0, 97, 42, 182, 1, 107, 42, 180, 0, 20, 16, 97, 28]
abbrev dktX1_worthAt_1 : List UInt8 := dkwX1_worthAt_1 ++ dktX1_worthAt_2
def dkwX1_worthAt_0 : List UInt8 := [42, 27, 3, 182, 1, 93, 54, 5, 3, 16, 9, 28, 42, 21, 5, 5, 182, 1, 90, 100, 184, 1, 99]
abbrev dktX1_worthAt_0 : List UInt8 := dkwX1_worthAt_0 ++ dktX1_worthAt_1
theorem dksX1_worthAt_0 : cX1_worthAt.data.toList.drop 0 = dktX1_worthAt_0 := by decide +kernel
theorem dksX1_worthAt_1 : cX1_worthAt.data.toList.drop 23 = dktX1_worthAt_1 := dk_seg dksX1_worthAt_0 23 rfl rfl
theorem dksX1_worthAt_2 : cX1_worthAt.data.toList.drop 47 = dktX1_worthAt_2 := dk_seg dksX1_worthAt_1 24 rfl rfl
theorem dksX1_worthAt_3 : cX1_worthAt.data.toList.drop 71 = dktX1_worthAt_3 := dk_seg dksX1_worthAt_2 24 rfl rfl
theorem dksX1_worthAt_4 : cX1_worthAt.data.toList.drop 93 = dktX1_worthAt_4 := dk_seg dksX1_worthAt_3 22 rfl rfl
theorem dksX1_worthAt_5 : cX1_worthAt.data.toList.drop 116 = dktX1_worthAt_5 := dk_seg dksX1_worthAt_4 23 rfl rfl
theorem dksX1_worthAt_6 : cX1_worthAt.data.toList.drop 140 = dktX1_worthAt_6 := dk_seg dksX1_worthAt_5 24 rfl rfl
theorem dX1_worthAt_0 : decode cX1_worthAt 0 = .ok (.aload_n 0, 1) := dk_42 (dk_at dksX1_worthAt_0 0 rfl rfl)
theorem dX1_worthAt_1 : decode cX1_worthAt 1 = .ok (.iload_n 1, 1) := dk_27 (dk_at dksX1_worthAt_0 1 rfl rfl)
theorem dX1_worthAt_2 : decode cX1_worthAt 2 = .ok (.iconst 0, 1) := dk_3 (dk_at dksX1_worthAt_0 2 rfl rfl)
theorem dX1_worthAt_3 : decode cX1_worthAt 3 = .ok (.invokevirtual 349, 3) := dk_182 1 93 (dk_at dksX1_worthAt_0 3 rfl rfl)
theorem dX1_worthAt_6 : decode cX1_worthAt 6 = .ok (.istore 5, 2) := dk_54 5 (dk_at dksX1_worthAt_0 6 rfl rfl)
theorem dX1_worthAt_8 : decode cX1_worthAt 8 = .ok (.iconst 0, 1) := dk_3 (dk_at dksX1_worthAt_0 8 rfl rfl)
theorem dX1_worthAt_9 : decode cX1_worthAt 9 = .ok (.bipush 9, 2) := dk_16 9 (dk_at dksX1_worthAt_0 9 rfl rfl)
theorem dX1_worthAt_11 : decode cX1_worthAt 11 = .ok (.iload_n 2, 1) := dk_28 (dk_at dksX1_worthAt_0 11 rfl rfl)
theorem dX1_worthAt_12 : decode cX1_worthAt 12 = .ok (.aload_n 0, 1) := dk_42 (dk_at dksX1_worthAt_0 12 rfl rfl)
theorem dX1_worthAt_13 : decode cX1_worthAt 13 = .ok (.iload 5, 2) := dk_21 5 (dk_at dksX1_worthAt_0 13 rfl rfl)
theorem dX1_worthAt_15 : decode cX1_worthAt 15 = .ok (.iconst 2, 1) := dk_5 (dk_at dksX1_worthAt_0 15 rfl rfl)
theorem dX1_worthAt_16 : decode cX1_worthAt 16 = .ok (.invokevirtual 346, 3) := dk_182 1 90 (dk_at dksX1_worthAt_0 16 rfl rfl)
theorem dX1_worthAt_19 : decode cX1_worthAt 19 = .ok (.isub, 1) := dk_100 (dk_at dksX1_worthAt_0 19 rfl rfl)
theorem dX1_worthAt_20 : decode cX1_worthAt 20 = .ok (.invokestatic 355, 3) := dk_184 1 99 (dk_at dksX1_worthAt_0 20 rfl rfl)
theorem dX1_worthAt_23 : decode cX1_worthAt 23 = .ok (.invokestatic 360, 3) := dk_184 1 104 (dk_at dksX1_worthAt_1 0 rfl rfl)
theorem dX1_worthAt_26 : decode cX1_worthAt 26 = .ok (.istore 6, 2) := dk_54 6 (dk_at dksX1_worthAt_1 3 rfl rfl)
theorem dX1_worthAt_28 : decode cX1_worthAt 28 = .ok (.aload_n 0, 1) := dk_42 (dk_at dksX1_worthAt_1 5 rfl rfl)
theorem dX1_worthAt_29 : decode cX1_worthAt 29 = .ok (.getfield 51, 3) := dk_180 0 51 (dk_at dksX1_worthAt_1 6 rfl rfl)
theorem dX1_worthAt_32 : decode cX1_worthAt 32 = .ok (.iconst (-1), 1) := dk_2 (dk_at dksX1_worthAt_1 9 rfl rfl)
theorem dX1_worthAt_33 : decode cX1_worthAt 33 = .ok (.if_icmp .eq 97, 3) := dk_159 0 97 (dk_at dksX1_worthAt_1 10 rfl rfl)
theorem dX1_worthAt_36 : decode cX1_worthAt 36 = .ok (.aload_n 0, 1) := dk_42 (dk_at dksX1_worthAt_1 13 rfl rfl)
theorem dX1_worthAt_37 : decode cX1_worthAt 37 = .ok (.invokevirtual 363, 3) := dk_182 1 107 (dk_at dksX1_worthAt_1 14 rfl rfl)
theorem dX1_worthAt_40 : decode cX1_worthAt 40 = .ok (.aload_n 0, 1) := dk_42 (dk_at dksX1_worthAt_1 17 rfl rfl)
theorem dX1_worthAt_41 : decode cX1_worthAt 41 = .ok (.getfield 20, 3) := dk_180 0 20 (dk_at dksX1_worthAt_1 18 rfl rfl)
theorem dX1_worthAt_44 : decode cX1_worthAt 44 = .ok (.bipush 97, 2) := dk_16 97 (dk_at dksX1_worthAt_1 21 rfl rfl)
theorem dX1_worthAt_46 : decode cX1_worthAt 46 = .ok (.iload_n 2, 1) := dk_28 (dk_at dksX1_worthAt_1 23 rfl rfl)
theorem dX1_worthAt_47 : decode cX1_worthAt 47 = .ok (.iastore, 1) := dk_79 (dk_at dksX1_worthAt_2 0 rfl rfl)
theorem dX1_worthAt_48 : decode cX1_worthAt 48 = .ok (.aload_n 0, 1) := dk_42 (dk_at dksX1_worthAt_2 1 rfl rfl)
theorem dX1_worthAt_49 : decode cX1_worthAt 49 = .ok (.getfield 20, 3) := dk_180 0 20 (dk_at dksX1_worthAt_2 2 rfl rfl)
theorem dX1_worthAt_52 : decode cX1_worthAt 52 = .ok (.bipush 111, 2) := dk_16 111 (dk_at dksX1_worthAt_2 5 rfl rfl)
theorem dX1_worthAt_54 : decode cX1_worthAt 54 = .ok (.aload_n 0, 1) := dk_42 (dk_at dksX1_worthAt_2 7 rfl rfl)
theorem dX1_worthAt_55 : decode cX1_worthAt 55 = .ok (.iload 5, 2) := dk_21 5 (dk_at dksX1_worthAt_2 8 rfl rfl)
theorem dX1_worthAt_57 : decode cX1_worthAt 57 = .ok (.iconst 2, 1) := dk_5 (dk_at dksX1_worthAt_2 10 rfl rfl)
theorem dX1_worthAt_58 : decode cX1_worthAt 58 = .ok (.invokevirtual 346, 3) := dk_182 1 90 (dk_at dksX1_worthAt_2 11 rfl rfl)
theorem dX1_worthAt_61 : decode cX1_worthAt 61 = .ok (.iastore, 1) := dk_79 (dk_at dksX1_worthAt_2 14 rfl rfl)
theorem dX1_worthAt_62 : decode cX1_worthAt 62 = .ok (.aload_n 0, 1) := dk_42 (dk_at dksX1_worthAt_2 15 rfl rfl)
theorem dX1_worthAt_63 : decode cX1_worthAt 63 = .ok (.getfield 20, 3) := dk_180 0 20 (dk_at dksX1_worthAt_2 16 rfl rfl)
theorem dX1_worthAt_66 : decode cX1_worthAt 66 = .ok (.bipush 110, 2) := dk_16 110 (dk_at dksX1_worthAt_2 19 rfl rfl)
theorem dX1_worthAt_68 : decode cX1_worthAt 68 = .ok (.aload_n 0, 1) := dk_42 (dk_at dksX1_worthAt_2 21 rfl rfl)
theorem dX1_worthAt_69 : decode cX1_worthAt 69 = .ok (.iload_n 1, 1) := dk_27 (dk_at dksX1_worthAt_2 22 rfl rfl)
theorem dX1_worthAt_70 : decode cX1_worthAt 70 = .ok (.iconst 1, 1) := dk_4 (dk_at dksX1_worthAt_2 23 rfl rfl)
theorem dX1_worthAt_71 : decode cX1_worthAt 71 = .ok (.invokevirtual 349, 3) := dk_182 1 93 (dk_at dksX1_worthAt_3 0 rfl rfl)
theorem dX1_worthAt_74 : decode cX1_worthAt 74 = .ok (.iastore, 1) := dk_79 (dk_at dksX1_worthAt_3 3 rfl rfl)
theorem dX1_worthAt_75 : decode cX1_worthAt 75 = .ok (.aload_n 0, 1) := dk_42 (dk_at dksX1_worthAt_3 4 rfl rfl)
theorem dX1_worthAt_76 : decode cX1_worthAt 76 = .ok (.getfield 20, 3) := dk_180 0 20 (dk_at dksX1_worthAt_3 5 rfl rfl)
theorem dX1_worthAt_79 : decode cX1_worthAt 79 = .ok (.bipush 121, 2) := dk_16 121 (dk_at dksX1_worthAt_3 8 rfl rfl)
theorem dX1_worthAt_81 : decode cX1_worthAt 81 = .ok (.iload_n 3, 1) := dk_29 (dk_at dksX1_worthAt_3 10 rfl rfl)
theorem dX1_worthAt_82 : decode cX1_worthAt 82 = .ok (.iastore, 1) := dk_79 (dk_at dksX1_worthAt_3 11 rfl rfl)
theorem dX1_worthAt_83 : decode cX1_worthAt 83 = .ok (.aload_n 0, 1) := dk_42 (dk_at dksX1_worthAt_3 12 rfl rfl)
theorem dX1_worthAt_84 : decode cX1_worthAt 84 = .ok (.getfield 20, 3) := dk_180 0 20 (dk_at dksX1_worthAt_3 13 rfl rfl)
theorem dX1_worthAt_87 : decode cX1_worthAt 87 = .ok (.bipush 107, 2) := dk_16 107 (dk_at dksX1_worthAt_3 16 rfl rfl)
theorem dX1_worthAt_89 : decode cX1_worthAt 89 = .ok (.iload 5, 2) := dk_21 5 (dk_at dksX1_worthAt_3 18 rfl rfl)
theorem dX1_worthAt_91 : decode cX1_worthAt 91 = .ok (.iastore, 1) := dk_79 (dk_at dksX1_worthAt_3 20 rfl rfl)
theorem dX1_worthAt_92 : decode cX1_worthAt 92 = .ok (.aload_n 0, 1) := dk_42 (dk_at dksX1_worthAt_3 21 rfl rfl)
theorem dX1_worthAt_93 : decode cX1_worthAt 93 = .ok (.getfield 20, 3) := dk_180 0 20 (dk_at dksX1_worthAt_4 0 rfl rfl)
theorem dX1_worthAt_96 : decode cX1_worthAt 96 = .ok (.bipush 109, 2) := dk_16 109 (dk_at dksX1_worthAt_4 3 rfl rfl)
theorem dX1_worthAt_98 : decode cX1_worthAt 98 = .ok (.iload 4, 2) := dk_21 4 (dk_at dksX1_worthAt_4 5 rfl rfl)
theorem dX1_worthAt_100 : decode cX1_worthAt 100 = .ok (.iastore, 1) := dk_79 (dk_at dksX1_worthAt_4 7 rfl rfl)
theorem dX1_worthAt_101 : decode cX1_worthAt 101 = .ok (.iconst 0, 1) := dk_3 (dk_at dksX1_worthAt_4 8 rfl rfl)
theorem dX1_worthAt_102 : decode cX1_worthAt 102 = .ok (.bipush 9, 2) := dk_16 9 (dk_at dksX1_worthAt_4 9 rfl rfl)
theorem dX1_worthAt_104 : decode cX1_worthAt 104 = .ok (.aload_n 0, 1) := dk_42 (dk_at dksX1_worthAt_4 11 rfl rfl)
theorem dX1_worthAt_105 : decode cX1_worthAt 105 = .ok (.getfield 47, 3) := dk_180 0 47 (dk_at dksX1_worthAt_4 12 rfl rfl)
theorem dX1_worthAt_108 : decode cX1_worthAt 108 = .ok (.aload_n 0, 1) := dk_42 (dk_at dksX1_worthAt_4 15 rfl rfl)
theorem dX1_worthAt_109 : decode cX1_worthAt 109 = .ok (.getfield 51, 3) := dk_180 0 51 (dk_at dksX1_worthAt_4 16 rfl rfl)
theorem dX1_worthAt_112 : decode cX1_worthAt 112 = .ok (.aaload, 1) := dk_50 (dk_at dksX1_worthAt_4 19 rfl rfl)
theorem dX1_worthAt_113 : decode cX1_worthAt 113 = .ok (.bipush 121, 2) := dk_16 121 (dk_at dksX1_worthAt_4 20 rfl rfl)
theorem dX1_worthAt_115 : decode cX1_worthAt 115 = .ok (.aload_n 0, 1) := dk_42 (dk_at dksX1_worthAt_4 22 rfl rfl)
theorem dX1_worthAt_116 : decode cX1_worthAt 116 = .ok (.getfield 20, 3) := dk_180 0 20 (dk_at dksX1_worthAt_5 0 rfl rfl)
theorem dX1_worthAt_119 : decode cX1_worthAt 119 = .ok (.invokestatic 366, 3) := dk_184 1 110 (dk_at dksX1_worthAt_5 3 rfl rfl)
theorem dX1_worthAt_122 : decode cX1_worthAt 122 = .ok (.invokestatic 355, 3) := dk_184 1 99 (dk_at dksX1_worthAt_5 6 rfl rfl)
theorem dX1_worthAt_125 : decode cX1_worthAt 125 = .ok (.invokestatic 360, 3) := dk_184 1 104 (dk_at dksX1_worthAt_5 9 rfl rfl)
theorem dX1_worthAt_128 : decode cX1_worthAt 128 = .ok (.istore 6, 2) := dk_54 6 (dk_at dksX1_worthAt_5 12 rfl rfl)
theorem dX1_worthAt_130 : decode cX1_worthAt 130 = .ok (.iconst 0, 1) := dk_3 (dk_at dksX1_worthAt_5 14 rfl rfl)
theorem dX1_worthAt_131 : decode cX1_worthAt 131 = .ok (.aload_n 0, 1) := dk_42 (dk_at dksX1_worthAt_5 15 rfl rfl)
theorem dX1_worthAt_132 : decode cX1_worthAt 132 = .ok (.iload 5, 2) := dk_21 5 (dk_at dksX1_worthAt_5 16 rfl rfl)
theorem dX1_worthAt_134 : decode cX1_worthAt 134 = .ok (.iconst 3, 1) := dk_6 (dk_at dksX1_worthAt_5 18 rfl rfl)
theorem dX1_worthAt_135 : decode cX1_worthAt 135 = .ok (.invokevirtual 346, 3) := dk_182 1 90 (dk_at dksX1_worthAt_5 19 rfl rfl)
theorem dX1_worthAt_138 : decode cX1_worthAt 138 = .ok (.iload 6, 2) := dk_21 6 (dk_at dksX1_worthAt_5 22 rfl rfl)
theorem dX1_worthAt_140 : decode cX1_worthAt 140 = .ok (.isub, 1) := dk_100 (dk_at dksX1_worthAt_6 0 rfl rfl)
theorem dX1_worthAt_141 : decode cX1_worthAt 141 = .ok (.invokestatic 360, 3) := dk_184 1 104 (dk_at dksX1_worthAt_6 1 rfl rfl)
theorem dX1_worthAt_144 : decode cX1_worthAt 144 = .ok (.ireturn, 1) := dk_172 (dk_at dksX1_worthAt_6 4 rfl rfl)
abbrev cX1_forget : ByteArray := prog_1_method_23_code
def yX1_forget : MethodName := ⟨RX1, "forget", "()V"⟩
def dkwX1_forget_1 : List UInt8 := [132, 1, 1, 167, 255, 232, 177]
abbrev dktX1_forget_1 : List UInt8 := dkwX1_forget_1 ++ []
def dkwX1_forget_0 : List UInt8 := [3, 60, 27, 18, 130, 182, 0, 214, 162, 0, 21, 42, 180, 0, 20, 18, 130, 27, 182, 0, 217, 3, 79]
abbrev dktX1_forget_0 : List UInt8 := dkwX1_forget_0 ++ dktX1_forget_1
theorem dksX1_forget_0 : cX1_forget.data.toList.drop 0 = dktX1_forget_0 := by decide +kernel
theorem dksX1_forget_1 : cX1_forget.data.toList.drop 23 = dktX1_forget_1 := dk_seg dksX1_forget_0 23 rfl rfl
theorem dX1_forget_0 : decode cX1_forget 0 = .ok (.iconst 0, 1) := dk_3 (dk_at dksX1_forget_0 0 rfl rfl)
theorem dX1_forget_1 : decode cX1_forget 1 = .ok (.istore_n 1, 1) := dk_60 (dk_at dksX1_forget_0 1 rfl rfl)
theorem dX1_forget_2 : decode cX1_forget 2 = .ok (.iload_n 1, 1) := dk_27 (dk_at dksX1_forget_0 2 rfl rfl)
theorem dX1_forget_3 : decode cX1_forget 3 = .ok (.ldc 130, 2) := dk_18 130 (dk_at dksX1_forget_0 3 rfl rfl)
theorem dX1_forget_5 : decode cX1_forget 5 = .ok (.invokevirtual 214, 3) := dk_182 0 214 (dk_at dksX1_forget_0 5 rfl rfl)
theorem dX1_forget_8 : decode cX1_forget 8 = .ok (.if_icmp .ge 21, 3) := dk_162 0 21 (dk_at dksX1_forget_0 8 rfl rfl)
theorem dX1_forget_11 : decode cX1_forget 11 = .ok (.aload_n 0, 1) := dk_42 (dk_at dksX1_forget_0 11 rfl rfl)
theorem dX1_forget_12 : decode cX1_forget 12 = .ok (.getfield 20, 3) := dk_180 0 20 (dk_at dksX1_forget_0 12 rfl rfl)
theorem dX1_forget_15 : decode cX1_forget 15 = .ok (.ldc 130, 2) := dk_18 130 (dk_at dksX1_forget_0 15 rfl rfl)
theorem dX1_forget_17 : decode cX1_forget 17 = .ok (.iload_n 1, 1) := dk_27 (dk_at dksX1_forget_0 17 rfl rfl)
theorem dX1_forget_18 : decode cX1_forget 18 = .ok (.invokevirtual 217, 3) := dk_182 0 217 (dk_at dksX1_forget_0 18 rfl rfl)
theorem dX1_forget_21 : decode cX1_forget 21 = .ok (.iconst 0, 1) := dk_3 (dk_at dksX1_forget_0 21 rfl rfl)
theorem dX1_forget_22 : decode cX1_forget 22 = .ok (.iastore, 1) := dk_79 (dk_at dksX1_forget_0 22 rfl rfl)
theorem dX1_forget_23 : decode cX1_forget 23 = .ok (.iinc 1 1, 3) := dk_132 1 1 (dk_at dksX1_forget_1 0 rfl rfl)
theorem dX1_forget_26 : decode cX1_forget 26 = .ok (.goto (-24), 3) := dk_167 255 232 (dk_at dksX1_forget_1 3 rfl rfl)
theorem dX1_forget_29 : decode cX1_forget 29 = .ok (.return_, 1) := dk_177 (dk_at dksX1_forget_1 6 rfl rfl)
abbrev cX1_worth : ByteArray := prog_1_method_24_code
def yX1_worth : MethodName := ⟨RX1, "worth", "(LFrostBox$Clause;I[I)I"⟩
def dkwX1_worth_2 : List UInt8 := [167, 255, 212, 3, 172]
abbrev dktX1_worth_2 : List UInt8 := dkwX1_worth_2 ++ []
def dkwX1_worth_1 : List UInt8 := [180, 0, 224, 44, 182, 0, 228, 153, 0, 12, 45, 180, 0, 234, 44, 182, 0, 237, 172, 45, 180, 0, 207, 78]
abbrev dktX1_worth_1 : List UInt8 := dkwX1_worth_1 ++ dktX1_worth_2
def dkwX1_worth_0 : List UInt8 := [42, 78, 45, 198, 0, 46, 45, 180, 0, 221, 27, 160, 0, 30, 45, 180, 0, 224, 198, 0, 14, 45]
abbrev dktX1_worth_0 : List UInt8 := dkwX1_worth_0 ++ dktX1_worth_1
theorem dksX1_worth_0 : cX1_worth.data.toList.drop 0 = dktX1_worth_0 := by decide +kernel
theorem dksX1_worth_1 : cX1_worth.data.toList.drop 22 = dktX1_worth_1 := dk_seg dksX1_worth_0 22 rfl rfl
theorem dksX1_worth_2 : cX1_worth.data.toList.drop 46 = dktX1_worth_2 := dk_seg dksX1_worth_1 24 rfl rfl
theorem dX1_worth_0 : decode cX1_worth 0 = .ok (.aload_n 0, 1) := dk_42 (dk_at dksX1_worth_0 0 rfl rfl)
theorem dX1_worth_1 : decode cX1_worth 1 = .ok (.astore_n 3, 1) := dk_78 (dk_at dksX1_worth_0 1 rfl rfl)
theorem dX1_worth_2 : decode cX1_worth 2 = .ok (.aload_n 3, 1) := dk_45 (dk_at dksX1_worth_0 2 rfl rfl)
theorem dX1_worth_3 : decode cX1_worth 3 = .ok (.ifnull 46, 3) := dk_198 0 46 (dk_at dksX1_worth_0 3 rfl rfl)
theorem dX1_worth_6 : decode cX1_worth 6 = .ok (.aload_n 3, 1) := dk_45 (dk_at dksX1_worth_0 6 rfl rfl)
theorem dX1_worth_7 : decode cX1_worth 7 = .ok (.getfield 221, 3) := dk_180 0 221 (dk_at dksX1_worth_0 7 rfl rfl)
theorem dX1_worth_10 : decode cX1_worth 10 = .ok (.iload_n 1, 1) := dk_27 (dk_at dksX1_worth_0 10 rfl rfl)
theorem dX1_worth_11 : decode cX1_worth 11 = .ok (.if_icmp .ne 30, 3) := dk_160 0 30 (dk_at dksX1_worth_0 11 rfl rfl)
theorem dX1_worth_14 : decode cX1_worth 14 = .ok (.aload_n 3, 1) := dk_45 (dk_at dksX1_worth_0 14 rfl rfl)
theorem dX1_worth_15 : decode cX1_worth 15 = .ok (.getfield 224, 3) := dk_180 0 224 (dk_at dksX1_worth_0 15 rfl rfl)
theorem dX1_worth_18 : decode cX1_worth 18 = .ok (.ifnull 14, 3) := dk_198 0 14 (dk_at dksX1_worth_0 18 rfl rfl)
theorem dX1_worth_21 : decode cX1_worth 21 = .ok (.aload_n 3, 1) := dk_45 (dk_at dksX1_worth_0 21 rfl rfl)
theorem dX1_worth_22 : decode cX1_worth 22 = .ok (.getfield 224, 3) := dk_180 0 224 (dk_at dksX1_worth_1 0 rfl rfl)
theorem dX1_worth_25 : decode cX1_worth 25 = .ok (.aload_n 2, 1) := dk_44 (dk_at dksX1_worth_1 3 rfl rfl)
theorem dX1_worth_26 : decode cX1_worth 26 = .ok (.invokevirtual 228, 3) := dk_182 0 228 (dk_at dksX1_worth_1 4 rfl rfl)
theorem dX1_worth_29 : decode cX1_worth 29 = .ok (.ifCond .eq 12, 3) := dk_153 0 12 (dk_at dksX1_worth_1 7 rfl rfl)
theorem dX1_worth_32 : decode cX1_worth 32 = .ok (.aload_n 3, 1) := dk_45 (dk_at dksX1_worth_1 10 rfl rfl)
theorem dX1_worth_33 : decode cX1_worth 33 = .ok (.getfield 234, 3) := dk_180 0 234 (dk_at dksX1_worth_1 11 rfl rfl)
theorem dX1_worth_36 : decode cX1_worth 36 = .ok (.aload_n 2, 1) := dk_44 (dk_at dksX1_worth_1 14 rfl rfl)
theorem dX1_worth_37 : decode cX1_worth 37 = .ok (.invokevirtual 237, 3) := dk_182 0 237 (dk_at dksX1_worth_1 15 rfl rfl)
theorem dX1_worth_40 : decode cX1_worth 40 = .ok (.ireturn, 1) := dk_172 (dk_at dksX1_worth_1 18 rfl rfl)
theorem dX1_worth_41 : decode cX1_worth 41 = .ok (.aload_n 3, 1) := dk_45 (dk_at dksX1_worth_1 19 rfl rfl)
theorem dX1_worth_42 : decode cX1_worth 42 = .ok (.getfield 207, 3) := dk_180 0 207 (dk_at dksX1_worth_1 20 rfl rfl)
theorem dX1_worth_45 : decode cX1_worth 45 = .ok (.astore_n 3, 1) := dk_78 (dk_at dksX1_worth_1 23 rfl rfl)
theorem dX1_worth_46 : decode cX1_worth 46 = .ok (.goto (-44), 3) := dk_167 255 212 (dk_at dksX1_worth_2 0 rfl rfl)
theorem dX1_worth_49 : decode cX1_worth 49 = .ok (.iconst 0, 1) := dk_3 (dk_at dksX1_worth_2 3 rfl rfl)
theorem dX1_worth_50 : decode cX1_worth 50 = .ok (.ireturn, 1) := dk_172 (dk_at dksX1_worth_2 4 rfl rfl)
abbrev cX1_label : ByteArray := prog_1_method_72_code
def yX1_label : MethodName := ⟨RX1, "label", "(I)Z"⟩
def dkwX1_label_0 : List UInt8 := [42, 27, 182, 1, 165, 154, 0, 5, 3, 172, 42, 182, 1, 155, 42, 27, 182, 1, 168, 4, 172]
abbrev dktX1_label_0 : List UInt8 := dkwX1_label_0 ++ []
theorem dksX1_label_0 : cX1_label.data.toList.drop 0 = dktX1_label_0 := by decide +kernel
theorem dX1_label_0 : decode cX1_label 0 = .ok (.aload_n 0, 1) := dk_42 (dk_at dksX1_label_0 0 rfl rfl)
theorem dX1_label_1 : decode cX1_label 1 = .ok (.iload_n 1, 1) := dk_27 (dk_at dksX1_label_0 1 rfl rfl)
theorem dX1_label_2 : decode cX1_label 2 = .ok (.invokevirtual 421, 3) := dk_182 1 165 (dk_at dksX1_label_0 2 rfl rfl)
theorem dX1_label_5 : decode cX1_label 5 = .ok (.ifCond .ne 5, 3) := dk_154 0 5 (dk_at dksX1_label_0 5 rfl rfl)
theorem dX1_label_8 : decode cX1_label 8 = .ok (.iconst 0, 1) := dk_3 (dk_at dksX1_label_0 8 rfl rfl)
theorem dX1_label_9 : decode cX1_label 9 = .ok (.ireturn, 1) := dk_172 (dk_at dksX1_label_0 9 rfl rfl)
theorem dX1_label_10 : decode cX1_label 10 = .ok (.aload_n 0, 1) := dk_42 (dk_at dksX1_label_0 10 rfl rfl)
theorem dX1_label_11 : decode cX1_label 11 = .ok (.invokevirtual 411, 3) := dk_182 1 155 (dk_at dksX1_label_0 11 rfl rfl)
theorem dX1_label_14 : decode cX1_label 14 = .ok (.aload_n 0, 1) := dk_42 (dk_at dksX1_label_0 14 rfl rfl)
theorem dX1_label_15 : decode cX1_label 15 = .ok (.iload_n 1, 1) := dk_27 (dk_at dksX1_label_0 15 rfl rfl)
theorem dX1_label_16 : decode cX1_label 16 = .ok (.invokevirtual 424, 3) := dk_182 1 168 (dk_at dksX1_label_0 16 rfl rfl)
theorem dX1_label_19 : decode cX1_label 19 = .ok (.iconst 1, 1) := dk_4 (dk_at dksX1_label_0 19 rfl rfl)
theorem dX1_label_20 : decode cX1_label 20 = .ok (.ireturn, 1) := dk_172 (dk_at dksX1_label_0 20 rfl rfl)
abbrev cX1_canLabel : ByteArray := prog_1_method_70_code
def yX1_canLabel : MethodName := ⟨RX1, "canLabel", "(I)Z"⟩
def dkwX1_canLabel_0 : List UInt8 := [42, 27, 182, 1, 137, 153, 0, 15, 42, 27, 182, 1, 143, 154, 0, 7, 4, 167, 0, 4, 3, 172]
abbrev dktX1_canLabel_0 : List UInt8 := dkwX1_canLabel_0 ++ []
theorem dksX1_canLabel_0 : cX1_canLabel.data.toList.drop 0 = dktX1_canLabel_0 := by decide +kernel
theorem dX1_canLabel_0 : decode cX1_canLabel 0 = .ok (.aload_n 0, 1) := dk_42 (dk_at dksX1_canLabel_0 0 rfl rfl)
theorem dX1_canLabel_1 : decode cX1_canLabel 1 = .ok (.iload_n 1, 1) := dk_27 (dk_at dksX1_canLabel_0 1 rfl rfl)
theorem dX1_canLabel_2 : decode cX1_canLabel 2 = .ok (.invokevirtual 393, 3) := dk_182 1 137 (dk_at dksX1_canLabel_0 2 rfl rfl)
theorem dX1_canLabel_5 : decode cX1_canLabel 5 = .ok (.ifCond .eq 15, 3) := dk_153 0 15 (dk_at dksX1_canLabel_0 5 rfl rfl)
theorem dX1_canLabel_8 : decode cX1_canLabel 8 = .ok (.aload_n 0, 1) := dk_42 (dk_at dksX1_canLabel_0 8 rfl rfl)
theorem dX1_canLabel_9 : decode cX1_canLabel 9 = .ok (.iload_n 1, 1) := dk_27 (dk_at dksX1_canLabel_0 9 rfl rfl)
theorem dX1_canLabel_10 : decode cX1_canLabel 10 = .ok (.invokevirtual 399, 3) := dk_182 1 143 (dk_at dksX1_canLabel_0 10 rfl rfl)
theorem dX1_canLabel_13 : decode cX1_canLabel 13 = .ok (.ifCond .ne 7, 3) := dk_154 0 7 (dk_at dksX1_canLabel_0 13 rfl rfl)
theorem dX1_canLabel_16 : decode cX1_canLabel 16 = .ok (.iconst 1, 1) := dk_4 (dk_at dksX1_canLabel_0 16 rfl rfl)
theorem dX1_canLabel_17 : decode cX1_canLabel 17 = .ok (.goto 4, 3) := dk_167 0 4 (dk_at dksX1_canLabel_0 17 rfl rfl)
theorem dX1_canLabel_20 : decode cX1_canLabel 20 = .ok (.iconst 0, 1) := dk_3 (dk_at dksX1_canLabel_0 20 rfl rfl)
theorem dX1_canLabel_21 : decode cX1_canLabel 21 = .ok (.ireturn, 1) := dk_172 (dk_at dksX1_canLabel_0 21 rfl rfl)
abbrev cX1_isLabelled : ByteArray := prog_1_method_50_code
def yX1_isLabelled : MethodName := ⟨RX1, "isLabelled", "(I)Z"⟩
def dkwX1_isLabelled_0 : List UInt8 := [42, 27, 6, 182, 1, 93, 2, 159, 0, 7, 4, 167, 0, 4, 3, 172]
abbrev dktX1_isLabelled_0 : List UInt8 := dkwX1_isLabelled_0 ++ []
theorem dksX1_isLabelled_0 : cX1_isLabelled.data.toList.drop 0 = dktX1_isLabelled_0 := by decide +kernel
theorem dX1_isLabelled_0 : decode cX1_isLabelled 0 = .ok (.aload_n 0, 1) := dk_42 (dk_at dksX1_isLabelled_0 0 rfl rfl)
theorem dX1_isLabelled_1 : decode cX1_isLabelled 1 = .ok (.iload_n 1, 1) := dk_27 (dk_at dksX1_isLabelled_0 1 rfl rfl)
theorem dX1_isLabelled_2 : decode cX1_isLabelled 2 = .ok (.iconst 3, 1) := dk_6 (dk_at dksX1_isLabelled_0 2 rfl rfl)
theorem dX1_isLabelled_3 : decode cX1_isLabelled 3 = .ok (.invokevirtual 349, 3) := dk_182 1 93 (dk_at dksX1_isLabelled_0 3 rfl rfl)
theorem dX1_isLabelled_6 : decode cX1_isLabelled 6 = .ok (.iconst (-1), 1) := dk_2 (dk_at dksX1_isLabelled_0 6 rfl rfl)
theorem dX1_isLabelled_7 : decode cX1_isLabelled 7 = .ok (.if_icmp .eq 7, 3) := dk_159 0 7 (dk_at dksX1_isLabelled_0 7 rfl rfl)
theorem dX1_isLabelled_10 : decode cX1_isLabelled 10 = .ok (.iconst 1, 1) := dk_4 (dk_at dksX1_isLabelled_0 10 rfl rfl)
theorem dX1_isLabelled_11 : decode cX1_isLabelled 11 = .ok (.goto 4, 3) := dk_167 0 4 (dk_at dksX1_isLabelled_0 11 rfl rfl)
theorem dX1_isLabelled_14 : decode cX1_isLabelled 14 = .ok (.iconst 0, 1) := dk_3 (dk_at dksX1_isLabelled_0 14 rfl rfl)
theorem dX1_isLabelled_15 : decode cX1_isLabelled 15 = .ok (.ireturn, 1) := dk_172 (dk_at dksX1_isLabelled_0 15 rfl rfl)
abbrev cX1_labelNow : ByteArray := prog_1_method_71_code
def yX1_labelNow : MethodName := ⟨RX1, "labelNow", "(I)V"⟩
def dkwX1_labelNow_0 : List UInt8 := [42, 180, 0, 58, 7, 42, 27, 182, 1, 87, 104, 6, 96, 42, 180, 0, 58, 16, 33, 46, 79, 177]
abbrev dktX1_labelNow_0 : List UInt8 := dkwX1_labelNow_0 ++ []
theorem dksX1_labelNow_0 : cX1_labelNow.data.toList.drop 0 = dktX1_labelNow_0 := by decide +kernel
theorem dX1_labelNow_0 : decode cX1_labelNow 0 = .ok (.aload_n 0, 1) := dk_42 (dk_at dksX1_labelNow_0 0 rfl rfl)
theorem dX1_labelNow_1 : decode cX1_labelNow 1 = .ok (.getfield 58, 3) := dk_180 0 58 (dk_at dksX1_labelNow_0 1 rfl rfl)
theorem dX1_labelNow_4 : decode cX1_labelNow 4 = .ok (.iconst 4, 1) := dk_7 (dk_at dksX1_labelNow_0 4 rfl rfl)
theorem dX1_labelNow_5 : decode cX1_labelNow 5 = .ok (.aload_n 0, 1) := dk_42 (dk_at dksX1_labelNow_0 5 rfl rfl)
theorem dX1_labelNow_6 : decode cX1_labelNow 6 = .ok (.iload_n 1, 1) := dk_27 (dk_at dksX1_labelNow_0 6 rfl rfl)
theorem dX1_labelNow_7 : decode cX1_labelNow 7 = .ok (.invokevirtual 343, 3) := dk_182 1 87 (dk_at dksX1_labelNow_0 7 rfl rfl)
theorem dX1_labelNow_10 : decode cX1_labelNow 10 = .ok (.imul, 1) := dk_104 (dk_at dksX1_labelNow_0 10 rfl rfl)
theorem dX1_labelNow_11 : decode cX1_labelNow 11 = .ok (.iconst 3, 1) := dk_6 (dk_at dksX1_labelNow_0 11 rfl rfl)
theorem dX1_labelNow_12 : decode cX1_labelNow 12 = .ok (.iadd, 1) := dk_96 (dk_at dksX1_labelNow_0 12 rfl rfl)
theorem dX1_labelNow_13 : decode cX1_labelNow 13 = .ok (.aload_n 0, 1) := dk_42 (dk_at dksX1_labelNow_0 13 rfl rfl)
theorem dX1_labelNow_14 : decode cX1_labelNow 14 = .ok (.getfield 58, 3) := dk_180 0 58 (dk_at dksX1_labelNow_0 14 rfl rfl)
theorem dX1_labelNow_17 : decode cX1_labelNow 17 = .ok (.bipush 33, 2) := dk_16 33 (dk_at dksX1_labelNow_0 17 rfl rfl)
theorem dX1_labelNow_19 : decode cX1_labelNow 19 = .ok (.iaload, 1) := dk_46 (dk_at dksX1_labelNow_0 19 rfl rfl)
theorem dX1_labelNow_20 : decode cX1_labelNow 20 = .ok (.iastore, 1) := dk_79 (dk_at dksX1_labelNow_0 20 rfl rfl)
theorem dX1_labelNow_21 : decode cX1_labelNow 21 = .ok (.return_, 1) := dk_177 (dk_at dksX1_labelNow_0 21 rfl rfl)
abbrev cX1_months : ByteArray := prog_1_method_76_code
def yX1_months : MethodName := ⟨RX1, "months", "(I)I"⟩
def dkwX1_months_1 : List UInt8 := [182, 1, 177, 132, 2, 1, 167, 255, 240, 42, 180, 0, 58, 16, 33, 46, 172]
abbrev dktX1_months_1 : List UInt8 := dkwX1_months_1 ++ []
def dkwX1_months_0 : List UInt8 := [42, 27, 182, 1, 174, 154, 0, 5, 2, 172, 3, 61, 28, 27, 162, 0, 17, 42, 182, 1, 155, 42]
abbrev dktX1_months_0 : List UInt8 := dkwX1_months_0 ++ dktX1_months_1
theorem dksX1_months_0 : cX1_months.data.toList.drop 0 = dktX1_months_0 := by decide +kernel
theorem dksX1_months_1 : cX1_months.data.toList.drop 22 = dktX1_months_1 := dk_seg dksX1_months_0 22 rfl rfl
theorem dX1_months_0 : decode cX1_months 0 = .ok (.aload_n 0, 1) := dk_42 (dk_at dksX1_months_0 0 rfl rfl)
theorem dX1_months_1 : decode cX1_months 1 = .ok (.iload_n 1, 1) := dk_27 (dk_at dksX1_months_0 1 rfl rfl)
theorem dX1_months_2 : decode cX1_months 2 = .ok (.invokevirtual 430, 3) := dk_182 1 174 (dk_at dksX1_months_0 2 rfl rfl)
theorem dX1_months_5 : decode cX1_months 5 = .ok (.ifCond .ne 5, 3) := dk_154 0 5 (dk_at dksX1_months_0 5 rfl rfl)
theorem dX1_months_8 : decode cX1_months 8 = .ok (.iconst (-1), 1) := dk_2 (dk_at dksX1_months_0 8 rfl rfl)
theorem dX1_months_9 : decode cX1_months 9 = .ok (.ireturn, 1) := dk_172 (dk_at dksX1_months_0 9 rfl rfl)
theorem dX1_months_10 : decode cX1_months 10 = .ok (.iconst 0, 1) := dk_3 (dk_at dksX1_months_0 10 rfl rfl)
theorem dX1_months_11 : decode cX1_months 11 = .ok (.istore_n 2, 1) := dk_61 (dk_at dksX1_months_0 11 rfl rfl)
theorem dX1_months_12 : decode cX1_months 12 = .ok (.iload_n 2, 1) := dk_28 (dk_at dksX1_months_0 12 rfl rfl)
theorem dX1_months_13 : decode cX1_months 13 = .ok (.iload_n 1, 1) := dk_27 (dk_at dksX1_months_0 13 rfl rfl)
theorem dX1_months_14 : decode cX1_months 14 = .ok (.if_icmp .ge 17, 3) := dk_162 0 17 (dk_at dksX1_months_0 14 rfl rfl)
theorem dX1_months_17 : decode cX1_months 17 = .ok (.aload_n 0, 1) := dk_42 (dk_at dksX1_months_0 17 rfl rfl)
theorem dX1_months_18 : decode cX1_months 18 = .ok (.invokevirtual 411, 3) := dk_182 1 155 (dk_at dksX1_months_0 18 rfl rfl)
theorem dX1_months_21 : decode cX1_months 21 = .ok (.aload_n 0, 1) := dk_42 (dk_at dksX1_months_0 21 rfl rfl)
theorem dX1_months_22 : decode cX1_months 22 = .ok (.invokevirtual 433, 3) := dk_182 1 177 (dk_at dksX1_months_1 0 rfl rfl)
theorem dX1_months_25 : decode cX1_months 25 = .ok (.iinc 2 1, 3) := dk_132 2 1 (dk_at dksX1_months_1 3 rfl rfl)
theorem dX1_months_28 : decode cX1_months 28 = .ok (.goto (-16), 3) := dk_167 255 240 (dk_at dksX1_months_1 6 rfl rfl)
theorem dX1_months_31 : decode cX1_months 31 = .ok (.aload_n 0, 1) := dk_42 (dk_at dksX1_months_1 9 rfl rfl)
theorem dX1_months_32 : decode cX1_months 32 = .ok (.getfield 58, 3) := dk_180 0 58 (dk_at dksX1_months_1 10 rfl rfl)
theorem dX1_months_35 : decode cX1_months 35 = .ok (.bipush 33, 2) := dk_16 33 (dk_at dksX1_months_1 13 rfl rfl)
theorem dX1_months_37 : decode cX1_months 37 = .ok (.iaload, 1) := dk_46 (dk_at dksX1_months_1 15 rfl rfl)
theorem dX1_months_38 : decode cX1_months 38 = .ok (.ireturn, 1) := dk_172 (dk_at dksX1_months_1 16 rfl rfl)
abbrev cX1_canPass : ByteArray := prog_1_method_73_code
def yX1_canPass : MethodName := ⟨RX1, "canPass", "(I)Z"⟩
def dkwX1_canPass_1 : List UInt8 := [27, 96, 17, 3, 231, 163, 0, 7, 4, 167, 0, 4, 3, 172]
abbrev dktX1_canPass_1 : List UInt8 := dkwX1_canPass_1 ++ []
def dkwX1_canPass_0 : List UInt8 := [42, 182, 1, 128, 153, 0, 32, 27, 4, 16, 60, 184, 0, 246, 153, 0, 22, 42, 180, 0, 58, 16, 33, 46]
abbrev dktX1_canPass_0 : List UInt8 := dkwX1_canPass_0 ++ dktX1_canPass_1
theorem dksX1_canPass_0 : cX1_canPass.data.toList.drop 0 = dktX1_canPass_0 := by decide +kernel
theorem dksX1_canPass_1 : cX1_canPass.data.toList.drop 24 = dktX1_canPass_1 := dk_seg dksX1_canPass_0 24 rfl rfl
theorem dX1_canPass_0 : decode cX1_canPass 0 = .ok (.aload_n 0, 1) := dk_42 (dk_at dksX1_canPass_0 0 rfl rfl)
theorem dX1_canPass_1 : decode cX1_canPass 1 = .ok (.invokevirtual 384, 3) := dk_182 1 128 (dk_at dksX1_canPass_0 1 rfl rfl)
theorem dX1_canPass_4 : decode cX1_canPass 4 = .ok (.ifCond .eq 32, 3) := dk_153 0 32 (dk_at dksX1_canPass_0 4 rfl rfl)
theorem dX1_canPass_7 : decode cX1_canPass 7 = .ok (.iload_n 1, 1) := dk_27 (dk_at dksX1_canPass_0 7 rfl rfl)
theorem dX1_canPass_8 : decode cX1_canPass 8 = .ok (.iconst 1, 1) := dk_4 (dk_at dksX1_canPass_0 8 rfl rfl)
theorem dX1_canPass_9 : decode cX1_canPass 9 = .ok (.bipush 60, 2) := dk_16 60 (dk_at dksX1_canPass_0 9 rfl rfl)
theorem dX1_canPass_11 : decode cX1_canPass 11 = .ok (.invokestatic 246, 3) := dk_184 0 246 (dk_at dksX1_canPass_0 11 rfl rfl)
theorem dX1_canPass_14 : decode cX1_canPass 14 = .ok (.ifCond .eq 22, 3) := dk_153 0 22 (dk_at dksX1_canPass_0 14 rfl rfl)
theorem dX1_canPass_17 : decode cX1_canPass 17 = .ok (.aload_n 0, 1) := dk_42 (dk_at dksX1_canPass_0 17 rfl rfl)
theorem dX1_canPass_18 : decode cX1_canPass 18 = .ok (.getfield 58, 3) := dk_180 0 58 (dk_at dksX1_canPass_0 18 rfl rfl)
theorem dX1_canPass_21 : decode cX1_canPass 21 = .ok (.bipush 33, 2) := dk_16 33 (dk_at dksX1_canPass_0 21 rfl rfl)
theorem dX1_canPass_23 : decode cX1_canPass 23 = .ok (.iaload, 1) := dk_46 (dk_at dksX1_canPass_0 23 rfl rfl)
theorem dX1_canPass_24 : decode cX1_canPass 24 = .ok (.iload_n 1, 1) := dk_27 (dk_at dksX1_canPass_1 0 rfl rfl)
theorem dX1_canPass_25 : decode cX1_canPass 25 = .ok (.iadd, 1) := dk_96 (dk_at dksX1_canPass_1 1 rfl rfl)
theorem dX1_canPass_26 : decode cX1_canPass 26 = .ok (.sipush 999, 3) := dk_17 3 231 (dk_at dksX1_canPass_1 2 rfl rfl)
theorem dX1_canPass_29 : decode cX1_canPass 29 = .ok (.if_icmp .gt 7, 3) := dk_163 0 7 (dk_at dksX1_canPass_1 5 rfl rfl)
theorem dX1_canPass_32 : decode cX1_canPass 32 = .ok (.iconst 1, 1) := dk_4 (dk_at dksX1_canPass_1 8 rfl rfl)
theorem dX1_canPass_33 : decode cX1_canPass 33 = .ok (.goto 4, 3) := dk_167 0 4 (dk_at dksX1_canPass_1 9 rfl rfl)
theorem dX1_canPass_36 : decode cX1_canPass 36 = .ok (.iconst 0, 1) := dk_3 (dk_at dksX1_canPass_1 12 rfl rfl)
theorem dX1_canPass_37 : decode cX1_canPass 37 = .ok (.ireturn, 1) := dk_172 (dk_at dksX1_canPass_1 13 rfl rfl)
abbrev cX1_pass : ByteArray := prog_1_method_75_code
def yX1_pass : MethodName := ⟨RX1, "pass", "()V"⟩
def dkwX1_pass_3 : List UInt8 := [2, 79, 132, 1, 1, 167, 255, 199, 177]
abbrev dktX1_pass_3 : List UInt8 := dkwX1_pass_3 ++ []
def dkwX1_pass_2 : List UInt8 := [16, 33, 46, 42, 180, 0, 58, 28, 46, 100, 42, 180, 0, 33, 5, 46, 161, 0, 10, 42, 180, 0, 58, 28]
abbrev dktX1_pass_2 : List UInt8 := dkwX1_pass_2 ++ dktX1_pass_3
def dkwX1_pass_1 : List UInt8 := [162, 0, 55, 7, 27, 104, 6, 96, 61, 42, 180, 0, 58, 28, 46, 2, 159, 0, 33, 42, 180, 0, 58]
abbrev dktX1_pass_1 : List UInt8 := dkwX1_pass_1 ++ dktX1_pass_2
def dkwX1_pass_0 : List UInt8 := [42, 4, 182, 1, 171, 42, 180, 0, 58, 16, 33, 92, 46, 4, 96, 79, 3, 60, 27, 42, 182, 1, 84]
abbrev dktX1_pass_0 : List UInt8 := dkwX1_pass_0 ++ dktX1_pass_1
theorem dksX1_pass_0 : cX1_pass.data.toList.drop 0 = dktX1_pass_0 := by decide +kernel
theorem dksX1_pass_1 : cX1_pass.data.toList.drop 23 = dktX1_pass_1 := dk_seg dksX1_pass_0 23 rfl rfl
theorem dksX1_pass_2 : cX1_pass.data.toList.drop 46 = dktX1_pass_2 := dk_seg dksX1_pass_1 23 rfl rfl
theorem dksX1_pass_3 : cX1_pass.data.toList.drop 70 = dktX1_pass_3 := dk_seg dksX1_pass_2 24 rfl rfl
theorem dX1_pass_0 : decode cX1_pass 0 = .ok (.aload_n 0, 1) := dk_42 (dk_at dksX1_pass_0 0 rfl rfl)
theorem dX1_pass_1 : decode cX1_pass 1 = .ok (.iconst 1, 1) := dk_4 (dk_at dksX1_pass_0 1 rfl rfl)
theorem dX1_pass_2 : decode cX1_pass 2 = .ok (.invokevirtual 427, 3) := dk_182 1 171 (dk_at dksX1_pass_0 2 rfl rfl)
theorem dX1_pass_5 : decode cX1_pass 5 = .ok (.aload_n 0, 1) := dk_42 (dk_at dksX1_pass_0 5 rfl rfl)
theorem dX1_pass_6 : decode cX1_pass 6 = .ok (.getfield 58, 3) := dk_180 0 58 (dk_at dksX1_pass_0 6 rfl rfl)
theorem dX1_pass_9 : decode cX1_pass 9 = .ok (.bipush 33, 2) := dk_16 33 (dk_at dksX1_pass_0 9 rfl rfl)
theorem dX1_pass_11 : decode cX1_pass 11 = .ok (.dup2, 1) := dk_92 (dk_at dksX1_pass_0 11 rfl rfl)
theorem dX1_pass_12 : decode cX1_pass 12 = .ok (.iaload, 1) := dk_46 (dk_at dksX1_pass_0 12 rfl rfl)
theorem dX1_pass_13 : decode cX1_pass 13 = .ok (.iconst 1, 1) := dk_4 (dk_at dksX1_pass_0 13 rfl rfl)
theorem dX1_pass_14 : decode cX1_pass 14 = .ok (.iadd, 1) := dk_96 (dk_at dksX1_pass_0 14 rfl rfl)
theorem dX1_pass_15 : decode cX1_pass 15 = .ok (.iastore, 1) := dk_79 (dk_at dksX1_pass_0 15 rfl rfl)
theorem dX1_pass_16 : decode cX1_pass 16 = .ok (.iconst 0, 1) := dk_3 (dk_at dksX1_pass_0 16 rfl rfl)
theorem dX1_pass_17 : decode cX1_pass 17 = .ok (.istore_n 1, 1) := dk_60 (dk_at dksX1_pass_0 17 rfl rfl)
theorem dX1_pass_18 : decode cX1_pass 18 = .ok (.iload_n 1, 1) := dk_27 (dk_at dksX1_pass_0 18 rfl rfl)
theorem dX1_pass_19 : decode cX1_pass 19 = .ok (.aload_n 0, 1) := dk_42 (dk_at dksX1_pass_0 19 rfl rfl)
theorem dX1_pass_20 : decode cX1_pass 20 = .ok (.invokevirtual 340, 3) := dk_182 1 84 (dk_at dksX1_pass_0 20 rfl rfl)
theorem dX1_pass_23 : decode cX1_pass 23 = .ok (.if_icmp .ge 55, 3) := dk_162 0 55 (dk_at dksX1_pass_1 0 rfl rfl)
theorem dX1_pass_26 : decode cX1_pass 26 = .ok (.iconst 4, 1) := dk_7 (dk_at dksX1_pass_1 3 rfl rfl)
theorem dX1_pass_27 : decode cX1_pass 27 = .ok (.iload_n 1, 1) := dk_27 (dk_at dksX1_pass_1 4 rfl rfl)
theorem dX1_pass_28 : decode cX1_pass 28 = .ok (.imul, 1) := dk_104 (dk_at dksX1_pass_1 5 rfl rfl)
theorem dX1_pass_29 : decode cX1_pass 29 = .ok (.iconst 3, 1) := dk_6 (dk_at dksX1_pass_1 6 rfl rfl)
theorem dX1_pass_30 : decode cX1_pass 30 = .ok (.iadd, 1) := dk_96 (dk_at dksX1_pass_1 7 rfl rfl)
theorem dX1_pass_31 : decode cX1_pass 31 = .ok (.istore_n 2, 1) := dk_61 (dk_at dksX1_pass_1 8 rfl rfl)
theorem dX1_pass_32 : decode cX1_pass 32 = .ok (.aload_n 0, 1) := dk_42 (dk_at dksX1_pass_1 9 rfl rfl)
theorem dX1_pass_33 : decode cX1_pass 33 = .ok (.getfield 58, 3) := dk_180 0 58 (dk_at dksX1_pass_1 10 rfl rfl)
theorem dX1_pass_36 : decode cX1_pass 36 = .ok (.iload_n 2, 1) := dk_28 (dk_at dksX1_pass_1 13 rfl rfl)
theorem dX1_pass_37 : decode cX1_pass 37 = .ok (.iaload, 1) := dk_46 (dk_at dksX1_pass_1 14 rfl rfl)
theorem dX1_pass_38 : decode cX1_pass 38 = .ok (.iconst (-1), 1) := dk_2 (dk_at dksX1_pass_1 15 rfl rfl)
theorem dX1_pass_39 : decode cX1_pass 39 = .ok (.if_icmp .eq 33, 3) := dk_159 0 33 (dk_at dksX1_pass_1 16 rfl rfl)
theorem dX1_pass_42 : decode cX1_pass 42 = .ok (.aload_n 0, 1) := dk_42 (dk_at dksX1_pass_1 19 rfl rfl)
theorem dX1_pass_43 : decode cX1_pass 43 = .ok (.getfield 58, 3) := dk_180 0 58 (dk_at dksX1_pass_1 20 rfl rfl)
theorem dX1_pass_46 : decode cX1_pass 46 = .ok (.bipush 33, 2) := dk_16 33 (dk_at dksX1_pass_2 0 rfl rfl)
theorem dX1_pass_48 : decode cX1_pass 48 = .ok (.iaload, 1) := dk_46 (dk_at dksX1_pass_2 2 rfl rfl)
theorem dX1_pass_49 : decode cX1_pass 49 = .ok (.aload_n 0, 1) := dk_42 (dk_at dksX1_pass_2 3 rfl rfl)
theorem dX1_pass_50 : decode cX1_pass 50 = .ok (.getfield 58, 3) := dk_180 0 58 (dk_at dksX1_pass_2 4 rfl rfl)
theorem dX1_pass_53 : decode cX1_pass 53 = .ok (.iload_n 2, 1) := dk_28 (dk_at dksX1_pass_2 7 rfl rfl)
theorem dX1_pass_54 : decode cX1_pass 54 = .ok (.iaload, 1) := dk_46 (dk_at dksX1_pass_2 8 rfl rfl)
theorem dX1_pass_55 : decode cX1_pass 55 = .ok (.isub, 1) := dk_100 (dk_at dksX1_pass_2 9 rfl rfl)
theorem dX1_pass_56 : decode cX1_pass 56 = .ok (.aload_n 0, 1) := dk_42 (dk_at dksX1_pass_2 10 rfl rfl)
theorem dX1_pass_57 : decode cX1_pass 57 = .ok (.getfield 33, 3) := dk_180 0 33 (dk_at dksX1_pass_2 11 rfl rfl)
theorem dX1_pass_60 : decode cX1_pass 60 = .ok (.iconst 2, 1) := dk_5 (dk_at dksX1_pass_2 14 rfl rfl)
theorem dX1_pass_61 : decode cX1_pass 61 = .ok (.iaload, 1) := dk_46 (dk_at dksX1_pass_2 15 rfl rfl)
theorem dX1_pass_62 : decode cX1_pass 62 = .ok (.if_icmp .lt 10, 3) := dk_161 0 10 (dk_at dksX1_pass_2 16 rfl rfl)
theorem dX1_pass_65 : decode cX1_pass 65 = .ok (.aload_n 0, 1) := dk_42 (dk_at dksX1_pass_2 19 rfl rfl)
theorem dX1_pass_66 : decode cX1_pass 66 = .ok (.getfield 58, 3) := dk_180 0 58 (dk_at dksX1_pass_2 20 rfl rfl)
theorem dX1_pass_69 : decode cX1_pass 69 = .ok (.iload_n 2, 1) := dk_28 (dk_at dksX1_pass_2 23 rfl rfl)
theorem dX1_pass_70 : decode cX1_pass 70 = .ok (.iconst (-1), 1) := dk_2 (dk_at dksX1_pass_3 0 rfl rfl)
theorem dX1_pass_71 : decode cX1_pass 71 = .ok (.iastore, 1) := dk_79 (dk_at dksX1_pass_3 1 rfl rfl)
theorem dX1_pass_72 : decode cX1_pass 72 = .ok (.iinc 1 1, 3) := dk_132 1 1 (dk_at dksX1_pass_3 2 rfl rfl)
theorem dX1_pass_75 : decode cX1_pass 75 = .ok (.goto (-57), 3) := dk_167 255 199 (dk_at dksX1_pass_3 5 rfl rfl)
theorem dX1_pass_78 : decode cX1_pass 78 = .ok (.return_, 1) := dk_177 (dk_at dksX1_pass_3 8 rfl rfl)
abbrev cX1_older : ByteArray := prog_1_method_74_code
def yX1_older : MethodName := ⟨RX1, "older", "(I)V"⟩
def dkwX1_older_1 : List UInt8 := [180, 0, 58, 7, 28, 104, 5, 96, 46, 27, 96, 184, 1, 99, 79, 132, 2, 1, 167, 255, 218, 177]
abbrev dktX1_older_1 : List UInt8 := dkwX1_older_1 ++ []
def dkwX1_older_0 : List UInt8 := [3, 61, 28, 42, 182, 1, 84, 162, 0, 36, 42, 180, 0, 58, 7, 28, 104, 5, 96, 16, 99, 42]
abbrev dktX1_older_0 : List UInt8 := dkwX1_older_0 ++ dktX1_older_1
theorem dksX1_older_0 : cX1_older.data.toList.drop 0 = dktX1_older_0 := by decide +kernel
theorem dksX1_older_1 : cX1_older.data.toList.drop 22 = dktX1_older_1 := dk_seg dksX1_older_0 22 rfl rfl
theorem dX1_older_0 : decode cX1_older 0 = .ok (.iconst 0, 1) := dk_3 (dk_at dksX1_older_0 0 rfl rfl)
theorem dX1_older_1 : decode cX1_older 1 = .ok (.istore_n 2, 1) := dk_61 (dk_at dksX1_older_0 1 rfl rfl)
theorem dX1_older_2 : decode cX1_older 2 = .ok (.iload_n 2, 1) := dk_28 (dk_at dksX1_older_0 2 rfl rfl)
theorem dX1_older_3 : decode cX1_older 3 = .ok (.aload_n 0, 1) := dk_42 (dk_at dksX1_older_0 3 rfl rfl)
theorem dX1_older_4 : decode cX1_older 4 = .ok (.invokevirtual 340, 3) := dk_182 1 84 (dk_at dksX1_older_0 4 rfl rfl)
theorem dX1_older_7 : decode cX1_older 7 = .ok (.if_icmp .ge 36, 3) := dk_162 0 36 (dk_at dksX1_older_0 7 rfl rfl)
theorem dX1_older_10 : decode cX1_older 10 = .ok (.aload_n 0, 1) := dk_42 (dk_at dksX1_older_0 10 rfl rfl)
theorem dX1_older_11 : decode cX1_older 11 = .ok (.getfield 58, 3) := dk_180 0 58 (dk_at dksX1_older_0 11 rfl rfl)
theorem dX1_older_14 : decode cX1_older 14 = .ok (.iconst 4, 1) := dk_7 (dk_at dksX1_older_0 14 rfl rfl)
theorem dX1_older_15 : decode cX1_older 15 = .ok (.iload_n 2, 1) := dk_28 (dk_at dksX1_older_0 15 rfl rfl)
theorem dX1_older_16 : decode cX1_older 16 = .ok (.imul, 1) := dk_104 (dk_at dksX1_older_0 16 rfl rfl)
theorem dX1_older_17 : decode cX1_older 17 = .ok (.iconst 2, 1) := dk_5 (dk_at dksX1_older_0 17 rfl rfl)
theorem dX1_older_18 : decode cX1_older 18 = .ok (.iadd, 1) := dk_96 (dk_at dksX1_older_0 18 rfl rfl)
theorem dX1_older_19 : decode cX1_older 19 = .ok (.bipush 99, 2) := dk_16 99 (dk_at dksX1_older_0 19 rfl rfl)
theorem dX1_older_21 : decode cX1_older 21 = .ok (.aload_n 0, 1) := dk_42 (dk_at dksX1_older_0 21 rfl rfl)
theorem dX1_older_22 : decode cX1_older 22 = .ok (.getfield 58, 3) := dk_180 0 58 (dk_at dksX1_older_1 0 rfl rfl)
theorem dX1_older_25 : decode cX1_older 25 = .ok (.iconst 4, 1) := dk_7 (dk_at dksX1_older_1 3 rfl rfl)
theorem dX1_older_26 : decode cX1_older 26 = .ok (.iload_n 2, 1) := dk_28 (dk_at dksX1_older_1 4 rfl rfl)
theorem dX1_older_27 : decode cX1_older 27 = .ok (.imul, 1) := dk_104 (dk_at dksX1_older_1 5 rfl rfl)
theorem dX1_older_28 : decode cX1_older 28 = .ok (.iconst 2, 1) := dk_5 (dk_at dksX1_older_1 6 rfl rfl)
theorem dX1_older_29 : decode cX1_older 29 = .ok (.iadd, 1) := dk_96 (dk_at dksX1_older_1 7 rfl rfl)
theorem dX1_older_30 : decode cX1_older 30 = .ok (.iaload, 1) := dk_46 (dk_at dksX1_older_1 8 rfl rfl)
theorem dX1_older_31 : decode cX1_older 31 = .ok (.iload_n 1, 1) := dk_27 (dk_at dksX1_older_1 9 rfl rfl)
theorem dX1_older_32 : decode cX1_older 32 = .ok (.iadd, 1) := dk_96 (dk_at dksX1_older_1 10 rfl rfl)
theorem dX1_older_33 : decode cX1_older 33 = .ok (.invokestatic 355, 3) := dk_184 1 99 (dk_at dksX1_older_1 11 rfl rfl)
theorem dX1_older_36 : decode cX1_older 36 = .ok (.iastore, 1) := dk_79 (dk_at dksX1_older_1 14 rfl rfl)
theorem dX1_older_37 : decode cX1_older 37 = .ok (.iinc 2 1, 3) := dk_132 2 1 (dk_at dksX1_older_1 15 rfl rfl)
theorem dX1_older_40 : decode cX1_older 40 = .ok (.goto (-38), 3) := dk_167 255 218 (dk_at dksX1_older_1 18 rfl rfl)
theorem dX1_older_43 : decode cX1_older 43 = .ok (.return_, 1) := dk_177 (dk_at dksX1_older_1 21 rfl rfl)
abbrev cX1_off : ByteArray := prog_1_method_79_code
def yX1_off : MethodName := ⟨RX1, "off", "(I)I"⟩
def dkwX1_off_1 : List UInt8 := [182, 1, 171, 28, 172]
abbrev dktX1_off_1 : List UInt8 := dkwX1_off_1 ++ []
def dkwX1_off_0 : List UInt8 := [42, 27, 182, 1, 180, 154, 0, 5, 2, 172, 42, 182, 1, 155, 42, 27, 182, 1, 183, 61, 42, 28]
abbrev dktX1_off_0 : List UInt8 := dkwX1_off_0 ++ dktX1_off_1
theorem dksX1_off_0 : cX1_off.data.toList.drop 0 = dktX1_off_0 := by decide +kernel
theorem dksX1_off_1 : cX1_off.data.toList.drop 22 = dktX1_off_1 := dk_seg dksX1_off_0 22 rfl rfl
theorem dX1_off_0 : decode cX1_off 0 = .ok (.aload_n 0, 1) := dk_42 (dk_at dksX1_off_0 0 rfl rfl)
theorem dX1_off_1 : decode cX1_off 1 = .ok (.iload_n 1, 1) := dk_27 (dk_at dksX1_off_0 1 rfl rfl)
theorem dX1_off_2 : decode cX1_off 2 = .ok (.invokevirtual 436, 3) := dk_182 1 180 (dk_at dksX1_off_0 2 rfl rfl)
theorem dX1_off_5 : decode cX1_off 5 = .ok (.ifCond .ne 5, 3) := dk_154 0 5 (dk_at dksX1_off_0 5 rfl rfl)
theorem dX1_off_8 : decode cX1_off 8 = .ok (.iconst (-1), 1) := dk_2 (dk_at dksX1_off_0 8 rfl rfl)
theorem dX1_off_9 : decode cX1_off 9 = .ok (.ireturn, 1) := dk_172 (dk_at dksX1_off_0 9 rfl rfl)
theorem dX1_off_10 : decode cX1_off 10 = .ok (.aload_n 0, 1) := dk_42 (dk_at dksX1_off_0 10 rfl rfl)
theorem dX1_off_11 : decode cX1_off 11 = .ok (.invokevirtual 411, 3) := dk_182 1 155 (dk_at dksX1_off_0 11 rfl rfl)
theorem dX1_off_14 : decode cX1_off 14 = .ok (.aload_n 0, 1) := dk_42 (dk_at dksX1_off_0 14 rfl rfl)
theorem dX1_off_15 : decode cX1_off 15 = .ok (.iload_n 1, 1) := dk_27 (dk_at dksX1_off_0 15 rfl rfl)
theorem dX1_off_16 : decode cX1_off 16 = .ok (.invokevirtual 439, 3) := dk_182 1 183 (dk_at dksX1_off_0 16 rfl rfl)
theorem dX1_off_19 : decode cX1_off 19 = .ok (.istore_n 2, 1) := dk_61 (dk_at dksX1_off_0 19 rfl rfl)
theorem dX1_off_20 : decode cX1_off 20 = .ok (.aload_n 0, 1) := dk_42 (dk_at dksX1_off_0 20 rfl rfl)
theorem dX1_off_21 : decode cX1_off 21 = .ok (.iload_n 2, 1) := dk_28 (dk_at dksX1_off_0 21 rfl rfl)
theorem dX1_off_22 : decode cX1_off 22 = .ok (.invokevirtual 427, 3) := dk_182 1 171 (dk_at dksX1_off_1 0 rfl rfl)
theorem dX1_off_25 : decode cX1_off 25 = .ok (.iload_n 2, 1) := dk_28 (dk_at dksX1_off_1 3 rfl rfl)
theorem dX1_off_26 : decode cX1_off 26 = .ok (.ireturn, 1) := dk_172 (dk_at dksX1_off_1 4 rfl rfl)
abbrev cX1_isOff : ByteArray := prog_1_method_78_code
def yX1_isOff : MethodName := ⟨RX1, "isOff", "(I)Z"⟩
def dkwX1_isOff_0 : List UInt8 := [42, 182, 1, 128, 153, 0, 17, 27, 4, 16, 99, 184, 0, 246, 153, 0, 7, 4, 167, 0, 4, 3, 172]
abbrev dktX1_isOff_0 : List UInt8 := dkwX1_isOff_0 ++ []
theorem dksX1_isOff_0 : cX1_isOff.data.toList.drop 0 = dktX1_isOff_0 := by decide +kernel
theorem dX1_isOff_0 : decode cX1_isOff 0 = .ok (.aload_n 0, 1) := dk_42 (dk_at dksX1_isOff_0 0 rfl rfl)
theorem dX1_isOff_1 : decode cX1_isOff 1 = .ok (.invokevirtual 384, 3) := dk_182 1 128 (dk_at dksX1_isOff_0 1 rfl rfl)
theorem dX1_isOff_4 : decode cX1_isOff 4 = .ok (.ifCond .eq 17, 3) := dk_153 0 17 (dk_at dksX1_isOff_0 4 rfl rfl)
theorem dX1_isOff_7 : decode cX1_isOff 7 = .ok (.iload_n 1, 1) := dk_27 (dk_at dksX1_isOff_0 7 rfl rfl)
theorem dX1_isOff_8 : decode cX1_isOff 8 = .ok (.iconst 1, 1) := dk_4 (dk_at dksX1_isOff_0 8 rfl rfl)
theorem dX1_isOff_9 : decode cX1_isOff 9 = .ok (.bipush 99, 2) := dk_16 99 (dk_at dksX1_isOff_0 9 rfl rfl)
theorem dX1_isOff_11 : decode cX1_isOff 11 = .ok (.invokestatic 246, 3) := dk_184 0 246 (dk_at dksX1_isOff_0 11 rfl rfl)
theorem dX1_isOff_14 : decode cX1_isOff 14 = .ok (.ifCond .eq 7, 3) := dk_153 0 7 (dk_at dksX1_isOff_0 14 rfl rfl)
theorem dX1_isOff_17 : decode cX1_isOff 17 = .ok (.iconst 1, 1) := dk_4 (dk_at dksX1_isOff_0 17 rfl rfl)
theorem dX1_isOff_18 : decode cX1_isOff 18 = .ok (.goto 4, 3) := dk_167 0 4 (dk_at dksX1_isOff_0 18 rfl rfl)
theorem dX1_isOff_21 : decode cX1_isOff 21 = .ok (.iconst 0, 1) := dk_3 (dk_at dksX1_isOff_0 21 rfl rfl)
theorem dX1_isOff_22 : decode cX1_isOff 22 = .ok (.ireturn, 1) := dk_172 (dk_at dksX1_isOff_0 22 rfl rfl)
abbrev cX1_tooMany : ByteArray := prog_1_method_77_code
def yX1_tooMany : MethodName := ⟨RX1, "tooMany", "(I)I"⟩
def dkwX1_tooMany_1 : List UInt8 := [172]
abbrev dktX1_tooMany_1 : List UInt8 := dkwX1_tooMany_1 ++ []
def dkwX1_tooMany_0 : List UInt8 := [3, 27, 42, 180, 0, 33, 4, 46, 42, 182, 1, 149, 104, 42, 180, 0, 33, 3, 46, 108, 100, 184, 1, 104]
abbrev dktX1_tooMany_0 : List UInt8 := dkwX1_tooMany_0 ++ dktX1_tooMany_1
theorem dksX1_tooMany_0 : cX1_tooMany.data.toList.drop 0 = dktX1_tooMany_0 := by decide +kernel
theorem dksX1_tooMany_1 : cX1_tooMany.data.toList.drop 24 = dktX1_tooMany_1 := dk_seg dksX1_tooMany_0 24 rfl rfl
theorem dX1_tooMany_0 : decode cX1_tooMany 0 = .ok (.iconst 0, 1) := dk_3 (dk_at dksX1_tooMany_0 0 rfl rfl)
theorem dX1_tooMany_1 : decode cX1_tooMany 1 = .ok (.iload_n 1, 1) := dk_27 (dk_at dksX1_tooMany_0 1 rfl rfl)
theorem dX1_tooMany_2 : decode cX1_tooMany 2 = .ok (.aload_n 0, 1) := dk_42 (dk_at dksX1_tooMany_0 2 rfl rfl)
theorem dX1_tooMany_3 : decode cX1_tooMany 3 = .ok (.getfield 33, 3) := dk_180 0 33 (dk_at dksX1_tooMany_0 3 rfl rfl)
theorem dX1_tooMany_6 : decode cX1_tooMany 6 = .ok (.iconst 1, 1) := dk_4 (dk_at dksX1_tooMany_0 6 rfl rfl)
theorem dX1_tooMany_7 : decode cX1_tooMany 7 = .ok (.iaload, 1) := dk_46 (dk_at dksX1_tooMany_0 7 rfl rfl)
theorem dX1_tooMany_8 : decode cX1_tooMany 8 = .ok (.aload_n 0, 1) := dk_42 (dk_at dksX1_tooMany_0 8 rfl rfl)
theorem dX1_tooMany_9 : decode cX1_tooMany 9 = .ok (.invokevirtual 405, 3) := dk_182 1 149 (dk_at dksX1_tooMany_0 9 rfl rfl)
theorem dX1_tooMany_12 : decode cX1_tooMany 12 = .ok (.imul, 1) := dk_104 (dk_at dksX1_tooMany_0 12 rfl rfl)
theorem dX1_tooMany_13 : decode cX1_tooMany 13 = .ok (.aload_n 0, 1) := dk_42 (dk_at dksX1_tooMany_0 13 rfl rfl)
theorem dX1_tooMany_14 : decode cX1_tooMany 14 = .ok (.getfield 33, 3) := dk_180 0 33 (dk_at dksX1_tooMany_0 14 rfl rfl)
theorem dX1_tooMany_17 : decode cX1_tooMany 17 = .ok (.iconst 0, 1) := dk_3 (dk_at dksX1_tooMany_0 17 rfl rfl)
theorem dX1_tooMany_18 : decode cX1_tooMany 18 = .ok (.iaload, 1) := dk_46 (dk_at dksX1_tooMany_0 18 rfl rfl)
theorem dX1_tooMany_19 : decode cX1_tooMany 19 = .ok (.idiv, 1) := dk_108 (dk_at dksX1_tooMany_0 19 rfl rfl)
theorem dX1_tooMany_20 : decode cX1_tooMany 20 = .ok (.isub, 1) := dk_100 (dk_at dksX1_tooMany_0 20 rfl rfl)
theorem dX1_tooMany_21 : decode cX1_tooMany 21 = .ok (.invokestatic 360, 3) := dk_184 1 104 (dk_at dksX1_tooMany_0 21 rfl rfl)
theorem dX1_tooMany_24 : decode cX1_tooMany 24 = .ok (.ireturn, 1) := dk_172 (dk_at dksX1_tooMany_1 0 rfl rfl)
abbrev cX1_years : ByteArray := prog_1_method_81_code
def yX1_years : MethodName := ⟨RX1, "years", "(IJ)I"⟩
def dkwX1_years_5 : List UInt8 := [100, 182, 1, 162, 87, 42, 182, 1, 177, 132, 4, 1, 167, 255, 144, 42, 180, 0, 58, 16, 33, 46, 172]
abbrev dktX1_years_5 : List UInt8 := dkwX1_years_5 ++ []
def dkwX1_years_4 : List UInt8 := [54, 8, 42, 182, 1, 84, 158, 0, 23, 42, 21, 8, 154, 0, 7, 3, 167, 0, 9, 42, 182, 1, 84, 4]
abbrev dktX1_years_4 : List UInt8 := dkwX1_years_4 ++ dktX1_years_5
def dkwX1_years_3 : List UInt8 := [21, 6, 182, 1, 152, 153, 0, 13, 42, 21, 5, 21, 6, 21, 7, 182, 1, 158, 42, 5, 182, 1, 194]
abbrev dktX1_years_3 : List UInt8 := dkwX1_years_3 ++ dktX1_years_4
def dkwX1_years_2 : List UInt8 := [42, 16, 10, 182, 1, 194, 42, 180, 0, 55, 162, 0, 7, 4, 167, 0, 4, 3, 54, 7, 42, 21, 5]
abbrev dktX1_years_2 : List UInt8 := dkwX1_years_2 ++ dktX1_years_3
def dkwX1_years_1 : List UInt8 := [42, 182, 1, 155, 42, 42, 180, 1, 68, 182, 1, 194, 54, 5, 42, 16, 9, 182, 1, 194, 4, 96, 54, 6]
abbrev dktX1_years_1 : List UInt8 := dkwX1_years_1 ++ dktX1_years_2
def dkwX1_years_0 : List UInt8 := [42, 27, 182, 1, 174, 154, 0, 5, 2, 172, 42, 32, 181, 1, 186, 3, 54, 4, 21, 4, 27, 162, 0, 112]
abbrev dktX1_years_0 : List UInt8 := dkwX1_years_0 ++ dktX1_years_1
theorem dksX1_years_0 : cX1_years.data.toList.drop 0 = dktX1_years_0 := by decide +kernel
theorem dksX1_years_1 : cX1_years.data.toList.drop 24 = dktX1_years_1 := dk_seg dksX1_years_0 24 rfl rfl
theorem dksX1_years_2 : cX1_years.data.toList.drop 48 = dktX1_years_2 := dk_seg dksX1_years_1 24 rfl rfl
theorem dksX1_years_3 : cX1_years.data.toList.drop 71 = dktX1_years_3 := dk_seg dksX1_years_2 23 rfl rfl
theorem dksX1_years_4 : cX1_years.data.toList.drop 94 = dktX1_years_4 := dk_seg dksX1_years_3 23 rfl rfl
theorem dksX1_years_5 : cX1_years.data.toList.drop 118 = dktX1_years_5 := dk_seg dksX1_years_4 24 rfl rfl
theorem dX1_years_0 : decode cX1_years 0 = .ok (.aload_n 0, 1) := dk_42 (dk_at dksX1_years_0 0 rfl rfl)
theorem dX1_years_1 : decode cX1_years 1 = .ok (.iload_n 1, 1) := dk_27 (dk_at dksX1_years_0 1 rfl rfl)
theorem dX1_years_2 : decode cX1_years 2 = .ok (.invokevirtual 430, 3) := dk_182 1 174 (dk_at dksX1_years_0 2 rfl rfl)
theorem dX1_years_5 : decode cX1_years 5 = .ok (.ifCond .ne 5, 3) := dk_154 0 5 (dk_at dksX1_years_0 5 rfl rfl)
theorem dX1_years_8 : decode cX1_years 8 = .ok (.iconst (-1), 1) := dk_2 (dk_at dksX1_years_0 8 rfl rfl)
theorem dX1_years_9 : decode cX1_years 9 = .ok (.ireturn, 1) := dk_172 (dk_at dksX1_years_0 9 rfl rfl)
theorem dX1_years_10 : decode cX1_years 10 = .ok (.aload_n 0, 1) := dk_42 (dk_at dksX1_years_0 10 rfl rfl)
theorem dX1_years_11 : decode cX1_years 11 = .ok (.lload_n 2, 1) := dk_32 (dk_at dksX1_years_0 11 rfl rfl)
theorem dX1_years_12 : decode cX1_years 12 = .ok (.putfield 442, 3) := dk_181 1 186 (dk_at dksX1_years_0 12 rfl rfl)
theorem dX1_years_15 : decode cX1_years 15 = .ok (.iconst 0, 1) := dk_3 (dk_at dksX1_years_0 15 rfl rfl)
theorem dX1_years_16 : decode cX1_years 16 = .ok (.istore 4, 2) := dk_54 4 (dk_at dksX1_years_0 16 rfl rfl)
theorem dX1_years_18 : decode cX1_years 18 = .ok (.iload 4, 2) := dk_21 4 (dk_at dksX1_years_0 18 rfl rfl)
theorem dX1_years_20 : decode cX1_years 20 = .ok (.iload_n 1, 1) := dk_27 (dk_at dksX1_years_0 20 rfl rfl)
theorem dX1_years_21 : decode cX1_years 21 = .ok (.if_icmp .ge 112, 3) := dk_162 0 112 (dk_at dksX1_years_0 21 rfl rfl)
theorem dX1_years_24 : decode cX1_years 24 = .ok (.aload_n 0, 1) := dk_42 (dk_at dksX1_years_1 0 rfl rfl)
theorem dX1_years_25 : decode cX1_years 25 = .ok (.invokevirtual 411, 3) := dk_182 1 155 (dk_at dksX1_years_1 1 rfl rfl)
theorem dX1_years_28 : decode cX1_years 28 = .ok (.aload_n 0, 1) := dk_42 (dk_at dksX1_years_1 4 rfl rfl)
theorem dX1_years_29 : decode cX1_years 29 = .ok (.aload_n 0, 1) := dk_42 (dk_at dksX1_years_1 5 rfl rfl)
theorem dX1_years_30 : decode cX1_years 30 = .ok (.getfield 324, 3) := dk_180 1 68 (dk_at dksX1_years_1 6 rfl rfl)
theorem dX1_years_33 : decode cX1_years 33 = .ok (.invokevirtual 450, 3) := dk_182 1 194 (dk_at dksX1_years_1 9 rfl rfl)
theorem dX1_years_36 : decode cX1_years 36 = .ok (.istore 5, 2) := dk_54 5 (dk_at dksX1_years_1 12 rfl rfl)
theorem dX1_years_38 : decode cX1_years 38 = .ok (.aload_n 0, 1) := dk_42 (dk_at dksX1_years_1 14 rfl rfl)
theorem dX1_years_39 : decode cX1_years 39 = .ok (.bipush 9, 2) := dk_16 9 (dk_at dksX1_years_1 15 rfl rfl)
theorem dX1_years_41 : decode cX1_years 41 = .ok (.invokevirtual 450, 3) := dk_182 1 194 (dk_at dksX1_years_1 17 rfl rfl)
theorem dX1_years_44 : decode cX1_years 44 = .ok (.iconst 1, 1) := dk_4 (dk_at dksX1_years_1 20 rfl rfl)
theorem dX1_years_45 : decode cX1_years 45 = .ok (.iadd, 1) := dk_96 (dk_at dksX1_years_1 21 rfl rfl)
theorem dX1_years_46 : decode cX1_years 46 = .ok (.istore 6, 2) := dk_54 6 (dk_at dksX1_years_1 22 rfl rfl)
theorem dX1_years_48 : decode cX1_years 48 = .ok (.aload_n 0, 1) := dk_42 (dk_at dksX1_years_2 0 rfl rfl)
theorem dX1_years_49 : decode cX1_years 49 = .ok (.bipush 10, 2) := dk_16 10 (dk_at dksX1_years_2 1 rfl rfl)
theorem dX1_years_51 : decode cX1_years 51 = .ok (.invokevirtual 450, 3) := dk_182 1 194 (dk_at dksX1_years_2 3 rfl rfl)
theorem dX1_years_54 : decode cX1_years 54 = .ok (.aload_n 0, 1) := dk_42 (dk_at dksX1_years_2 6 rfl rfl)
theorem dX1_years_55 : decode cX1_years 55 = .ok (.getfield 55, 3) := dk_180 0 55 (dk_at dksX1_years_2 7 rfl rfl)
theorem dX1_years_58 : decode cX1_years 58 = .ok (.if_icmp .ge 7, 3) := dk_162 0 7 (dk_at dksX1_years_2 10 rfl rfl)
theorem dX1_years_61 : decode cX1_years 61 = .ok (.iconst 1, 1) := dk_4 (dk_at dksX1_years_2 13 rfl rfl)
theorem dX1_years_62 : decode cX1_years 62 = .ok (.goto 4, 3) := dk_167 0 4 (dk_at dksX1_years_2 14 rfl rfl)
theorem dX1_years_65 : decode cX1_years 65 = .ok (.iconst 0, 1) := dk_3 (dk_at dksX1_years_2 17 rfl rfl)
theorem dX1_years_66 : decode cX1_years 66 = .ok (.istore 7, 2) := dk_54 7 (dk_at dksX1_years_2 18 rfl rfl)
theorem dX1_years_68 : decode cX1_years 68 = .ok (.aload_n 0, 1) := dk_42 (dk_at dksX1_years_2 20 rfl rfl)
theorem dX1_years_69 : decode cX1_years 69 = .ok (.iload 5, 2) := dk_21 5 (dk_at dksX1_years_2 21 rfl rfl)
theorem dX1_years_71 : decode cX1_years 71 = .ok (.iload 6, 2) := dk_21 6 (dk_at dksX1_years_3 0 rfl rfl)
theorem dX1_years_73 : decode cX1_years 73 = .ok (.invokevirtual 408, 3) := dk_182 1 152 (dk_at dksX1_years_3 2 rfl rfl)
theorem dX1_years_76 : decode cX1_years 76 = .ok (.ifCond .eq 13, 3) := dk_153 0 13 (dk_at dksX1_years_3 5 rfl rfl)
theorem dX1_years_79 : decode cX1_years 79 = .ok (.aload_n 0, 1) := dk_42 (dk_at dksX1_years_3 8 rfl rfl)
theorem dX1_years_80 : decode cX1_years 80 = .ok (.iload 5, 2) := dk_21 5 (dk_at dksX1_years_3 9 rfl rfl)
theorem dX1_years_82 : decode cX1_years 82 = .ok (.iload 6, 2) := dk_21 6 (dk_at dksX1_years_3 11 rfl rfl)
theorem dX1_years_84 : decode cX1_years 84 = .ok (.iload 7, 2) := dk_21 7 (dk_at dksX1_years_3 13 rfl rfl)
theorem dX1_years_86 : decode cX1_years 86 = .ok (.invokevirtual 414, 3) := dk_182 1 158 (dk_at dksX1_years_3 15 rfl rfl)
theorem dX1_years_89 : decode cX1_years 89 = .ok (.aload_n 0, 1) := dk_42 (dk_at dksX1_years_3 18 rfl rfl)
theorem dX1_years_90 : decode cX1_years 90 = .ok (.iconst 2, 1) := dk_5 (dk_at dksX1_years_3 19 rfl rfl)
theorem dX1_years_91 : decode cX1_years 91 = .ok (.invokevirtual 450, 3) := dk_182 1 194 (dk_at dksX1_years_3 20 rfl rfl)
theorem dX1_years_94 : decode cX1_years 94 = .ok (.istore 8, 2) := dk_54 8 (dk_at dksX1_years_4 0 rfl rfl)
theorem dX1_years_96 : decode cX1_years 96 = .ok (.aload_n 0, 1) := dk_42 (dk_at dksX1_years_4 2 rfl rfl)
theorem dX1_years_97 : decode cX1_years 97 = .ok (.invokevirtual 340, 3) := dk_182 1 84 (dk_at dksX1_years_4 3 rfl rfl)
theorem dX1_years_100 : decode cX1_years 100 = .ok (.ifCond .le 23, 3) := dk_158 0 23 (dk_at dksX1_years_4 6 rfl rfl)
theorem dX1_years_103 : decode cX1_years 103 = .ok (.aload_n 0, 1) := dk_42 (dk_at dksX1_years_4 9 rfl rfl)
theorem dX1_years_104 : decode cX1_years 104 = .ok (.iload 8, 2) := dk_21 8 (dk_at dksX1_years_4 10 rfl rfl)
theorem dX1_years_106 : decode cX1_years 106 = .ok (.ifCond .ne 7, 3) := dk_154 0 7 (dk_at dksX1_years_4 12 rfl rfl)
theorem dX1_years_109 : decode cX1_years 109 = .ok (.iconst 0, 1) := dk_3 (dk_at dksX1_years_4 15 rfl rfl)
theorem dX1_years_110 : decode cX1_years 110 = .ok (.goto 9, 3) := dk_167 0 9 (dk_at dksX1_years_4 16 rfl rfl)
theorem dX1_years_113 : decode cX1_years 113 = .ok (.aload_n 0, 1) := dk_42 (dk_at dksX1_years_4 19 rfl rfl)
theorem dX1_years_114 : decode cX1_years 114 = .ok (.invokevirtual 340, 3) := dk_182 1 84 (dk_at dksX1_years_4 20 rfl rfl)
theorem dX1_years_117 : decode cX1_years 117 = .ok (.iconst 1, 1) := dk_4 (dk_at dksX1_years_4 23 rfl rfl)
theorem dX1_years_118 : decode cX1_years 118 = .ok (.isub, 1) := dk_100 (dk_at dksX1_years_5 0 rfl rfl)
theorem dX1_years_119 : decode cX1_years 119 = .ok (.invokevirtual 418, 3) := dk_182 1 162 (dk_at dksX1_years_5 1 rfl rfl)
theorem dX1_years_122 : decode cX1_years 122 = .ok (.pop, 1) := dk_87 (dk_at dksX1_years_5 4 rfl rfl)
theorem dX1_years_123 : decode cX1_years 123 = .ok (.aload_n 0, 1) := dk_42 (dk_at dksX1_years_5 5 rfl rfl)
theorem dX1_years_124 : decode cX1_years 124 = .ok (.invokevirtual 433, 3) := dk_182 1 177 (dk_at dksX1_years_5 6 rfl rfl)
theorem dX1_years_127 : decode cX1_years 127 = .ok (.iinc 4 1, 3) := dk_132 4 1 (dk_at dksX1_years_5 9 rfl rfl)
theorem dX1_years_130 : decode cX1_years 130 = .ok (.goto (-112), 3) := dk_167 255 144 (dk_at dksX1_years_5 12 rfl rfl)
theorem dX1_years_133 : decode cX1_years 133 = .ok (.aload_n 0, 1) := dk_42 (dk_at dksX1_years_5 15 rfl rfl)
theorem dX1_years_134 : decode cX1_years 134 = .ok (.getfield 58, 3) := dk_180 0 58 (dk_at dksX1_years_5 16 rfl rfl)
theorem dX1_years_137 : decode cX1_years 137 = .ok (.bipush 33, 2) := dk_16 33 (dk_at dksX1_years_5 19 rfl rfl)
theorem dX1_years_139 : decode cX1_years 139 = .ok (.iaload, 1) := dk_46 (dk_at dksX1_years_5 21 rfl rfl)
theorem dX1_years_140 : decode cX1_years 140 = .ok (.ireturn, 1) := dk_172 (dk_at dksX1_years_5 22 rfl rfl)
abbrev cX1_draw : ByteArray := prog_1_method_80_code
def yX1_draw : MethodName := ⟨RX1, "draw", "(I)I"⟩
def dkwX1_draw_1 : List UInt8 := [133, 113, 136, 172]
abbrev dktX1_draw_1 : List UInt8 := dkwX1_draw_1 ++ []
def dkwX1_draw_0 : List UInt8 := [42, 42, 180, 1, 186, 20, 1, 190, 105, 20, 1, 192, 97, 181, 1, 186, 42, 180, 1, 186, 16, 33, 125, 27]
abbrev dktX1_draw_0 : List UInt8 := dkwX1_draw_0 ++ dktX1_draw_1
theorem dksX1_draw_0 : cX1_draw.data.toList.drop 0 = dktX1_draw_0 := by decide +kernel
theorem dksX1_draw_1 : cX1_draw.data.toList.drop 24 = dktX1_draw_1 := dk_seg dksX1_draw_0 24 rfl rfl
theorem dX1_draw_0 : decode cX1_draw 0 = .ok (.aload_n 0, 1) := dk_42 (dk_at dksX1_draw_0 0 rfl rfl)
theorem dX1_draw_1 : decode cX1_draw 1 = .ok (.aload_n 0, 1) := dk_42 (dk_at dksX1_draw_0 1 rfl rfl)
theorem dX1_draw_2 : decode cX1_draw 2 = .ok (.getfield 442, 3) := dk_180 1 186 (dk_at dksX1_draw_0 2 rfl rfl)
theorem dX1_draw_5 : decode cX1_draw 5 = .ok (.ldc2_w 446, 3) := dk_20 1 190 (dk_at dksX1_draw_0 5 rfl rfl)
theorem dX1_draw_8 : decode cX1_draw 8 = .ok (.lmul, 1) := dk_105 (dk_at dksX1_draw_0 8 rfl rfl)
theorem dX1_draw_9 : decode cX1_draw 9 = .ok (.ldc2_w 448, 3) := dk_20 1 192 (dk_at dksX1_draw_0 9 rfl rfl)
theorem dX1_draw_12 : decode cX1_draw 12 = .ok (.ladd, 1) := dk_97 (dk_at dksX1_draw_0 12 rfl rfl)
theorem dX1_draw_13 : decode cX1_draw 13 = .ok (.putfield 442, 3) := dk_181 1 186 (dk_at dksX1_draw_0 13 rfl rfl)
theorem dX1_draw_16 : decode cX1_draw 16 = .ok (.aload_n 0, 1) := dk_42 (dk_at dksX1_draw_0 16 rfl rfl)
theorem dX1_draw_17 : decode cX1_draw 17 = .ok (.getfield 442, 3) := dk_180 1 186 (dk_at dksX1_draw_0 17 rfl rfl)
theorem dX1_draw_20 : decode cX1_draw 20 = .ok (.bipush 33, 2) := dk_16 33 (dk_at dksX1_draw_0 20 rfl rfl)
theorem dX1_draw_22 : decode cX1_draw 22 = .ok (.lushr, 1) := dk_125 (dk_at dksX1_draw_0 22 rfl rfl)
theorem dX1_draw_23 : decode cX1_draw 23 = .ok (.iload_n 1, 1) := dk_27 (dk_at dksX1_draw_0 23 rfl rfl)
theorem dX1_draw_24 : decode cX1_draw 24 = .ok (.i2l, 1) := dk_133 (dk_at dksX1_draw_1 0 rfl rfl)
theorem dX1_draw_25 : decode cX1_draw 25 = .ok (.lrem, 1) := dk_113 (dk_at dksX1_draw_1 1 rfl rfl)
theorem dX1_draw_26 : decode cX1_draw 26 = .ok (.l2i, 1) := dk_136 (dk_at dksX1_draw_1 2 rfl rfl)
theorem dX1_draw_27 : decode cX1_draw 27 = .ok (.ireturn, 1) := dk_172 (dk_at dksX1_draw_1 3 rfl rfl)
abbrev cX1_undo : ByteArray := prog_1_method_82_code
def yX1_undo : MethodName := ⟨RX1, "undo", "()I"⟩
def dkwX1_undo_2 : List UInt8 := [96, 46, 79, 132, 1, 1, 167, 255, 225, 42, 180, 1, 77, 172]
abbrev dktX1_undo_2 : List UInt8 := dkwX1_undo_2 ++ []
def dkwX1_undo_1 : List UInt8 := [17, 1, 19, 162, 0, 30, 42, 180, 0, 58, 27, 42, 180, 0, 61, 17, 1, 19, 42, 180, 1, 77, 104, 27]
abbrev dktX1_undo_1 : List UInt8 := dkwX1_undo_1 ++ dktX1_undo_2
def dkwX1_undo_0 : List UInt8 := [42, 180, 1, 77, 154, 0, 5, 2, 172, 42, 89, 180, 1, 77, 4, 100, 181, 1, 77, 3, 60, 27]
abbrev dktX1_undo_0 : List UInt8 := dkwX1_undo_0 ++ dktX1_undo_1
theorem dksX1_undo_0 : cX1_undo.data.toList.drop 0 = dktX1_undo_0 := by decide +kernel
theorem dksX1_undo_1 : cX1_undo.data.toList.drop 22 = dktX1_undo_1 := dk_seg dksX1_undo_0 22 rfl rfl
theorem dksX1_undo_2 : cX1_undo.data.toList.drop 46 = dktX1_undo_2 := dk_seg dksX1_undo_1 24 rfl rfl
theorem dX1_undo_0 : decode cX1_undo 0 = .ok (.aload_n 0, 1) := dk_42 (dk_at dksX1_undo_0 0 rfl rfl)
theorem dX1_undo_1 : decode cX1_undo 1 = .ok (.getfield 333, 3) := dk_180 1 77 (dk_at dksX1_undo_0 1 rfl rfl)
theorem dX1_undo_4 : decode cX1_undo 4 = .ok (.ifCond .ne 5, 3) := dk_154 0 5 (dk_at dksX1_undo_0 4 rfl rfl)
theorem dX1_undo_7 : decode cX1_undo 7 = .ok (.iconst (-1), 1) := dk_2 (dk_at dksX1_undo_0 7 rfl rfl)
theorem dX1_undo_8 : decode cX1_undo 8 = .ok (.ireturn, 1) := dk_172 (dk_at dksX1_undo_0 8 rfl rfl)
theorem dX1_undo_9 : decode cX1_undo 9 = .ok (.aload_n 0, 1) := dk_42 (dk_at dksX1_undo_0 9 rfl rfl)
theorem dX1_undo_10 : decode cX1_undo 10 = .ok (.dup, 1) := dk_89 (dk_at dksX1_undo_0 10 rfl rfl)
theorem dX1_undo_11 : decode cX1_undo 11 = .ok (.getfield 333, 3) := dk_180 1 77 (dk_at dksX1_undo_0 11 rfl rfl)
theorem dX1_undo_14 : decode cX1_undo 14 = .ok (.iconst 1, 1) := dk_4 (dk_at dksX1_undo_0 14 rfl rfl)
theorem dX1_undo_15 : decode cX1_undo 15 = .ok (.isub, 1) := dk_100 (dk_at dksX1_undo_0 15 rfl rfl)
theorem dX1_undo_16 : decode cX1_undo 16 = .ok (.putfield 333, 3) := dk_181 1 77 (dk_at dksX1_undo_0 16 rfl rfl)
theorem dX1_undo_19 : decode cX1_undo 19 = .ok (.iconst 0, 1) := dk_3 (dk_at dksX1_undo_0 19 rfl rfl)
theorem dX1_undo_20 : decode cX1_undo 20 = .ok (.istore_n 1, 1) := dk_60 (dk_at dksX1_undo_0 20 rfl rfl)
theorem dX1_undo_21 : decode cX1_undo 21 = .ok (.iload_n 1, 1) := dk_27 (dk_at dksX1_undo_0 21 rfl rfl)
theorem dX1_undo_22 : decode cX1_undo 22 = .ok (.sipush 275, 3) := dk_17 1 19 (dk_at dksX1_undo_1 0 rfl rfl)
theorem dX1_undo_25 : decode cX1_undo 25 = .ok (.if_icmp .ge 30, 3) := dk_162 0 30 (dk_at dksX1_undo_1 3 rfl rfl)
theorem dX1_undo_28 : decode cX1_undo 28 = .ok (.aload_n 0, 1) := dk_42 (dk_at dksX1_undo_1 6 rfl rfl)
theorem dX1_undo_29 : decode cX1_undo 29 = .ok (.getfield 58, 3) := dk_180 0 58 (dk_at dksX1_undo_1 7 rfl rfl)
theorem dX1_undo_32 : decode cX1_undo 32 = .ok (.iload_n 1, 1) := dk_27 (dk_at dksX1_undo_1 10 rfl rfl)
theorem dX1_undo_33 : decode cX1_undo 33 = .ok (.aload_n 0, 1) := dk_42 (dk_at dksX1_undo_1 11 rfl rfl)
theorem dX1_undo_34 : decode cX1_undo 34 = .ok (.getfield 61, 3) := dk_180 0 61 (dk_at dksX1_undo_1 12 rfl rfl)
theorem dX1_undo_37 : decode cX1_undo 37 = .ok (.sipush 275, 3) := dk_17 1 19 (dk_at dksX1_undo_1 15 rfl rfl)
theorem dX1_undo_40 : decode cX1_undo 40 = .ok (.aload_n 0, 1) := dk_42 (dk_at dksX1_undo_1 18 rfl rfl)
theorem dX1_undo_41 : decode cX1_undo 41 = .ok (.getfield 333, 3) := dk_180 1 77 (dk_at dksX1_undo_1 19 rfl rfl)
theorem dX1_undo_44 : decode cX1_undo 44 = .ok (.imul, 1) := dk_104 (dk_at dksX1_undo_1 22 rfl rfl)
theorem dX1_undo_45 : decode cX1_undo 45 = .ok (.iload_n 1, 1) := dk_27 (dk_at dksX1_undo_1 23 rfl rfl)
theorem dX1_undo_46 : decode cX1_undo 46 = .ok (.iadd, 1) := dk_96 (dk_at dksX1_undo_2 0 rfl rfl)
theorem dX1_undo_47 : decode cX1_undo 47 = .ok (.iaload, 1) := dk_46 (dk_at dksX1_undo_2 1 rfl rfl)
theorem dX1_undo_48 : decode cX1_undo 48 = .ok (.iastore, 1) := dk_79 (dk_at dksX1_undo_2 2 rfl rfl)
theorem dX1_undo_49 : decode cX1_undo 49 = .ok (.iinc 1 1, 3) := dk_132 1 1 (dk_at dksX1_undo_2 3 rfl rfl)
theorem dX1_undo_52 : decode cX1_undo 52 = .ok (.goto (-31), 3) := dk_167 255 225 (dk_at dksX1_undo_2 6 rfl rfl)
theorem dX1_undo_55 : decode cX1_undo 55 = .ok (.aload_n 0, 1) := dk_42 (dk_at dksX1_undo_2 9 rfl rfl)
theorem dX1_undo_56 : decode cX1_undo 56 = .ok (.getfield 333, 3) := dk_180 1 77 (dk_at dksX1_undo_2 10 rfl rfl)
theorem dX1_undo_59 : decode cX1_undo 59 = .ok (.ireturn, 1) := dk_172 (dk_at dksX1_undo_2 13 rfl rfl)
abbrev cX1_log : ByteArray := prog_1_method_83_code
def yX1_log : MethodName := ⟨RX1, "log", "(II)I"⟩
def dkwX1_log_2 : List UInt8 := [96, 46, 167, 0, 4, 2, 172]
abbrev dktX1_log_2 : List UInt8 := dkwX1_log_2 ++ []
def dkwX1_log_1 : List UInt8 := [153, 0, 29, 42, 180, 0, 58, 16, 35, 7, 42, 180, 0, 58, 16, 34, 46, 4, 100, 27, 100, 104, 96, 28]
abbrev dktX1_log_1 : List UInt8 := dkwX1_log_1 ++ dktX1_log_2
def dkwX1_log_0 : List UInt8 := [27, 3, 42, 180, 0, 58, 16, 34, 46, 4, 100, 184, 0, 246, 153, 0, 38, 28, 3, 6, 184, 0, 246]
abbrev dktX1_log_0 : List UInt8 := dkwX1_log_0 ++ dktX1_log_1
theorem dksX1_log_0 : cX1_log.data.toList.drop 0 = dktX1_log_0 := by decide +kernel
theorem dksX1_log_1 : cX1_log.data.toList.drop 23 = dktX1_log_1 := dk_seg dksX1_log_0 23 rfl rfl
theorem dksX1_log_2 : cX1_log.data.toList.drop 47 = dktX1_log_2 := dk_seg dksX1_log_1 24 rfl rfl
theorem dX1_log_0 : decode cX1_log 0 = .ok (.iload_n 1, 1) := dk_27 (dk_at dksX1_log_0 0 rfl rfl)
theorem dX1_log_1 : decode cX1_log 1 = .ok (.iconst 0, 1) := dk_3 (dk_at dksX1_log_0 1 rfl rfl)
theorem dX1_log_2 : decode cX1_log 2 = .ok (.aload_n 0, 1) := dk_42 (dk_at dksX1_log_0 2 rfl rfl)
theorem dX1_log_3 : decode cX1_log 3 = .ok (.getfield 58, 3) := dk_180 0 58 (dk_at dksX1_log_0 3 rfl rfl)
theorem dX1_log_6 : decode cX1_log 6 = .ok (.bipush 34, 2) := dk_16 34 (dk_at dksX1_log_0 6 rfl rfl)
theorem dX1_log_8 : decode cX1_log 8 = .ok (.iaload, 1) := dk_46 (dk_at dksX1_log_0 8 rfl rfl)
theorem dX1_log_9 : decode cX1_log 9 = .ok (.iconst 1, 1) := dk_4 (dk_at dksX1_log_0 9 rfl rfl)
theorem dX1_log_10 : decode cX1_log 10 = .ok (.isub, 1) := dk_100 (dk_at dksX1_log_0 10 rfl rfl)
theorem dX1_log_11 : decode cX1_log 11 = .ok (.invokestatic 246, 3) := dk_184 0 246 (dk_at dksX1_log_0 11 rfl rfl)
theorem dX1_log_14 : decode cX1_log 14 = .ok (.ifCond .eq 38, 3) := dk_153 0 38 (dk_at dksX1_log_0 14 rfl rfl)
theorem dX1_log_17 : decode cX1_log 17 = .ok (.iload_n 2, 1) := dk_28 (dk_at dksX1_log_0 17 rfl rfl)
theorem dX1_log_18 : decode cX1_log 18 = .ok (.iconst 0, 1) := dk_3 (dk_at dksX1_log_0 18 rfl rfl)
theorem dX1_log_19 : decode cX1_log 19 = .ok (.iconst 3, 1) := dk_6 (dk_at dksX1_log_0 19 rfl rfl)
theorem dX1_log_20 : decode cX1_log 20 = .ok (.invokestatic 246, 3) := dk_184 0 246 (dk_at dksX1_log_0 20 rfl rfl)
theorem dX1_log_23 : decode cX1_log 23 = .ok (.ifCond .eq 29, 3) := dk_153 0 29 (dk_at dksX1_log_1 0 rfl rfl)
theorem dX1_log_26 : decode cX1_log 26 = .ok (.aload_n 0, 1) := dk_42 (dk_at dksX1_log_1 3 rfl rfl)
theorem dX1_log_27 : decode cX1_log 27 = .ok (.getfield 58, 3) := dk_180 0 58 (dk_at dksX1_log_1 4 rfl rfl)
theorem dX1_log_30 : decode cX1_log 30 = .ok (.bipush 35, 2) := dk_16 35 (dk_at dksX1_log_1 7 rfl rfl)
theorem dX1_log_32 : decode cX1_log 32 = .ok (.iconst 4, 1) := dk_7 (dk_at dksX1_log_1 9 rfl rfl)
theorem dX1_log_33 : decode cX1_log 33 = .ok (.aload_n 0, 1) := dk_42 (dk_at dksX1_log_1 10 rfl rfl)
theorem dX1_log_34 : decode cX1_log 34 = .ok (.getfield 58, 3) := dk_180 0 58 (dk_at dksX1_log_1 11 rfl rfl)
theorem dX1_log_37 : decode cX1_log 37 = .ok (.bipush 34, 2) := dk_16 34 (dk_at dksX1_log_1 14 rfl rfl)
theorem dX1_log_39 : decode cX1_log 39 = .ok (.iaload, 1) := dk_46 (dk_at dksX1_log_1 16 rfl rfl)
theorem dX1_log_40 : decode cX1_log 40 = .ok (.iconst 1, 1) := dk_4 (dk_at dksX1_log_1 17 rfl rfl)
theorem dX1_log_41 : decode cX1_log 41 = .ok (.isub, 1) := dk_100 (dk_at dksX1_log_1 18 rfl rfl)
theorem dX1_log_42 : decode cX1_log 42 = .ok (.iload_n 1, 1) := dk_27 (dk_at dksX1_log_1 19 rfl rfl)
theorem dX1_log_43 : decode cX1_log 43 = .ok (.isub, 1) := dk_100 (dk_at dksX1_log_1 20 rfl rfl)
theorem dX1_log_44 : decode cX1_log 44 = .ok (.imul, 1) := dk_104 (dk_at dksX1_log_1 21 rfl rfl)
theorem dX1_log_45 : decode cX1_log 45 = .ok (.iadd, 1) := dk_96 (dk_at dksX1_log_1 22 rfl rfl)
theorem dX1_log_46 : decode cX1_log 46 = .ok (.iload_n 2, 1) := dk_28 (dk_at dksX1_log_1 23 rfl rfl)
theorem dX1_log_47 : decode cX1_log 47 = .ok (.iadd, 1) := dk_96 (dk_at dksX1_log_2 0 rfl rfl)
theorem dX1_log_48 : decode cX1_log 48 = .ok (.iaload, 1) := dk_46 (dk_at dksX1_log_2 1 rfl rfl)
theorem dX1_log_49 : decode cX1_log 49 = .ok (.goto 4, 3) := dk_167 0 4 (dk_at dksX1_log_2 2 rfl rfl)
theorem dX1_log_52 : decode cX1_log 52 = .ok (.iconst (-1), 1) := dk_2 (dk_at dksX1_log_2 5 rfl rfl)
theorem dX1_log_53 : decode cX1_log 53 = .ok (.ireturn, 1) := dk_172 (dk_at dksX1_log_2 6 rfl rfl)
abbrev cX1_step : ByteArray := prog_1_method_85_code
def yX1_step : MethodName := ⟨RX1, "step", "(III)I"⟩
def dkwX1_step_2 : List UInt8 := [167, 0, 6, 19, 1, 200, 172]
abbrev dktX1_step_2 : List UInt8 := dkwX1_step_2 ++ []
def dkwX1_step_1 : List UInt8 := [29, 3, 6, 184, 0, 246, 153, 0, 21, 42, 180, 0, 39, 7, 16, 16, 27, 104, 28, 96, 104, 29, 96, 46]
abbrev dktX1_step_1 : List UInt8 := dkwX1_step_1 ++ dktX1_step_2
def dkwX1_step_0 : List UInt8 := [42, 27, 182, 1, 197, 153, 0, 46, 28, 3, 42, 180, 0, 42, 27, 46, 4, 100, 184, 0, 246, 153, 0, 30]
abbrev dktX1_step_0 : List UInt8 := dkwX1_step_0 ++ dktX1_step_1
theorem dksX1_step_0 : cX1_step.data.toList.drop 0 = dktX1_step_0 := by decide +kernel
theorem dksX1_step_1 : cX1_step.data.toList.drop 24 = dktX1_step_1 := dk_seg dksX1_step_0 24 rfl rfl
theorem dksX1_step_2 : cX1_step.data.toList.drop 48 = dktX1_step_2 := dk_seg dksX1_step_1 24 rfl rfl
theorem dX1_step_0 : decode cX1_step 0 = .ok (.aload_n 0, 1) := dk_42 (dk_at dksX1_step_0 0 rfl rfl)
theorem dX1_step_1 : decode cX1_step 1 = .ok (.iload_n 1, 1) := dk_27 (dk_at dksX1_step_0 1 rfl rfl)
theorem dX1_step_2 : decode cX1_step 2 = .ok (.invokevirtual 453, 3) := dk_182 1 197 (dk_at dksX1_step_0 2 rfl rfl)
theorem dX1_step_5 : decode cX1_step 5 = .ok (.ifCond .eq 46, 3) := dk_153 0 46 (dk_at dksX1_step_0 5 rfl rfl)
theorem dX1_step_8 : decode cX1_step 8 = .ok (.iload_n 2, 1) := dk_28 (dk_at dksX1_step_0 8 rfl rfl)
theorem dX1_step_9 : decode cX1_step 9 = .ok (.iconst 0, 1) := dk_3 (dk_at dksX1_step_0 9 rfl rfl)
theorem dX1_step_10 : decode cX1_step 10 = .ok (.aload_n 0, 1) := dk_42 (dk_at dksX1_step_0 10 rfl rfl)
theorem dX1_step_11 : decode cX1_step 11 = .ok (.getfield 42, 3) := dk_180 0 42 (dk_at dksX1_step_0 11 rfl rfl)
theorem dX1_step_14 : decode cX1_step 14 = .ok (.iload_n 1, 1) := dk_27 (dk_at dksX1_step_0 14 rfl rfl)
theorem dX1_step_15 : decode cX1_step 15 = .ok (.iaload, 1) := dk_46 (dk_at dksX1_step_0 15 rfl rfl)
theorem dX1_step_16 : decode cX1_step 16 = .ok (.iconst 1, 1) := dk_4 (dk_at dksX1_step_0 16 rfl rfl)
theorem dX1_step_17 : decode cX1_step 17 = .ok (.isub, 1) := dk_100 (dk_at dksX1_step_0 17 rfl rfl)
theorem dX1_step_18 : decode cX1_step 18 = .ok (.invokestatic 246, 3) := dk_184 0 246 (dk_at dksX1_step_0 18 rfl rfl)
theorem dX1_step_21 : decode cX1_step 21 = .ok (.ifCond .eq 30, 3) := dk_153 0 30 (dk_at dksX1_step_0 21 rfl rfl)
theorem dX1_step_24 : decode cX1_step 24 = .ok (.iload_n 3, 1) := dk_29 (dk_at dksX1_step_1 0 rfl rfl)
theorem dX1_step_25 : decode cX1_step 25 = .ok (.iconst 0, 1) := dk_3 (dk_at dksX1_step_1 1 rfl rfl)
theorem dX1_step_26 : decode cX1_step 26 = .ok (.iconst 3, 1) := dk_6 (dk_at dksX1_step_1 2 rfl rfl)
theorem dX1_step_27 : decode cX1_step 27 = .ok (.invokestatic 246, 3) := dk_184 0 246 (dk_at dksX1_step_1 3 rfl rfl)
theorem dX1_step_30 : decode cX1_step 30 = .ok (.ifCond .eq 21, 3) := dk_153 0 21 (dk_at dksX1_step_1 6 rfl rfl)
theorem dX1_step_33 : decode cX1_step 33 = .ok (.aload_n 0, 1) := dk_42 (dk_at dksX1_step_1 9 rfl rfl)
theorem dX1_step_34 : decode cX1_step 34 = .ok (.getfield 39, 3) := dk_180 0 39 (dk_at dksX1_step_1 10 rfl rfl)
theorem dX1_step_37 : decode cX1_step 37 = .ok (.iconst 4, 1) := dk_7 (dk_at dksX1_step_1 13 rfl rfl)
theorem dX1_step_38 : decode cX1_step 38 = .ok (.bipush 16, 2) := dk_16 16 (dk_at dksX1_step_1 14 rfl rfl)
theorem dX1_step_40 : decode cX1_step 40 = .ok (.iload_n 1, 1) := dk_27 (dk_at dksX1_step_1 16 rfl rfl)
theorem dX1_step_41 : decode cX1_step 41 = .ok (.imul, 1) := dk_104 (dk_at dksX1_step_1 17 rfl rfl)
theorem dX1_step_42 : decode cX1_step 42 = .ok (.iload_n 2, 1) := dk_28 (dk_at dksX1_step_1 18 rfl rfl)
theorem dX1_step_43 : decode cX1_step 43 = .ok (.iadd, 1) := dk_96 (dk_at dksX1_step_1 19 rfl rfl)
theorem dX1_step_44 : decode cX1_step 44 = .ok (.imul, 1) := dk_104 (dk_at dksX1_step_1 20 rfl rfl)
theorem dX1_step_45 : decode cX1_step 45 = .ok (.iload_n 3, 1) := dk_29 (dk_at dksX1_step_1 21 rfl rfl)
theorem dX1_step_46 : decode cX1_step 46 = .ok (.iadd, 1) := dk_96 (dk_at dksX1_step_1 22 rfl rfl)
theorem dX1_step_47 : decode cX1_step 47 = .ok (.iaload, 1) := dk_46 (dk_at dksX1_step_1 23 rfl rfl)
theorem dX1_step_48 : decode cX1_step 48 = .ok (.goto 6, 3) := dk_167 0 6 (dk_at dksX1_step_2 0 rfl rfl)
theorem dX1_step_51 : decode cX1_step 51 = .ok (.ldc_w 456, 3) := dk_19 1 200 (dk_at dksX1_step_2 3 rfl rfl)
theorem dX1_step_54 : decode cX1_step 54 = .ok (.ireturn, 1) := dk_172 (dk_at dksX1_step_2 6 rfl rfl)
abbrev cX1_isPlan : ByteArray := prog_1_method_84_code
def yX1_isPlan : MethodName := ⟨RX1, "isPlan", "(I)Z"⟩
def dkwX1_isPlan_0 : List UInt8 := [27, 3, 42, 180, 1, 57, 4, 100, 184, 0, 246, 172]
abbrev dktX1_isPlan_0 : List UInt8 := dkwX1_isPlan_0 ++ []
theorem dksX1_isPlan_0 : cX1_isPlan.data.toList.drop 0 = dktX1_isPlan_0 := by decide +kernel
theorem dX1_isPlan_0 : decode cX1_isPlan 0 = .ok (.iload_n 1, 1) := dk_27 (dk_at dksX1_isPlan_0 0 rfl rfl)
theorem dX1_isPlan_1 : decode cX1_isPlan 1 = .ok (.iconst 0, 1) := dk_3 (dk_at dksX1_isPlan_0 1 rfl rfl)
theorem dX1_isPlan_2 : decode cX1_isPlan 2 = .ok (.aload_n 0, 1) := dk_42 (dk_at dksX1_isPlan_0 2 rfl rfl)
theorem dX1_isPlan_3 : decode cX1_isPlan 3 = .ok (.getfield 313, 3) := dk_180 1 57 (dk_at dksX1_isPlan_0 3 rfl rfl)
theorem dX1_isPlan_6 : decode cX1_isPlan 6 = .ok (.iconst 1, 1) := dk_4 (dk_at dksX1_isPlan_0 6 rfl rfl)
theorem dX1_isPlan_7 : decode cX1_isPlan 7 = .ok (.isub, 1) := dk_100 (dk_at dksX1_isPlan_0 7 rfl rfl)
theorem dX1_isPlan_8 : decode cX1_isPlan 8 = .ok (.invokestatic 246, 3) := dk_184 0 246 (dk_at dksX1_isPlan_0 8 rfl rfl)
theorem dX1_isPlan_11 : decode cX1_isPlan 11 = .ok (.ireturn, 1) := dk_172 (dk_at dksX1_isPlan_0 11 rfl rfl)
abbrev cX1_run : ByteArray := prog_1_method_90_code
def yX1_run : MethodName := ⟨RX1, "run", "(II)I"⟩
def dkwX1_run_4 : List UInt8 := [167, 0, 18, 29, 42, 180, 0, 42, 27, 46, 160, 0, 7, 2, 167, 0, 4, 29, 172]
abbrev dktX1_run_4 : List UInt8 := dkwX1_run_4 ++ []
def dkwX1_run_3 : List UInt8 := [104, 182, 1, 207, 96, 54, 4, 132, 3, 1, 167, 255, 211, 42, 182, 1, 210, 28, 4, 160, 0, 8, 21, 4]
abbrev dktX1_run_3 : List UInt8 := dkwX1_run_3 ++ dktX1_run_4
def dkwX1_run_2 : List UInt8 := [7, 16, 16, 27, 104, 29, 96, 104, 182, 1, 204, 153, 0, 26, 21, 4, 42, 7, 16, 16, 27, 104, 29, 96]
abbrev dktX1_run_2 : List UInt8 := dkwX1_run_2 ++ dktX1_run_3
def dkwX1_run_1 : List UInt8 := [19, 1, 200, 172, 42, 182, 1, 201, 3, 62, 3, 54, 4, 29, 42, 180, 0, 42, 27, 46, 162, 0, 41, 42]
abbrev dktX1_run_1 : List UInt8 := dkwX1_run_1 ++ dktX1_run_2
def dkwX1_run_0 : List UInt8 := [42, 182, 1, 128, 153, 0, 20, 42, 27, 182, 1, 197, 153, 0, 12, 28, 3, 4, 184, 0, 246, 154, 0, 7]
abbrev dktX1_run_0 : List UInt8 := dkwX1_run_0 ++ dktX1_run_1
theorem dksX1_run_0 : cX1_run.data.toList.drop 0 = dktX1_run_0 := by decide +kernel
theorem dksX1_run_1 : cX1_run.data.toList.drop 24 = dktX1_run_1 := dk_seg dksX1_run_0 24 rfl rfl
theorem dksX1_run_2 : cX1_run.data.toList.drop 48 = dktX1_run_2 := dk_seg dksX1_run_1 24 rfl rfl
theorem dksX1_run_3 : cX1_run.data.toList.drop 72 = dktX1_run_3 := dk_seg dksX1_run_2 24 rfl rfl
theorem dksX1_run_4 : cX1_run.data.toList.drop 96 = dktX1_run_4 := dk_seg dksX1_run_3 24 rfl rfl
theorem dX1_run_0 : decode cX1_run 0 = .ok (.aload_n 0, 1) := dk_42 (dk_at dksX1_run_0 0 rfl rfl)
theorem dX1_run_1 : decode cX1_run 1 = .ok (.invokevirtual 384, 3) := dk_182 1 128 (dk_at dksX1_run_0 1 rfl rfl)
theorem dX1_run_4 : decode cX1_run 4 = .ok (.ifCond .eq 20, 3) := dk_153 0 20 (dk_at dksX1_run_0 4 rfl rfl)
theorem dX1_run_7 : decode cX1_run 7 = .ok (.aload_n 0, 1) := dk_42 (dk_at dksX1_run_0 7 rfl rfl)
theorem dX1_run_8 : decode cX1_run 8 = .ok (.iload_n 1, 1) := dk_27 (dk_at dksX1_run_0 8 rfl rfl)
theorem dX1_run_9 : decode cX1_run 9 = .ok (.invokevirtual 453, 3) := dk_182 1 197 (dk_at dksX1_run_0 9 rfl rfl)
theorem dX1_run_12 : decode cX1_run 12 = .ok (.ifCond .eq 12, 3) := dk_153 0 12 (dk_at dksX1_run_0 12 rfl rfl)
theorem dX1_run_15 : decode cX1_run 15 = .ok (.iload_n 2, 1) := dk_28 (dk_at dksX1_run_0 15 rfl rfl)
theorem dX1_run_16 : decode cX1_run 16 = .ok (.iconst 0, 1) := dk_3 (dk_at dksX1_run_0 16 rfl rfl)
theorem dX1_run_17 : decode cX1_run 17 = .ok (.iconst 1, 1) := dk_4 (dk_at dksX1_run_0 17 rfl rfl)
theorem dX1_run_18 : decode cX1_run 18 = .ok (.invokestatic 246, 3) := dk_184 0 246 (dk_at dksX1_run_0 18 rfl rfl)
theorem dX1_run_21 : decode cX1_run 21 = .ok (.ifCond .ne 7, 3) := dk_154 0 7 (dk_at dksX1_run_0 21 rfl rfl)
theorem dX1_run_24 : decode cX1_run 24 = .ok (.ldc_w 456, 3) := dk_19 1 200 (dk_at dksX1_run_1 0 rfl rfl)
theorem dX1_run_27 : decode cX1_run 27 = .ok (.ireturn, 1) := dk_172 (dk_at dksX1_run_1 3 rfl rfl)
theorem dX1_run_28 : decode cX1_run 28 = .ok (.aload_n 0, 1) := dk_42 (dk_at dksX1_run_1 4 rfl rfl)
theorem dX1_run_29 : decode cX1_run 29 = .ok (.invokevirtual 457, 3) := dk_182 1 201 (dk_at dksX1_run_1 5 rfl rfl)
theorem dX1_run_32 : decode cX1_run 32 = .ok (.iconst 0, 1) := dk_3 (dk_at dksX1_run_1 8 rfl rfl)
theorem dX1_run_33 : decode cX1_run 33 = .ok (.istore_n 3, 1) := dk_62 (dk_at dksX1_run_1 9 rfl rfl)
theorem dX1_run_34 : decode cX1_run 34 = .ok (.iconst 0, 1) := dk_3 (dk_at dksX1_run_1 10 rfl rfl)
theorem dX1_run_35 : decode cX1_run 35 = .ok (.istore 4, 2) := dk_54 4 (dk_at dksX1_run_1 11 rfl rfl)
theorem dX1_run_37 : decode cX1_run 37 = .ok (.iload_n 3, 1) := dk_29 (dk_at dksX1_run_1 13 rfl rfl)
theorem dX1_run_38 : decode cX1_run 38 = .ok (.aload_n 0, 1) := dk_42 (dk_at dksX1_run_1 14 rfl rfl)
theorem dX1_run_39 : decode cX1_run 39 = .ok (.getfield 42, 3) := dk_180 0 42 (dk_at dksX1_run_1 15 rfl rfl)
theorem dX1_run_42 : decode cX1_run 42 = .ok (.iload_n 1, 1) := dk_27 (dk_at dksX1_run_1 18 rfl rfl)
theorem dX1_run_43 : decode cX1_run 43 = .ok (.iaload, 1) := dk_46 (dk_at dksX1_run_1 19 rfl rfl)
theorem dX1_run_44 : decode cX1_run 44 = .ok (.if_icmp .ge 41, 3) := dk_162 0 41 (dk_at dksX1_run_1 20 rfl rfl)
theorem dX1_run_47 : decode cX1_run 47 = .ok (.aload_n 0, 1) := dk_42 (dk_at dksX1_run_1 23 rfl rfl)
theorem dX1_run_48 : decode cX1_run 48 = .ok (.iconst 4, 1) := dk_7 (dk_at dksX1_run_2 0 rfl rfl)
theorem dX1_run_49 : decode cX1_run 49 = .ok (.bipush 16, 2) := dk_16 16 (dk_at dksX1_run_2 1 rfl rfl)
theorem dX1_run_51 : decode cX1_run 51 = .ok (.iload_n 1, 1) := dk_27 (dk_at dksX1_run_2 3 rfl rfl)
theorem dX1_run_52 : decode cX1_run 52 = .ok (.imul, 1) := dk_104 (dk_at dksX1_run_2 4 rfl rfl)
theorem dX1_run_53 : decode cX1_run 53 = .ok (.iload_n 3, 1) := dk_29 (dk_at dksX1_run_2 5 rfl rfl)
theorem dX1_run_54 : decode cX1_run 54 = .ok (.iadd, 1) := dk_96 (dk_at dksX1_run_2 6 rfl rfl)
theorem dX1_run_55 : decode cX1_run 55 = .ok (.imul, 1) := dk_104 (dk_at dksX1_run_2 7 rfl rfl)
theorem dX1_run_56 : decode cX1_run 56 = .ok (.invokevirtual 460, 3) := dk_182 1 204 (dk_at dksX1_run_2 8 rfl rfl)
theorem dX1_run_59 : decode cX1_run 59 = .ok (.ifCond .eq 26, 3) := dk_153 0 26 (dk_at dksX1_run_2 11 rfl rfl)
theorem dX1_run_62 : decode cX1_run 62 = .ok (.iload 4, 2) := dk_21 4 (dk_at dksX1_run_2 14 rfl rfl)
theorem dX1_run_64 : decode cX1_run 64 = .ok (.aload_n 0, 1) := dk_42 (dk_at dksX1_run_2 16 rfl rfl)
theorem dX1_run_65 : decode cX1_run 65 = .ok (.iconst 4, 1) := dk_7 (dk_at dksX1_run_2 17 rfl rfl)
theorem dX1_run_66 : decode cX1_run 66 = .ok (.bipush 16, 2) := dk_16 16 (dk_at dksX1_run_2 18 rfl rfl)
theorem dX1_run_68 : decode cX1_run 68 = .ok (.iload_n 1, 1) := dk_27 (dk_at dksX1_run_2 20 rfl rfl)
theorem dX1_run_69 : decode cX1_run 69 = .ok (.imul, 1) := dk_104 (dk_at dksX1_run_2 21 rfl rfl)
theorem dX1_run_70 : decode cX1_run 70 = .ok (.iload_n 3, 1) := dk_29 (dk_at dksX1_run_2 22 rfl rfl)
theorem dX1_run_71 : decode cX1_run 71 = .ok (.iadd, 1) := dk_96 (dk_at dksX1_run_2 23 rfl rfl)
theorem dX1_run_72 : decode cX1_run 72 = .ok (.imul, 1) := dk_104 (dk_at dksX1_run_3 0 rfl rfl)
theorem dX1_run_73 : decode cX1_run 73 = .ok (.invokevirtual 463, 3) := dk_182 1 207 (dk_at dksX1_run_3 1 rfl rfl)
theorem dX1_run_76 : decode cX1_run 76 = .ok (.iadd, 1) := dk_96 (dk_at dksX1_run_3 4 rfl rfl)
theorem dX1_run_77 : decode cX1_run 77 = .ok (.istore 4, 2) := dk_54 4 (dk_at dksX1_run_3 5 rfl rfl)
theorem dX1_run_79 : decode cX1_run 79 = .ok (.iinc 3 1, 3) := dk_132 3 1 (dk_at dksX1_run_3 7 rfl rfl)
theorem dX1_run_82 : decode cX1_run 82 = .ok (.goto (-45), 3) := dk_167 255 211 (dk_at dksX1_run_3 10 rfl rfl)
theorem dX1_run_85 : decode cX1_run 85 = .ok (.aload_n 0, 1) := dk_42 (dk_at dksX1_run_3 13 rfl rfl)
theorem dX1_run_86 : decode cX1_run 86 = .ok (.invokevirtual 466, 3) := dk_182 1 210 (dk_at dksX1_run_3 14 rfl rfl)
theorem dX1_run_89 : decode cX1_run 89 = .ok (.iload_n 2, 1) := dk_28 (dk_at dksX1_run_3 17 rfl rfl)
theorem dX1_run_90 : decode cX1_run 90 = .ok (.iconst 1, 1) := dk_4 (dk_at dksX1_run_3 18 rfl rfl)
theorem dX1_run_91 : decode cX1_run 91 = .ok (.if_icmp .ne 8, 3) := dk_160 0 8 (dk_at dksX1_run_3 19 rfl rfl)
theorem dX1_run_94 : decode cX1_run 94 = .ok (.iload 4, 2) := dk_21 4 (dk_at dksX1_run_3 22 rfl rfl)
theorem dX1_run_96 : decode cX1_run 96 = .ok (.goto 18, 3) := dk_167 0 18 (dk_at dksX1_run_4 0 rfl rfl)
theorem dX1_run_99 : decode cX1_run 99 = .ok (.iload_n 3, 1) := dk_29 (dk_at dksX1_run_4 3 rfl rfl)
theorem dX1_run_100 : decode cX1_run 100 = .ok (.aload_n 0, 1) := dk_42 (dk_at dksX1_run_4 4 rfl rfl)
theorem dX1_run_101 : decode cX1_run 101 = .ok (.getfield 42, 3) := dk_180 0 42 (dk_at dksX1_run_4 5 rfl rfl)
theorem dX1_run_104 : decode cX1_run 104 = .ok (.iload_n 1, 1) := dk_27 (dk_at dksX1_run_4 8 rfl rfl)
theorem dX1_run_105 : decode cX1_run 105 = .ok (.iaload, 1) := dk_46 (dk_at dksX1_run_4 9 rfl rfl)
theorem dX1_run_106 : decode cX1_run 106 = .ok (.if_icmp .ne 7, 3) := dk_160 0 7 (dk_at dksX1_run_4 10 rfl rfl)
theorem dX1_run_109 : decode cX1_run 109 = .ok (.iconst (-1), 1) := dk_2 (dk_at dksX1_run_4 13 rfl rfl)
theorem dX1_run_110 : decode cX1_run 110 = .ok (.goto 4, 3) := dk_167 0 4 (dk_at dksX1_run_4 14 rfl rfl)
theorem dX1_run_113 : decode cX1_run 113 = .ok (.iload_n 3, 1) := dk_29 (dk_at dksX1_run_4 17 rfl rfl)
theorem dX1_run_114 : decode cX1_run 114 = .ok (.ireturn, 1) := dk_172 (dk_at dksX1_run_4 18 rfl rfl)
abbrev cX1_putAside : ByteArray := prog_1_method_88_code
def yX1_putAside : MethodName := ⟨RX1, "putAside", "()V"⟩
def dkwX1_putAside_1 : List UInt8 := [167, 255, 234, 177]
abbrev dktX1_putAside_1 : List UInt8 := dkwX1_putAside_1 ++ []
def dkwX1_putAside_0 : List UInt8 := [3, 60, 27, 17, 1, 19, 162, 0, 21, 42, 180, 0, 64, 27, 42, 180, 0, 58, 27, 46, 79, 132, 1, 1]
abbrev dktX1_putAside_0 : List UInt8 := dkwX1_putAside_0 ++ dktX1_putAside_1
theorem dksX1_putAside_0 : cX1_putAside.data.toList.drop 0 = dktX1_putAside_0 := by decide +kernel
theorem dksX1_putAside_1 : cX1_putAside.data.toList.drop 24 = dktX1_putAside_1 := dk_seg dksX1_putAside_0 24 rfl rfl
theorem dX1_putAside_0 : decode cX1_putAside 0 = .ok (.iconst 0, 1) := dk_3 (dk_at dksX1_putAside_0 0 rfl rfl)
theorem dX1_putAside_1 : decode cX1_putAside 1 = .ok (.istore_n 1, 1) := dk_60 (dk_at dksX1_putAside_0 1 rfl rfl)
theorem dX1_putAside_2 : decode cX1_putAside 2 = .ok (.iload_n 1, 1) := dk_27 (dk_at dksX1_putAside_0 2 rfl rfl)
theorem dX1_putAside_3 : decode cX1_putAside 3 = .ok (.sipush 275, 3) := dk_17 1 19 (dk_at dksX1_putAside_0 3 rfl rfl)
theorem dX1_putAside_6 : decode cX1_putAside 6 = .ok (.if_icmp .ge 21, 3) := dk_162 0 21 (dk_at dksX1_putAside_0 6 rfl rfl)
theorem dX1_putAside_9 : decode cX1_putAside 9 = .ok (.aload_n 0, 1) := dk_42 (dk_at dksX1_putAside_0 9 rfl rfl)
theorem dX1_putAside_10 : decode cX1_putAside 10 = .ok (.getfield 64, 3) := dk_180 0 64 (dk_at dksX1_putAside_0 10 rfl rfl)
theorem dX1_putAside_13 : decode cX1_putAside 13 = .ok (.iload_n 1, 1) := dk_27 (dk_at dksX1_putAside_0 13 rfl rfl)
theorem dX1_putAside_14 : decode cX1_putAside 14 = .ok (.aload_n 0, 1) := dk_42 (dk_at dksX1_putAside_0 14 rfl rfl)
theorem dX1_putAside_15 : decode cX1_putAside 15 = .ok (.getfield 58, 3) := dk_180 0 58 (dk_at dksX1_putAside_0 15 rfl rfl)
theorem dX1_putAside_18 : decode cX1_putAside 18 = .ok (.iload_n 1, 1) := dk_27 (dk_at dksX1_putAside_0 18 rfl rfl)
theorem dX1_putAside_19 : decode cX1_putAside 19 = .ok (.iaload, 1) := dk_46 (dk_at dksX1_putAside_0 19 rfl rfl)
theorem dX1_putAside_20 : decode cX1_putAside 20 = .ok (.iastore, 1) := dk_79 (dk_at dksX1_putAside_0 20 rfl rfl)
theorem dX1_putAside_21 : decode cX1_putAside 21 = .ok (.iinc 1 1, 3) := dk_132 1 1 (dk_at dksX1_putAside_0 21 rfl rfl)
theorem dX1_putAside_24 : decode cX1_putAside 24 = .ok (.goto (-22), 3) := dk_167 255 234 (dk_at dksX1_putAside_1 0 rfl rfl)
theorem dX1_putAside_27 : decode cX1_putAside 27 = .ok (.return_, 1) := dk_177 (dk_at dksX1_putAside_1 3 rfl rfl)
abbrev cX1_canStep : ByteArray := prog_1_method_86_code
def yX1_canStep : MethodName := ⟨RX1, "canStep", "(I)Z"⟩
def dkwX1_canStep_3 : List UInt8 := [182, 1, 165, 172, 42, 28, 182, 1, 174, 172, 42, 28, 182, 1, 180, 172]
abbrev dktX1_canStep_3 : List UInt8 := dkwX1_canStep_3 ++ []
def dkwX1_canStep_2 : List UInt8 := [42, 28, 42, 180, 0, 39, 27, 5, 96, 46, 182, 1, 152, 172, 42, 28, 182, 1, 137, 172, 42, 28]
abbrev dktX1_canStep_2 : List UInt8 := dkwX1_canStep_2 ++ dktX1_canStep_3
def dkwX1_canStep_1 : List UInt8 := [170, 0, 0, 0, 61, 0, 0, 0, 0, 0, 0, 0, 3, 0, 0, 0, 29, 0, 0, 0, 43, 0, 0, 0, 49, 0, 0, 0, 55]
abbrev dktX1_canStep_1 : List UInt8 := dkwX1_canStep_1 ++ dktX1_canStep_2
def dkwX1_canStep_0 : List UInt8 := [42, 180, 0, 39, 27, 4, 96, 46, 61, 42, 180, 0, 39, 27, 46]
abbrev dktX1_canStep_0 : List UInt8 := dkwX1_canStep_0 ++ dktX1_canStep_1
theorem dksX1_canStep_0 : cX1_canStep.data.toList.drop 0 = dktX1_canStep_0 := by decide +kernel
theorem dksX1_canStep_1 : cX1_canStep.data.toList.drop 15 = dktX1_canStep_1 := dk_seg dksX1_canStep_0 15 rfl rfl
theorem dksX1_canStep_2 : cX1_canStep.data.toList.drop 44 = dktX1_canStep_2 := dk_seg dksX1_canStep_1 29 rfl rfl
theorem dksX1_canStep_3 : cX1_canStep.data.toList.drop 66 = dktX1_canStep_3 := dk_seg dksX1_canStep_2 22 rfl rfl
theorem dX1_canStep_0 : decode cX1_canStep 0 = .ok (.aload_n 0, 1) := dk_42 (dk_at dksX1_canStep_0 0 rfl rfl)
theorem dX1_canStep_1 : decode cX1_canStep 1 = .ok (.getfield 39, 3) := dk_180 0 39 (dk_at dksX1_canStep_0 1 rfl rfl)
theorem dX1_canStep_4 : decode cX1_canStep 4 = .ok (.iload_n 1, 1) := dk_27 (dk_at dksX1_canStep_0 4 rfl rfl)
theorem dX1_canStep_5 : decode cX1_canStep 5 = .ok (.iconst 1, 1) := dk_4 (dk_at dksX1_canStep_0 5 rfl rfl)
theorem dX1_canStep_6 : decode cX1_canStep 6 = .ok (.iadd, 1) := dk_96 (dk_at dksX1_canStep_0 6 rfl rfl)
theorem dX1_canStep_7 : decode cX1_canStep 7 = .ok (.iaload, 1) := dk_46 (dk_at dksX1_canStep_0 7 rfl rfl)
theorem dX1_canStep_8 : decode cX1_canStep 8 = .ok (.istore_n 2, 1) := dk_61 (dk_at dksX1_canStep_0 8 rfl rfl)
theorem dX1_canStep_9 : decode cX1_canStep 9 = .ok (.aload_n 0, 1) := dk_42 (dk_at dksX1_canStep_0 9 rfl rfl)
theorem dX1_canStep_10 : decode cX1_canStep 10 = .ok (.getfield 39, 3) := dk_180 0 39 (dk_at dksX1_canStep_0 10 rfl rfl)
theorem dX1_canStep_13 : decode cX1_canStep 13 = .ok (.iload_n 1, 1) := dk_27 (dk_at dksX1_canStep_0 13 rfl rfl)
theorem dX1_canStep_14 : decode cX1_canStep 14 = .ok (.iaload, 1) := dk_46 (dk_at dksX1_canStep_0 14 rfl rfl)
theorem dX1_canStep_15 : decode cX1_canStep 15 = .ok (.tableswitch 61 0 3 #[29, 43, 49, 55], 29) := by decide +kernel
theorem dX1_canStep_44 : decode cX1_canStep 44 = .ok (.aload_n 0, 1) := dk_42 (dk_at dksX1_canStep_2 0 rfl rfl)
theorem dX1_canStep_45 : decode cX1_canStep 45 = .ok (.iload_n 2, 1) := dk_28 (dk_at dksX1_canStep_2 1 rfl rfl)
theorem dX1_canStep_46 : decode cX1_canStep 46 = .ok (.aload_n 0, 1) := dk_42 (dk_at dksX1_canStep_2 2 rfl rfl)
theorem dX1_canStep_47 : decode cX1_canStep 47 = .ok (.getfield 39, 3) := dk_180 0 39 (dk_at dksX1_canStep_2 3 rfl rfl)
theorem dX1_canStep_50 : decode cX1_canStep 50 = .ok (.iload_n 1, 1) := dk_27 (dk_at dksX1_canStep_2 6 rfl rfl)
theorem dX1_canStep_51 : decode cX1_canStep 51 = .ok (.iconst 2, 1) := dk_5 (dk_at dksX1_canStep_2 7 rfl rfl)
theorem dX1_canStep_52 : decode cX1_canStep 52 = .ok (.iadd, 1) := dk_96 (dk_at dksX1_canStep_2 8 rfl rfl)
theorem dX1_canStep_53 : decode cX1_canStep 53 = .ok (.iaload, 1) := dk_46 (dk_at dksX1_canStep_2 9 rfl rfl)
theorem dX1_canStep_54 : decode cX1_canStep 54 = .ok (.invokevirtual 408, 3) := dk_182 1 152 (dk_at dksX1_canStep_2 10 rfl rfl)
theorem dX1_canStep_57 : decode cX1_canStep 57 = .ok (.ireturn, 1) := dk_172 (dk_at dksX1_canStep_2 13 rfl rfl)
theorem dX1_canStep_58 : decode cX1_canStep 58 = .ok (.aload_n 0, 1) := dk_42 (dk_at dksX1_canStep_2 14 rfl rfl)
theorem dX1_canStep_59 : decode cX1_canStep 59 = .ok (.iload_n 2, 1) := dk_28 (dk_at dksX1_canStep_2 15 rfl rfl)
theorem dX1_canStep_60 : decode cX1_canStep 60 = .ok (.invokevirtual 393, 3) := dk_182 1 137 (dk_at dksX1_canStep_2 16 rfl rfl)
theorem dX1_canStep_63 : decode cX1_canStep 63 = .ok (.ireturn, 1) := dk_172 (dk_at dksX1_canStep_2 19 rfl rfl)
theorem dX1_canStep_64 : decode cX1_canStep 64 = .ok (.aload_n 0, 1) := dk_42 (dk_at dksX1_canStep_2 20 rfl rfl)
theorem dX1_canStep_65 : decode cX1_canStep 65 = .ok (.iload_n 2, 1) := dk_28 (dk_at dksX1_canStep_2 21 rfl rfl)
theorem dX1_canStep_66 : decode cX1_canStep 66 = .ok (.invokevirtual 421, 3) := dk_182 1 165 (dk_at dksX1_canStep_3 0 rfl rfl)
theorem dX1_canStep_69 : decode cX1_canStep 69 = .ok (.ireturn, 1) := dk_172 (dk_at dksX1_canStep_3 3 rfl rfl)
theorem dX1_canStep_70 : decode cX1_canStep 70 = .ok (.aload_n 0, 1) := dk_42 (dk_at dksX1_canStep_3 4 rfl rfl)
theorem dX1_canStep_71 : decode cX1_canStep 71 = .ok (.iload_n 2, 1) := dk_28 (dk_at dksX1_canStep_3 5 rfl rfl)
theorem dX1_canStep_72 : decode cX1_canStep 72 = .ok (.invokevirtual 430, 3) := dk_182 1 174 (dk_at dksX1_canStep_3 6 rfl rfl)
theorem dX1_canStep_75 : decode cX1_canStep 75 = .ok (.ireturn, 1) := dk_172 (dk_at dksX1_canStep_3 9 rfl rfl)
theorem dX1_canStep_76 : decode cX1_canStep 76 = .ok (.aload_n 0, 1) := dk_42 (dk_at dksX1_canStep_3 10 rfl rfl)
theorem dX1_canStep_77 : decode cX1_canStep 77 = .ok (.iload_n 2, 1) := dk_28 (dk_at dksX1_canStep_3 11 rfl rfl)
theorem dX1_canStep_78 : decode cX1_canStep 78 = .ok (.invokevirtual 436, 3) := dk_182 1 180 (dk_at dksX1_canStep_3 12 rfl rfl)
theorem dX1_canStep_81 : decode cX1_canStep 81 = .ok (.ireturn, 1) := dk_172 (dk_at dksX1_canStep_3 15 rfl rfl)
abbrev cX1_doStep : ByteArray := prog_1_method_87_code
def yX1_doStep : MethodName := ⟨RX1, "doStep", "(I)I"⟩
def dkwX1_doStep_5 : List UInt8 := [182, 1, 171, 3, 172]
abbrev dktX1_doStep_5 : List UInt8 := dkwX1_doStep_5 ++ []
def dkwX1_doStep_4 : List UInt8 := [29, 28, 162, 0, 13, 42, 182, 1, 177, 132, 3, 1, 167, 255, 244, 3, 172, 42, 42, 28, 182, 1, 183]
abbrev dktX1_doStep_4 : List UInt8 := dkwX1_doStep_4 ++ dktX1_doStep_5
def dkwX1_doStep_3 : List UInt8 := [167, 0, 4, 3, 182, 1, 158, 3, 172, 42, 28, 182, 1, 162, 172, 42, 28, 182, 1, 168, 3, 172, 3, 62]
abbrev dktX1_doStep_3 : List UInt8 := dkwX1_doStep_3 ++ dktX1_doStep_4
def dkwX1_doStep_2 : List UInt8 := [42, 28, 42, 180, 0, 39, 27, 5, 96, 46, 42, 180, 0, 39, 27, 6, 96, 46, 4, 160, 0, 7, 4]
abbrev dktX1_doStep_2 : List UInt8 := dkwX1_doStep_2 ++ dktX1_doStep_3
def dkwX1_doStep_1 : List UInt8 := [170, 0, 0, 0, 93, 0, 0, 0, 0, 0, 0, 0, 3, 0, 0, 0, 29, 0, 0, 0, 61, 0, 0, 0, 67, 0, 0, 0, 74]
abbrev dktX1_doStep_1 : List UInt8 := dkwX1_doStep_1 ++ dktX1_doStep_2
def dkwX1_doStep_0 : List UInt8 := [42, 180, 0, 39, 27, 4, 96, 46, 61, 42, 180, 0, 39, 27, 46]
abbrev dktX1_doStep_0 : List UInt8 := dkwX1_doStep_0 ++ dktX1_doStep_1
theorem dksX1_doStep_0 : cX1_doStep.data.toList.drop 0 = dktX1_doStep_0 := by decide +kernel
theorem dksX1_doStep_1 : cX1_doStep.data.toList.drop 15 = dktX1_doStep_1 := dk_seg dksX1_doStep_0 15 rfl rfl
theorem dksX1_doStep_2 : cX1_doStep.data.toList.drop 44 = dktX1_doStep_2 := dk_seg dksX1_doStep_1 29 rfl rfl
theorem dksX1_doStep_3 : cX1_doStep.data.toList.drop 67 = dktX1_doStep_3 := dk_seg dksX1_doStep_2 23 rfl rfl
theorem dksX1_doStep_4 : cX1_doStep.data.toList.drop 91 = dktX1_doStep_4 := dk_seg dksX1_doStep_3 24 rfl rfl
theorem dksX1_doStep_5 : cX1_doStep.data.toList.drop 114 = dktX1_doStep_5 := dk_seg dksX1_doStep_4 23 rfl rfl
theorem dX1_doStep_0 : decode cX1_doStep 0 = .ok (.aload_n 0, 1) := dk_42 (dk_at dksX1_doStep_0 0 rfl rfl)
theorem dX1_doStep_1 : decode cX1_doStep 1 = .ok (.getfield 39, 3) := dk_180 0 39 (dk_at dksX1_doStep_0 1 rfl rfl)
theorem dX1_doStep_4 : decode cX1_doStep 4 = .ok (.iload_n 1, 1) := dk_27 (dk_at dksX1_doStep_0 4 rfl rfl)
theorem dX1_doStep_5 : decode cX1_doStep 5 = .ok (.iconst 1, 1) := dk_4 (dk_at dksX1_doStep_0 5 rfl rfl)
theorem dX1_doStep_6 : decode cX1_doStep 6 = .ok (.iadd, 1) := dk_96 (dk_at dksX1_doStep_0 6 rfl rfl)
theorem dX1_doStep_7 : decode cX1_doStep 7 = .ok (.iaload, 1) := dk_46 (dk_at dksX1_doStep_0 7 rfl rfl)
theorem dX1_doStep_8 : decode cX1_doStep 8 = .ok (.istore_n 2, 1) := dk_61 (dk_at dksX1_doStep_0 8 rfl rfl)
theorem dX1_doStep_9 : decode cX1_doStep 9 = .ok (.aload_n 0, 1) := dk_42 (dk_at dksX1_doStep_0 9 rfl rfl)
theorem dX1_doStep_10 : decode cX1_doStep 10 = .ok (.getfield 39, 3) := dk_180 0 39 (dk_at dksX1_doStep_0 10 rfl rfl)
theorem dX1_doStep_13 : decode cX1_doStep 13 = .ok (.iload_n 1, 1) := dk_27 (dk_at dksX1_doStep_0 13 rfl rfl)
theorem dX1_doStep_14 : decode cX1_doStep 14 = .ok (.iaload, 1) := dk_46 (dk_at dksX1_doStep_0 14 rfl rfl)
theorem dX1_doStep_15 : decode cX1_doStep 15 = .ok (.tableswitch 93 0 3 #[29, 61, 67, 74], 29) := by decide +kernel
theorem dX1_doStep_44 : decode cX1_doStep 44 = .ok (.aload_n 0, 1) := dk_42 (dk_at dksX1_doStep_2 0 rfl rfl)
theorem dX1_doStep_45 : decode cX1_doStep 45 = .ok (.iload_n 2, 1) := dk_28 (dk_at dksX1_doStep_2 1 rfl rfl)
theorem dX1_doStep_46 : decode cX1_doStep 46 = .ok (.aload_n 0, 1) := dk_42 (dk_at dksX1_doStep_2 2 rfl rfl)
theorem dX1_doStep_47 : decode cX1_doStep 47 = .ok (.getfield 39, 3) := dk_180 0 39 (dk_at dksX1_doStep_2 3 rfl rfl)
theorem dX1_doStep_50 : decode cX1_doStep 50 = .ok (.iload_n 1, 1) := dk_27 (dk_at dksX1_doStep_2 6 rfl rfl)
theorem dX1_doStep_51 : decode cX1_doStep 51 = .ok (.iconst 2, 1) := dk_5 (dk_at dksX1_doStep_2 7 rfl rfl)
theorem dX1_doStep_52 : decode cX1_doStep 52 = .ok (.iadd, 1) := dk_96 (dk_at dksX1_doStep_2 8 rfl rfl)
theorem dX1_doStep_53 : decode cX1_doStep 53 = .ok (.iaload, 1) := dk_46 (dk_at dksX1_doStep_2 9 rfl rfl)
theorem dX1_doStep_54 : decode cX1_doStep 54 = .ok (.aload_n 0, 1) := dk_42 (dk_at dksX1_doStep_2 10 rfl rfl)
theorem dX1_doStep_55 : decode cX1_doStep 55 = .ok (.getfield 39, 3) := dk_180 0 39 (dk_at dksX1_doStep_2 11 rfl rfl)
theorem dX1_doStep_58 : decode cX1_doStep 58 = .ok (.iload_n 1, 1) := dk_27 (dk_at dksX1_doStep_2 14 rfl rfl)
theorem dX1_doStep_59 : decode cX1_doStep 59 = .ok (.iconst 3, 1) := dk_6 (dk_at dksX1_doStep_2 15 rfl rfl)
theorem dX1_doStep_60 : decode cX1_doStep 60 = .ok (.iadd, 1) := dk_96 (dk_at dksX1_doStep_2 16 rfl rfl)
theorem dX1_doStep_61 : decode cX1_doStep 61 = .ok (.iaload, 1) := dk_46 (dk_at dksX1_doStep_2 17 rfl rfl)
theorem dX1_doStep_62 : decode cX1_doStep 62 = .ok (.iconst 1, 1) := dk_4 (dk_at dksX1_doStep_2 18 rfl rfl)
theorem dX1_doStep_63 : decode cX1_doStep 63 = .ok (.if_icmp .ne 7, 3) := dk_160 0 7 (dk_at dksX1_doStep_2 19 rfl rfl)
theorem dX1_doStep_66 : decode cX1_doStep 66 = .ok (.iconst 1, 1) := dk_4 (dk_at dksX1_doStep_2 22 rfl rfl)
theorem dX1_doStep_67 : decode cX1_doStep 67 = .ok (.goto 4, 3) := dk_167 0 4 (dk_at dksX1_doStep_3 0 rfl rfl)
theorem dX1_doStep_70 : decode cX1_doStep 70 = .ok (.iconst 0, 1) := dk_3 (dk_at dksX1_doStep_3 3 rfl rfl)
theorem dX1_doStep_71 : decode cX1_doStep 71 = .ok (.invokevirtual 414, 3) := dk_182 1 158 (dk_at dksX1_doStep_3 4 rfl rfl)
theorem dX1_doStep_74 : decode cX1_doStep 74 = .ok (.iconst 0, 1) := dk_3 (dk_at dksX1_doStep_3 7 rfl rfl)
theorem dX1_doStep_75 : decode cX1_doStep 75 = .ok (.ireturn, 1) := dk_172 (dk_at dksX1_doStep_3 8 rfl rfl)
theorem dX1_doStep_76 : decode cX1_doStep 76 = .ok (.aload_n 0, 1) := dk_42 (dk_at dksX1_doStep_3 9 rfl rfl)
theorem dX1_doStep_77 : decode cX1_doStep 77 = .ok (.iload_n 2, 1) := dk_28 (dk_at dksX1_doStep_3 10 rfl rfl)
theorem dX1_doStep_78 : decode cX1_doStep 78 = .ok (.invokevirtual 418, 3) := dk_182 1 162 (dk_at dksX1_doStep_3 11 rfl rfl)
theorem dX1_doStep_81 : decode cX1_doStep 81 = .ok (.ireturn, 1) := dk_172 (dk_at dksX1_doStep_3 14 rfl rfl)
theorem dX1_doStep_82 : decode cX1_doStep 82 = .ok (.aload_n 0, 1) := dk_42 (dk_at dksX1_doStep_3 15 rfl rfl)
theorem dX1_doStep_83 : decode cX1_doStep 83 = .ok (.iload_n 2, 1) := dk_28 (dk_at dksX1_doStep_3 16 rfl rfl)
theorem dX1_doStep_84 : decode cX1_doStep 84 = .ok (.invokevirtual 424, 3) := dk_182 1 168 (dk_at dksX1_doStep_3 17 rfl rfl)
theorem dX1_doStep_87 : decode cX1_doStep 87 = .ok (.iconst 0, 1) := dk_3 (dk_at dksX1_doStep_3 20 rfl rfl)
theorem dX1_doStep_88 : decode cX1_doStep 88 = .ok (.ireturn, 1) := dk_172 (dk_at dksX1_doStep_3 21 rfl rfl)
theorem dX1_doStep_89 : decode cX1_doStep 89 = .ok (.iconst 0, 1) := dk_3 (dk_at dksX1_doStep_3 22 rfl rfl)
theorem dX1_doStep_90 : decode cX1_doStep 90 = .ok (.istore_n 3, 1) := dk_62 (dk_at dksX1_doStep_3 23 rfl rfl)
theorem dX1_doStep_91 : decode cX1_doStep 91 = .ok (.iload_n 3, 1) := dk_29 (dk_at dksX1_doStep_4 0 rfl rfl)
theorem dX1_doStep_92 : decode cX1_doStep 92 = .ok (.iload_n 2, 1) := dk_28 (dk_at dksX1_doStep_4 1 rfl rfl)
theorem dX1_doStep_93 : decode cX1_doStep 93 = .ok (.if_icmp .ge 13, 3) := dk_162 0 13 (dk_at dksX1_doStep_4 2 rfl rfl)
theorem dX1_doStep_96 : decode cX1_doStep 96 = .ok (.aload_n 0, 1) := dk_42 (dk_at dksX1_doStep_4 5 rfl rfl)
theorem dX1_doStep_97 : decode cX1_doStep 97 = .ok (.invokevirtual 433, 3) := dk_182 1 177 (dk_at dksX1_doStep_4 6 rfl rfl)
theorem dX1_doStep_100 : decode cX1_doStep 100 = .ok (.iinc 3 1, 3) := dk_132 3 1 (dk_at dksX1_doStep_4 9 rfl rfl)
theorem dX1_doStep_103 : decode cX1_doStep 103 = .ok (.goto (-12), 3) := dk_167 255 244 (dk_at dksX1_doStep_4 12 rfl rfl)
theorem dX1_doStep_106 : decode cX1_doStep 106 = .ok (.iconst 0, 1) := dk_3 (dk_at dksX1_doStep_4 15 rfl rfl)
theorem dX1_doStep_107 : decode cX1_doStep 107 = .ok (.ireturn, 1) := dk_172 (dk_at dksX1_doStep_4 16 rfl rfl)
theorem dX1_doStep_108 : decode cX1_doStep 108 = .ok (.aload_n 0, 1) := dk_42 (dk_at dksX1_doStep_4 17 rfl rfl)
theorem dX1_doStep_109 : decode cX1_doStep 109 = .ok (.aload_n 0, 1) := dk_42 (dk_at dksX1_doStep_4 18 rfl rfl)
theorem dX1_doStep_110 : decode cX1_doStep 110 = .ok (.iload_n 2, 1) := dk_28 (dk_at dksX1_doStep_4 19 rfl rfl)
theorem dX1_doStep_111 : decode cX1_doStep 111 = .ok (.invokevirtual 439, 3) := dk_182 1 183 (dk_at dksX1_doStep_4 20 rfl rfl)
theorem dX1_doStep_114 : decode cX1_doStep 114 = .ok (.invokevirtual 427, 3) := dk_182 1 171 (dk_at dksX1_doStep_5 0 rfl rfl)
theorem dX1_doStep_117 : decode cX1_doStep 117 = .ok (.iconst 0, 1) := dk_3 (dk_at dksX1_doStep_5 3 rfl rfl)
theorem dX1_doStep_118 : decode cX1_doStep 118 = .ok (.ireturn, 1) := dk_172 (dk_at dksX1_doStep_5 4 rfl rfl)
abbrev cX1_takeBack : ByteArray := prog_1_method_89_code
def yX1_takeBack : MethodName := ⟨RX1, "takeBack", "()V"⟩
def dkwX1_takeBack_1 : List UInt8 := [167, 255, 234, 177]
abbrev dktX1_takeBack_1 : List UInt8 := dkwX1_takeBack_1 ++ []
def dkwX1_takeBack_0 : List UInt8 := [3, 60, 27, 17, 1, 19, 162, 0, 21, 42, 180, 0, 58, 27, 42, 180, 0, 64, 27, 46, 79, 132, 1, 1]
abbrev dktX1_takeBack_0 : List UInt8 := dkwX1_takeBack_0 ++ dktX1_takeBack_1
theorem dksX1_takeBack_0 : cX1_takeBack.data.toList.drop 0 = dktX1_takeBack_0 := by decide +kernel
theorem dksX1_takeBack_1 : cX1_takeBack.data.toList.drop 24 = dktX1_takeBack_1 := dk_seg dksX1_takeBack_0 24 rfl rfl
theorem dX1_takeBack_0 : decode cX1_takeBack 0 = .ok (.iconst 0, 1) := dk_3 (dk_at dksX1_takeBack_0 0 rfl rfl)
theorem dX1_takeBack_1 : decode cX1_takeBack 1 = .ok (.istore_n 1, 1) := dk_60 (dk_at dksX1_takeBack_0 1 rfl rfl)
theorem dX1_takeBack_2 : decode cX1_takeBack 2 = .ok (.iload_n 1, 1) := dk_27 (dk_at dksX1_takeBack_0 2 rfl rfl)
theorem dX1_takeBack_3 : decode cX1_takeBack 3 = .ok (.sipush 275, 3) := dk_17 1 19 (dk_at dksX1_takeBack_0 3 rfl rfl)
theorem dX1_takeBack_6 : decode cX1_takeBack 6 = .ok (.if_icmp .ge 21, 3) := dk_162 0 21 (dk_at dksX1_takeBack_0 6 rfl rfl)
theorem dX1_takeBack_9 : decode cX1_takeBack 9 = .ok (.aload_n 0, 1) := dk_42 (dk_at dksX1_takeBack_0 9 rfl rfl)
theorem dX1_takeBack_10 : decode cX1_takeBack 10 = .ok (.getfield 58, 3) := dk_180 0 58 (dk_at dksX1_takeBack_0 10 rfl rfl)
theorem dX1_takeBack_13 : decode cX1_takeBack 13 = .ok (.iload_n 1, 1) := dk_27 (dk_at dksX1_takeBack_0 13 rfl rfl)
theorem dX1_takeBack_14 : decode cX1_takeBack 14 = .ok (.aload_n 0, 1) := dk_42 (dk_at dksX1_takeBack_0 14 rfl rfl)
theorem dX1_takeBack_15 : decode cX1_takeBack 15 = .ok (.getfield 64, 3) := dk_180 0 64 (dk_at dksX1_takeBack_0 15 rfl rfl)
theorem dX1_takeBack_18 : decode cX1_takeBack 18 = .ok (.iload_n 1, 1) := dk_27 (dk_at dksX1_takeBack_0 18 rfl rfl)
theorem dX1_takeBack_19 : decode cX1_takeBack 19 = .ok (.iaload, 1) := dk_46 (dk_at dksX1_takeBack_0 19 rfl rfl)
theorem dX1_takeBack_20 : decode cX1_takeBack 20 = .ok (.iastore, 1) := dk_79 (dk_at dksX1_takeBack_0 20 rfl rfl)
theorem dX1_takeBack_21 : decode cX1_takeBack 21 = .ok (.iinc 1 1, 3) := dk_132 1 1 (dk_at dksX1_takeBack_0 21 rfl rfl)
theorem dX1_takeBack_24 : decode cX1_takeBack 24 = .ok (.goto (-22), 3) := dk_167 255 234 (dk_at dksX1_takeBack_1 0 rfl rfl)
theorem dX1_takeBack_27 : decode cX1_takeBack 27 = .ok (.return_, 1) := dk_177 (dk_at dksX1_takeBack_1 3 rfl rfl)
abbrev cX1_perform : ByteArray := prog_1_method_91_code
def yX1_perform : MethodName := ⟨RX1, "perform", "(I)I"⟩
def dkwX1_perform_4 : List UInt8 := [172]
abbrev dktX1_perform_4 : List UInt8 := dkwX1_perform_4 ++ []
def dkwX1_perform_3 : List UInt8 := [182, 1, 213, 87, 167, 0, 13, 42, 182, 1, 155, 42, 29, 182, 1, 207, 87, 132, 2, 1, 167, 255, 183, 28]
abbrev dktX1_perform_3 : List UInt8 := dkwX1_perform_3 ++ dktX1_perform_4
def dkwX1_perform_2 : List UInt8 := [104, 28, 96, 104, 62, 42, 180, 0, 39, 29, 46, 6, 160, 0, 19, 42, 42, 180, 0, 39, 29, 4, 96, 46]
abbrev dktX1_perform_2 : List UInt8 := dkwX1_perform_2 ++ dktX1_perform_3
def dkwX1_perform_1 : List UInt8 := [27, 46, 162, 0, 69, 42, 7, 16, 16, 27, 104, 28, 96, 104, 182, 1, 204, 153, 0, 54, 7, 16, 16, 27]
abbrev dktX1_perform_1 : List UInt8 := dkwX1_perform_1 ++ dktX1_perform_2
def dkwX1_perform_0 : List UInt8 := [42, 182, 1, 128, 153, 0, 11, 42, 27, 182, 1, 197, 154, 0, 5, 2, 172, 3, 61, 28, 42, 180, 0, 42]
abbrev dktX1_perform_0 : List UInt8 := dkwX1_perform_0 ++ dktX1_perform_1
theorem dksX1_perform_0 : cX1_perform.data.toList.drop 0 = dktX1_perform_0 := by decide +kernel
theorem dksX1_perform_1 : cX1_perform.data.toList.drop 24 = dktX1_perform_1 := dk_seg dksX1_perform_0 24 rfl rfl
theorem dksX1_perform_2 : cX1_perform.data.toList.drop 48 = dktX1_perform_2 := dk_seg dksX1_perform_1 24 rfl rfl
theorem dksX1_perform_3 : cX1_perform.data.toList.drop 72 = dktX1_perform_3 := dk_seg dksX1_perform_2 24 rfl rfl
theorem dksX1_perform_4 : cX1_perform.data.toList.drop 96 = dktX1_perform_4 := dk_seg dksX1_perform_3 24 rfl rfl
theorem dX1_perform_0 : decode cX1_perform 0 = .ok (.aload_n 0, 1) := dk_42 (dk_at dksX1_perform_0 0 rfl rfl)
theorem dX1_perform_1 : decode cX1_perform 1 = .ok (.invokevirtual 384, 3) := dk_182 1 128 (dk_at dksX1_perform_0 1 rfl rfl)
theorem dX1_perform_4 : decode cX1_perform 4 = .ok (.ifCond .eq 11, 3) := dk_153 0 11 (dk_at dksX1_perform_0 4 rfl rfl)
theorem dX1_perform_7 : decode cX1_perform 7 = .ok (.aload_n 0, 1) := dk_42 (dk_at dksX1_perform_0 7 rfl rfl)
theorem dX1_perform_8 : decode cX1_perform 8 = .ok (.iload_n 1, 1) := dk_27 (dk_at dksX1_perform_0 8 rfl rfl)
theorem dX1_perform_9 : decode cX1_perform 9 = .ok (.invokevirtual 453, 3) := dk_182 1 197 (dk_at dksX1_perform_0 9 rfl rfl)
theorem dX1_perform_12 : decode cX1_perform 12 = .ok (.ifCond .ne 5, 3) := dk_154 0 5 (dk_at dksX1_perform_0 12 rfl rfl)
theorem dX1_perform_15 : decode cX1_perform 15 = .ok (.iconst (-1), 1) := dk_2 (dk_at dksX1_perform_0 15 rfl rfl)
theorem dX1_perform_16 : decode cX1_perform 16 = .ok (.ireturn, 1) := dk_172 (dk_at dksX1_perform_0 16 rfl rfl)
theorem dX1_perform_17 : decode cX1_perform 17 = .ok (.iconst 0, 1) := dk_3 (dk_at dksX1_perform_0 17 rfl rfl)
theorem dX1_perform_18 : decode cX1_perform 18 = .ok (.istore_n 2, 1) := dk_61 (dk_at dksX1_perform_0 18 rfl rfl)
theorem dX1_perform_19 : decode cX1_perform 19 = .ok (.iload_n 2, 1) := dk_28 (dk_at dksX1_perform_0 19 rfl rfl)
theorem dX1_perform_20 : decode cX1_perform 20 = .ok (.aload_n 0, 1) := dk_42 (dk_at dksX1_perform_0 20 rfl rfl)
theorem dX1_perform_21 : decode cX1_perform 21 = .ok (.getfield 42, 3) := dk_180 0 42 (dk_at dksX1_perform_0 21 rfl rfl)
theorem dX1_perform_24 : decode cX1_perform 24 = .ok (.iload_n 1, 1) := dk_27 (dk_at dksX1_perform_1 0 rfl rfl)
theorem dX1_perform_25 : decode cX1_perform 25 = .ok (.iaload, 1) := dk_46 (dk_at dksX1_perform_1 1 rfl rfl)
theorem dX1_perform_26 : decode cX1_perform 26 = .ok (.if_icmp .ge 69, 3) := dk_162 0 69 (dk_at dksX1_perform_1 2 rfl rfl)
theorem dX1_perform_29 : decode cX1_perform 29 = .ok (.aload_n 0, 1) := dk_42 (dk_at dksX1_perform_1 5 rfl rfl)
theorem dX1_perform_30 : decode cX1_perform 30 = .ok (.iconst 4, 1) := dk_7 (dk_at dksX1_perform_1 6 rfl rfl)
theorem dX1_perform_31 : decode cX1_perform 31 = .ok (.bipush 16, 2) := dk_16 16 (dk_at dksX1_perform_1 7 rfl rfl)
theorem dX1_perform_33 : decode cX1_perform 33 = .ok (.iload_n 1, 1) := dk_27 (dk_at dksX1_perform_1 9 rfl rfl)
theorem dX1_perform_34 : decode cX1_perform 34 = .ok (.imul, 1) := dk_104 (dk_at dksX1_perform_1 10 rfl rfl)
theorem dX1_perform_35 : decode cX1_perform 35 = .ok (.iload_n 2, 1) := dk_28 (dk_at dksX1_perform_1 11 rfl rfl)
theorem dX1_perform_36 : decode cX1_perform 36 = .ok (.iadd, 1) := dk_96 (dk_at dksX1_perform_1 12 rfl rfl)
theorem dX1_perform_37 : decode cX1_perform 37 = .ok (.imul, 1) := dk_104 (dk_at dksX1_perform_1 13 rfl rfl)
theorem dX1_perform_38 : decode cX1_perform 38 = .ok (.invokevirtual 460, 3) := dk_182 1 204 (dk_at dksX1_perform_1 14 rfl rfl)
theorem dX1_perform_41 : decode cX1_perform 41 = .ok (.ifCond .eq 54, 3) := dk_153 0 54 (dk_at dksX1_perform_1 17 rfl rfl)
theorem dX1_perform_44 : decode cX1_perform 44 = .ok (.iconst 4, 1) := dk_7 (dk_at dksX1_perform_1 20 rfl rfl)
theorem dX1_perform_45 : decode cX1_perform 45 = .ok (.bipush 16, 2) := dk_16 16 (dk_at dksX1_perform_1 21 rfl rfl)
theorem dX1_perform_47 : decode cX1_perform 47 = .ok (.iload_n 1, 1) := dk_27 (dk_at dksX1_perform_1 23 rfl rfl)
theorem dX1_perform_48 : decode cX1_perform 48 = .ok (.imul, 1) := dk_104 (dk_at dksX1_perform_2 0 rfl rfl)
theorem dX1_perform_49 : decode cX1_perform 49 = .ok (.iload_n 2, 1) := dk_28 (dk_at dksX1_perform_2 1 rfl rfl)
theorem dX1_perform_50 : decode cX1_perform 50 = .ok (.iadd, 1) := dk_96 (dk_at dksX1_perform_2 2 rfl rfl)
theorem dX1_perform_51 : decode cX1_perform 51 = .ok (.imul, 1) := dk_104 (dk_at dksX1_perform_2 3 rfl rfl)
theorem dX1_perform_52 : decode cX1_perform 52 = .ok (.istore_n 3, 1) := dk_62 (dk_at dksX1_perform_2 4 rfl rfl)
theorem dX1_perform_53 : decode cX1_perform 53 = .ok (.aload_n 0, 1) := dk_42 (dk_at dksX1_perform_2 5 rfl rfl)
theorem dX1_perform_54 : decode cX1_perform 54 = .ok (.getfield 39, 3) := dk_180 0 39 (dk_at dksX1_perform_2 6 rfl rfl)
theorem dX1_perform_57 : decode cX1_perform 57 = .ok (.iload_n 3, 1) := dk_29 (dk_at dksX1_perform_2 9 rfl rfl)
theorem dX1_perform_58 : decode cX1_perform 58 = .ok (.iaload, 1) := dk_46 (dk_at dksX1_perform_2 10 rfl rfl)
theorem dX1_perform_59 : decode cX1_perform 59 = .ok (.iconst 3, 1) := dk_6 (dk_at dksX1_perform_2 11 rfl rfl)
theorem dX1_perform_60 : decode cX1_perform 60 = .ok (.if_icmp .ne 19, 3) := dk_160 0 19 (dk_at dksX1_perform_2 12 rfl rfl)
theorem dX1_perform_63 : decode cX1_perform 63 = .ok (.aload_n 0, 1) := dk_42 (dk_at dksX1_perform_2 15 rfl rfl)
theorem dX1_perform_64 : decode cX1_perform 64 = .ok (.aload_n 0, 1) := dk_42 (dk_at dksX1_perform_2 16 rfl rfl)
theorem dX1_perform_65 : decode cX1_perform 65 = .ok (.getfield 39, 3) := dk_180 0 39 (dk_at dksX1_perform_2 17 rfl rfl)
theorem dX1_perform_68 : decode cX1_perform 68 = .ok (.iload_n 3, 1) := dk_29 (dk_at dksX1_perform_2 20 rfl rfl)
theorem dX1_perform_69 : decode cX1_perform 69 = .ok (.iconst 1, 1) := dk_4 (dk_at dksX1_perform_2 21 rfl rfl)
theorem dX1_perform_70 : decode cX1_perform 70 = .ok (.iadd, 1) := dk_96 (dk_at dksX1_perform_2 22 rfl rfl)
theorem dX1_perform_71 : decode cX1_perform 71 = .ok (.iaload, 1) := dk_46 (dk_at dksX1_perform_2 23 rfl rfl)
theorem dX1_perform_72 : decode cX1_perform 72 = .ok (.invokevirtual 469, 3) := dk_182 1 213 (dk_at dksX1_perform_3 0 rfl rfl)
theorem dX1_perform_75 : decode cX1_perform 75 = .ok (.pop, 1) := dk_87 (dk_at dksX1_perform_3 3 rfl rfl)
theorem dX1_perform_76 : decode cX1_perform 76 = .ok (.goto 13, 3) := dk_167 0 13 (dk_at dksX1_perform_3 4 rfl rfl)
theorem dX1_perform_79 : decode cX1_perform 79 = .ok (.aload_n 0, 1) := dk_42 (dk_at dksX1_perform_3 7 rfl rfl)
theorem dX1_perform_80 : decode cX1_perform 80 = .ok (.invokevirtual 411, 3) := dk_182 1 155 (dk_at dksX1_perform_3 8 rfl rfl)
theorem dX1_perform_83 : decode cX1_perform 83 = .ok (.aload_n 0, 1) := dk_42 (dk_at dksX1_perform_3 11 rfl rfl)
theorem dX1_perform_84 : decode cX1_perform 84 = .ok (.iload_n 3, 1) := dk_29 (dk_at dksX1_perform_3 12 rfl rfl)
theorem dX1_perform_85 : decode cX1_perform 85 = .ok (.invokevirtual 463, 3) := dk_182 1 207 (dk_at dksX1_perform_3 13 rfl rfl)
theorem dX1_perform_88 : decode cX1_perform 88 = .ok (.pop, 1) := dk_87 (dk_at dksX1_perform_3 16 rfl rfl)
theorem dX1_perform_89 : decode cX1_perform 89 = .ok (.iinc 2 1, 3) := dk_132 2 1 (dk_at dksX1_perform_3 17 rfl rfl)
theorem dX1_perform_92 : decode cX1_perform 92 = .ok (.goto (-73), 3) := dk_167 255 183 (dk_at dksX1_perform_3 20 rfl rfl)
theorem dX1_perform_95 : decode cX1_perform 95 = .ok (.iload_n 2, 1) := dk_28 (dk_at dksX1_perform_3 23 rfl rfl)
theorem dX1_perform_96 : decode cX1_perform 96 = .ok (.ireturn, 1) := dk_172 (dk_at dksX1_perform_4 0 rfl rfl)
abbrev cX1_dinner : ByteArray := prog_1_method_95_code
def yX1_dinner : MethodName := ⟨RX1, "dinner", "(II)I"⟩
def dkwX1_dinner_6 : List UInt8 := [154, 0, 7, 29, 167, 0, 5, 21, 4, 172]
abbrev dktX1_dinner_6 : List UInt8 := dkwX1_dinner_6 ++ []
def dkwX1_dinner_5 : List UInt8 := [167, 0, 10, 21, 5, 62, 21, 7, 54, 4, 132, 5, 1, 167, 255, 163, 29, 2, 159, 0, 7, 28]
abbrev dktX1_dinner_5 : List UInt8 := dkwX1_dinner_5 ++ dktX1_dinner_6
def dkwX1_dinner_4 : List UInt8 := [21, 4, 161, 0, 30, 21, 7, 21, 4, 160, 0, 16, 21, 6, 42, 29, 182, 1, 96, 161, 0, 6]
abbrev dktX1_dinner_4 : List UInt8 := dkwX1_dinner_4 ++ dktX1_dinner_5
def dkwX1_dinner_3 : List UInt8 := [167, 0, 56, 16, 100, 42, 21, 5, 182, 1, 222, 104, 21, 6, 108, 54, 7, 29, 2, 159, 0, 30, 21, 7]
abbrev dktX1_dinner_3 : List UInt8 := dkwX1_dinner_3 ++ dktX1_dinner_4
def dkwX1_dinner_2 : List UInt8 := [42, 21, 5, 182, 1, 96, 54, 6, 21, 6, 27, 161, 0, 68, 42, 21, 5, 182, 1, 219, 154, 0, 6]
abbrev dktX1_dinner_2 : List UInt8 := dkwX1_dinner_2 ++ dktX1_dinner_3
def dkwX1_dinner_1 : List UInt8 := [154, 0, 5, 2, 172, 2, 62, 3, 54, 4, 4, 54, 5, 21, 5, 4, 42, 182, 1, 84, 120, 162, 0, 88]
abbrev dktX1_dinner_1 : List UInt8 := dkwX1_dinner_1 ++ dktX1_dinner_2
def dkwX1_dinner_0 : List UInt8 := [42, 182, 1, 128, 153, 0, 22, 27, 4, 16, 30, 184, 0, 246, 153, 0, 12, 28, 3, 4, 184, 0, 246]
abbrev dktX1_dinner_0 : List UInt8 := dkwX1_dinner_0 ++ dktX1_dinner_1
theorem dksX1_dinner_0 : cX1_dinner.data.toList.drop 0 = dktX1_dinner_0 := by decide +kernel
theorem dksX1_dinner_1 : cX1_dinner.data.toList.drop 23 = dktX1_dinner_1 := dk_seg dksX1_dinner_0 23 rfl rfl
theorem dksX1_dinner_2 : cX1_dinner.data.toList.drop 47 = dktX1_dinner_2 := dk_seg dksX1_dinner_1 24 rfl rfl
theorem dksX1_dinner_3 : cX1_dinner.data.toList.drop 70 = dktX1_dinner_3 := dk_seg dksX1_dinner_2 23 rfl rfl
theorem dksX1_dinner_4 : cX1_dinner.data.toList.drop 94 = dktX1_dinner_4 := dk_seg dksX1_dinner_3 24 rfl rfl
theorem dksX1_dinner_5 : cX1_dinner.data.toList.drop 116 = dktX1_dinner_5 := dk_seg dksX1_dinner_4 22 rfl rfl
theorem dksX1_dinner_6 : cX1_dinner.data.toList.drop 138 = dktX1_dinner_6 := dk_seg dksX1_dinner_5 22 rfl rfl
theorem dX1_dinner_0 : decode cX1_dinner 0 = .ok (.aload_n 0, 1) := dk_42 (dk_at dksX1_dinner_0 0 rfl rfl)
theorem dX1_dinner_1 : decode cX1_dinner 1 = .ok (.invokevirtual 384, 3) := dk_182 1 128 (dk_at dksX1_dinner_0 1 rfl rfl)
theorem dX1_dinner_4 : decode cX1_dinner 4 = .ok (.ifCond .eq 22, 3) := dk_153 0 22 (dk_at dksX1_dinner_0 4 rfl rfl)
theorem dX1_dinner_7 : decode cX1_dinner 7 = .ok (.iload_n 1, 1) := dk_27 (dk_at dksX1_dinner_0 7 rfl rfl)
theorem dX1_dinner_8 : decode cX1_dinner 8 = .ok (.iconst 1, 1) := dk_4 (dk_at dksX1_dinner_0 8 rfl rfl)
theorem dX1_dinner_9 : decode cX1_dinner 9 = .ok (.bipush 30, 2) := dk_16 30 (dk_at dksX1_dinner_0 9 rfl rfl)
theorem dX1_dinner_11 : decode cX1_dinner 11 = .ok (.invokestatic 246, 3) := dk_184 0 246 (dk_at dksX1_dinner_0 11 rfl rfl)
theorem dX1_dinner_14 : decode cX1_dinner 14 = .ok (.ifCond .eq 12, 3) := dk_153 0 12 (dk_at dksX1_dinner_0 14 rfl rfl)
theorem dX1_dinner_17 : decode cX1_dinner 17 = .ok (.iload_n 2, 1) := dk_28 (dk_at dksX1_dinner_0 17 rfl rfl)
theorem dX1_dinner_18 : decode cX1_dinner 18 = .ok (.iconst 0, 1) := dk_3 (dk_at dksX1_dinner_0 18 rfl rfl)
theorem dX1_dinner_19 : decode cX1_dinner 19 = .ok (.iconst 1, 1) := dk_4 (dk_at dksX1_dinner_0 19 rfl rfl)
theorem dX1_dinner_20 : decode cX1_dinner 20 = .ok (.invokestatic 246, 3) := dk_184 0 246 (dk_at dksX1_dinner_0 20 rfl rfl)
theorem dX1_dinner_23 : decode cX1_dinner 23 = .ok (.ifCond .ne 5, 3) := dk_154 0 5 (dk_at dksX1_dinner_1 0 rfl rfl)
theorem dX1_dinner_26 : decode cX1_dinner 26 = .ok (.iconst (-1), 1) := dk_2 (dk_at dksX1_dinner_1 3 rfl rfl)
theorem dX1_dinner_27 : decode cX1_dinner 27 = .ok (.ireturn, 1) := dk_172 (dk_at dksX1_dinner_1 4 rfl rfl)
theorem dX1_dinner_28 : decode cX1_dinner 28 = .ok (.iconst (-1), 1) := dk_2 (dk_at dksX1_dinner_1 5 rfl rfl)
theorem dX1_dinner_29 : decode cX1_dinner 29 = .ok (.istore_n 3, 1) := dk_62 (dk_at dksX1_dinner_1 6 rfl rfl)
theorem dX1_dinner_30 : decode cX1_dinner 30 = .ok (.iconst 0, 1) := dk_3 (dk_at dksX1_dinner_1 7 rfl rfl)
theorem dX1_dinner_31 : decode cX1_dinner 31 = .ok (.istore 4, 2) := dk_54 4 (dk_at dksX1_dinner_1 8 rfl rfl)
theorem dX1_dinner_33 : decode cX1_dinner 33 = .ok (.iconst 1, 1) := dk_4 (dk_at dksX1_dinner_1 10 rfl rfl)
theorem dX1_dinner_34 : decode cX1_dinner 34 = .ok (.istore 5, 2) := dk_54 5 (dk_at dksX1_dinner_1 11 rfl rfl)
theorem dX1_dinner_36 : decode cX1_dinner 36 = .ok (.iload 5, 2) := dk_21 5 (dk_at dksX1_dinner_1 13 rfl rfl)
theorem dX1_dinner_38 : decode cX1_dinner 38 = .ok (.iconst 1, 1) := dk_4 (dk_at dksX1_dinner_1 15 rfl rfl)
theorem dX1_dinner_39 : decode cX1_dinner 39 = .ok (.aload_n 0, 1) := dk_42 (dk_at dksX1_dinner_1 16 rfl rfl)
theorem dX1_dinner_40 : decode cX1_dinner 40 = .ok (.invokevirtual 340, 3) := dk_182 1 84 (dk_at dksX1_dinner_1 17 rfl rfl)
theorem dX1_dinner_43 : decode cX1_dinner 43 = .ok (.ishl, 1) := dk_120 (dk_at dksX1_dinner_1 20 rfl rfl)
theorem dX1_dinner_44 : decode cX1_dinner 44 = .ok (.if_icmp .ge 88, 3) := dk_162 0 88 (dk_at dksX1_dinner_1 21 rfl rfl)
theorem dX1_dinner_47 : decode cX1_dinner 47 = .ok (.aload_n 0, 1) := dk_42 (dk_at dksX1_dinner_2 0 rfl rfl)
theorem dX1_dinner_48 : decode cX1_dinner 48 = .ok (.iload 5, 2) := dk_21 5 (dk_at dksX1_dinner_2 1 rfl rfl)
theorem dX1_dinner_50 : decode cX1_dinner 50 = .ok (.invokevirtual 352, 3) := dk_182 1 96 (dk_at dksX1_dinner_2 3 rfl rfl)
theorem dX1_dinner_53 : decode cX1_dinner 53 = .ok (.istore 6, 2) := dk_54 6 (dk_at dksX1_dinner_2 6 rfl rfl)
theorem dX1_dinner_55 : decode cX1_dinner 55 = .ok (.iload 6, 2) := dk_21 6 (dk_at dksX1_dinner_2 8 rfl rfl)
theorem dX1_dinner_57 : decode cX1_dinner 57 = .ok (.iload_n 1, 1) := dk_27 (dk_at dksX1_dinner_2 10 rfl rfl)
theorem dX1_dinner_58 : decode cX1_dinner 58 = .ok (.if_icmp .lt 68, 3) := dk_161 0 68 (dk_at dksX1_dinner_2 11 rfl rfl)
theorem dX1_dinner_61 : decode cX1_dinner 61 = .ok (.aload_n 0, 1) := dk_42 (dk_at dksX1_dinner_2 14 rfl rfl)
theorem dX1_dinner_62 : decode cX1_dinner 62 = .ok (.iload 5, 2) := dk_21 5 (dk_at dksX1_dinner_2 15 rfl rfl)
theorem dX1_dinner_64 : decode cX1_dinner 64 = .ok (.invokevirtual 475, 3) := dk_182 1 219 (dk_at dksX1_dinner_2 17 rfl rfl)
theorem dX1_dinner_67 : decode cX1_dinner 67 = .ok (.ifCond .ne 6, 3) := dk_154 0 6 (dk_at dksX1_dinner_2 20 rfl rfl)
theorem dX1_dinner_70 : decode cX1_dinner 70 = .ok (.goto 56, 3) := dk_167 0 56 (dk_at dksX1_dinner_3 0 rfl rfl)
theorem dX1_dinner_73 : decode cX1_dinner 73 = .ok (.bipush 100, 2) := dk_16 100 (dk_at dksX1_dinner_3 3 rfl rfl)
theorem dX1_dinner_75 : decode cX1_dinner 75 = .ok (.aload_n 0, 1) := dk_42 (dk_at dksX1_dinner_3 5 rfl rfl)
theorem dX1_dinner_76 : decode cX1_dinner 76 = .ok (.iload 5, 2) := dk_21 5 (dk_at dksX1_dinner_3 6 rfl rfl)
theorem dX1_dinner_78 : decode cX1_dinner 78 = .ok (.invokevirtual 478, 3) := dk_182 1 222 (dk_at dksX1_dinner_3 8 rfl rfl)
theorem dX1_dinner_81 : decode cX1_dinner 81 = .ok (.imul, 1) := dk_104 (dk_at dksX1_dinner_3 11 rfl rfl)
theorem dX1_dinner_82 : decode cX1_dinner 82 = .ok (.iload 6, 2) := dk_21 6 (dk_at dksX1_dinner_3 12 rfl rfl)
theorem dX1_dinner_84 : decode cX1_dinner 84 = .ok (.idiv, 1) := dk_108 (dk_at dksX1_dinner_3 14 rfl rfl)
theorem dX1_dinner_85 : decode cX1_dinner 85 = .ok (.istore 7, 2) := dk_54 7 (dk_at dksX1_dinner_3 15 rfl rfl)
theorem dX1_dinner_87 : decode cX1_dinner 87 = .ok (.iload_n 3, 1) := dk_29 (dk_at dksX1_dinner_3 17 rfl rfl)
theorem dX1_dinner_88 : decode cX1_dinner 88 = .ok (.iconst (-1), 1) := dk_2 (dk_at dksX1_dinner_3 18 rfl rfl)
theorem dX1_dinner_89 : decode cX1_dinner 89 = .ok (.if_icmp .eq 30, 3) := dk_159 0 30 (dk_at dksX1_dinner_3 19 rfl rfl)
theorem dX1_dinner_92 : decode cX1_dinner 92 = .ok (.iload 7, 2) := dk_21 7 (dk_at dksX1_dinner_3 22 rfl rfl)
theorem dX1_dinner_94 : decode cX1_dinner 94 = .ok (.iload 4, 2) := dk_21 4 (dk_at dksX1_dinner_4 0 rfl rfl)
theorem dX1_dinner_96 : decode cX1_dinner 96 = .ok (.if_icmp .lt 30, 3) := dk_161 0 30 (dk_at dksX1_dinner_4 2 rfl rfl)
theorem dX1_dinner_99 : decode cX1_dinner 99 = .ok (.iload 7, 2) := dk_21 7 (dk_at dksX1_dinner_4 5 rfl rfl)
theorem dX1_dinner_101 : decode cX1_dinner 101 = .ok (.iload 4, 2) := dk_21 4 (dk_at dksX1_dinner_4 7 rfl rfl)
theorem dX1_dinner_103 : decode cX1_dinner 103 = .ok (.if_icmp .ne 16, 3) := dk_160 0 16 (dk_at dksX1_dinner_4 9 rfl rfl)
theorem dX1_dinner_106 : decode cX1_dinner 106 = .ok (.iload 6, 2) := dk_21 6 (dk_at dksX1_dinner_4 12 rfl rfl)
theorem dX1_dinner_108 : decode cX1_dinner 108 = .ok (.aload_n 0, 1) := dk_42 (dk_at dksX1_dinner_4 14 rfl rfl)
theorem dX1_dinner_109 : decode cX1_dinner 109 = .ok (.iload_n 3, 1) := dk_29 (dk_at dksX1_dinner_4 15 rfl rfl)
theorem dX1_dinner_110 : decode cX1_dinner 110 = .ok (.invokevirtual 352, 3) := dk_182 1 96 (dk_at dksX1_dinner_4 16 rfl rfl)
theorem dX1_dinner_113 : decode cX1_dinner 113 = .ok (.if_icmp .lt 6, 3) := dk_161 0 6 (dk_at dksX1_dinner_4 19 rfl rfl)
theorem dX1_dinner_116 : decode cX1_dinner 116 = .ok (.goto 10, 3) := dk_167 0 10 (dk_at dksX1_dinner_5 0 rfl rfl)
theorem dX1_dinner_119 : decode cX1_dinner 119 = .ok (.iload 5, 2) := dk_21 5 (dk_at dksX1_dinner_5 3 rfl rfl)
theorem dX1_dinner_121 : decode cX1_dinner 121 = .ok (.istore_n 3, 1) := dk_62 (dk_at dksX1_dinner_5 5 rfl rfl)
theorem dX1_dinner_122 : decode cX1_dinner 122 = .ok (.iload 7, 2) := dk_21 7 (dk_at dksX1_dinner_5 6 rfl rfl)
theorem dX1_dinner_124 : decode cX1_dinner 124 = .ok (.istore 4, 2) := dk_54 4 (dk_at dksX1_dinner_5 8 rfl rfl)
theorem dX1_dinner_126 : decode cX1_dinner 126 = .ok (.iinc 5 1, 3) := dk_132 5 1 (dk_at dksX1_dinner_5 10 rfl rfl)
theorem dX1_dinner_129 : decode cX1_dinner 129 = .ok (.goto (-93), 3) := dk_167 255 163 (dk_at dksX1_dinner_5 13 rfl rfl)
theorem dX1_dinner_132 : decode cX1_dinner 132 = .ok (.iload_n 3, 1) := dk_29 (dk_at dksX1_dinner_5 16 rfl rfl)
theorem dX1_dinner_133 : decode cX1_dinner 133 = .ok (.iconst (-1), 1) := dk_2 (dk_at dksX1_dinner_5 17 rfl rfl)
theorem dX1_dinner_134 : decode cX1_dinner 134 = .ok (.if_icmp .eq 7, 3) := dk_159 0 7 (dk_at dksX1_dinner_5 18 rfl rfl)
theorem dX1_dinner_137 : decode cX1_dinner 137 = .ok (.iload_n 2, 1) := dk_28 (dk_at dksX1_dinner_5 21 rfl rfl)
theorem dX1_dinner_138 : decode cX1_dinner 138 = .ok (.ifCond .ne 7, 3) := dk_154 0 7 (dk_at dksX1_dinner_6 0 rfl rfl)
theorem dX1_dinner_141 : decode cX1_dinner 141 = .ok (.iload_n 3, 1) := dk_29 (dk_at dksX1_dinner_6 3 rfl rfl)
theorem dX1_dinner_142 : decode cX1_dinner 142 = .ok (.goto 5, 3) := dk_167 0 5 (dk_at dksX1_dinner_6 4 rfl rfl)
theorem dX1_dinner_145 : decode cX1_dinner 145 = .ok (.iload 4, 2) := dk_21 4 (dk_at dksX1_dinner_6 7 rfl rfl)
theorem dX1_dinner_147 : decode cX1_dinner 147 = .ok (.ireturn, 1) := dk_172 (dk_at dksX1_dinner_6 9 rfl rfl)
abbrev cX1_isMeal : ByteArray := prog_1_method_93_code
def yX1_isMeal : MethodName := ⟨RX1, "isMeal", "(I)Z"⟩
def dkwX1_isMeal_2 : List UInt8 := [182, 1, 216, 154, 0, 5, 3, 172, 132, 3, 1, 167, 255, 211, 132, 2, 1, 167, 255, 195, 4, 172]
abbrev dktX1_isMeal_2 : List UInt8 := dkwX1_isMeal_2 ++ []
def dkwX1_isMeal_1 : List UInt8 := [153, 0, 32, 27, 29, 184, 1, 7, 153, 0, 24, 42, 42, 28, 3, 182, 1, 93, 42, 29, 3, 182, 1, 93]
abbrev dktX1_isMeal_1 : List UInt8 := dkwX1_isMeal_1 ++ dktX1_isMeal_2
def dkwX1_isMeal_0 : List UInt8 := [3, 61, 28, 42, 182, 1, 84, 162, 0, 59, 3, 62, 29, 28, 162, 0, 46, 27, 28, 184, 1, 7]
abbrev dktX1_isMeal_0 : List UInt8 := dkwX1_isMeal_0 ++ dktX1_isMeal_1
theorem dksX1_isMeal_0 : cX1_isMeal.data.toList.drop 0 = dktX1_isMeal_0 := by decide +kernel
theorem dksX1_isMeal_1 : cX1_isMeal.data.toList.drop 22 = dktX1_isMeal_1 := dk_seg dksX1_isMeal_0 22 rfl rfl
theorem dksX1_isMeal_2 : cX1_isMeal.data.toList.drop 46 = dktX1_isMeal_2 := dk_seg dksX1_isMeal_1 24 rfl rfl
theorem dX1_isMeal_0 : decode cX1_isMeal 0 = .ok (.iconst 0, 1) := dk_3 (dk_at dksX1_isMeal_0 0 rfl rfl)
theorem dX1_isMeal_1 : decode cX1_isMeal 1 = .ok (.istore_n 2, 1) := dk_61 (dk_at dksX1_isMeal_0 1 rfl rfl)
theorem dX1_isMeal_2 : decode cX1_isMeal 2 = .ok (.iload_n 2, 1) := dk_28 (dk_at dksX1_isMeal_0 2 rfl rfl)
theorem dX1_isMeal_3 : decode cX1_isMeal 3 = .ok (.aload_n 0, 1) := dk_42 (dk_at dksX1_isMeal_0 3 rfl rfl)
theorem dX1_isMeal_4 : decode cX1_isMeal 4 = .ok (.invokevirtual 340, 3) := dk_182 1 84 (dk_at dksX1_isMeal_0 4 rfl rfl)
theorem dX1_isMeal_7 : decode cX1_isMeal 7 = .ok (.if_icmp .ge 59, 3) := dk_162 0 59 (dk_at dksX1_isMeal_0 7 rfl rfl)
theorem dX1_isMeal_10 : decode cX1_isMeal 10 = .ok (.iconst 0, 1) := dk_3 (dk_at dksX1_isMeal_0 10 rfl rfl)
theorem dX1_isMeal_11 : decode cX1_isMeal 11 = .ok (.istore_n 3, 1) := dk_62 (dk_at dksX1_isMeal_0 11 rfl rfl)
theorem dX1_isMeal_12 : decode cX1_isMeal 12 = .ok (.iload_n 3, 1) := dk_29 (dk_at dksX1_isMeal_0 12 rfl rfl)
theorem dX1_isMeal_13 : decode cX1_isMeal 13 = .ok (.iload_n 2, 1) := dk_28 (dk_at dksX1_isMeal_0 13 rfl rfl)
theorem dX1_isMeal_14 : decode cX1_isMeal 14 = .ok (.if_icmp .ge 46, 3) := dk_162 0 46 (dk_at dksX1_isMeal_0 14 rfl rfl)
theorem dX1_isMeal_17 : decode cX1_isMeal 17 = .ok (.iload_n 1, 1) := dk_27 (dk_at dksX1_isMeal_0 17 rfl rfl)
theorem dX1_isMeal_18 : decode cX1_isMeal 18 = .ok (.iload_n 2, 1) := dk_28 (dk_at dksX1_isMeal_0 18 rfl rfl)
theorem dX1_isMeal_19 : decode cX1_isMeal 19 = .ok (.invokestatic 263, 3) := dk_184 1 7 (dk_at dksX1_isMeal_0 19 rfl rfl)
theorem dX1_isMeal_22 : decode cX1_isMeal 22 = .ok (.ifCond .eq 32, 3) := dk_153 0 32 (dk_at dksX1_isMeal_1 0 rfl rfl)
theorem dX1_isMeal_25 : decode cX1_isMeal 25 = .ok (.iload_n 1, 1) := dk_27 (dk_at dksX1_isMeal_1 3 rfl rfl)
theorem dX1_isMeal_26 : decode cX1_isMeal 26 = .ok (.iload_n 3, 1) := dk_29 (dk_at dksX1_isMeal_1 4 rfl rfl)
theorem dX1_isMeal_27 : decode cX1_isMeal 27 = .ok (.invokestatic 263, 3) := dk_184 1 7 (dk_at dksX1_isMeal_1 5 rfl rfl)
theorem dX1_isMeal_30 : decode cX1_isMeal 30 = .ok (.ifCond .eq 24, 3) := dk_153 0 24 (dk_at dksX1_isMeal_1 8 rfl rfl)
theorem dX1_isMeal_33 : decode cX1_isMeal 33 = .ok (.aload_n 0, 1) := dk_42 (dk_at dksX1_isMeal_1 11 rfl rfl)
theorem dX1_isMeal_34 : decode cX1_isMeal 34 = .ok (.aload_n 0, 1) := dk_42 (dk_at dksX1_isMeal_1 12 rfl rfl)
theorem dX1_isMeal_35 : decode cX1_isMeal 35 = .ok (.iload_n 2, 1) := dk_28 (dk_at dksX1_isMeal_1 13 rfl rfl)
theorem dX1_isMeal_36 : decode cX1_isMeal 36 = .ok (.iconst 0, 1) := dk_3 (dk_at dksX1_isMeal_1 14 rfl rfl)
theorem dX1_isMeal_37 : decode cX1_isMeal 37 = .ok (.invokevirtual 349, 3) := dk_182 1 93 (dk_at dksX1_isMeal_1 15 rfl rfl)
theorem dX1_isMeal_40 : decode cX1_isMeal 40 = .ok (.aload_n 0, 1) := dk_42 (dk_at dksX1_isMeal_1 18 rfl rfl)
theorem dX1_isMeal_41 : decode cX1_isMeal 41 = .ok (.iload_n 3, 1) := dk_29 (dk_at dksX1_isMeal_1 19 rfl rfl)
theorem dX1_isMeal_42 : decode cX1_isMeal 42 = .ok (.iconst 0, 1) := dk_3 (dk_at dksX1_isMeal_1 20 rfl rfl)
theorem dX1_isMeal_43 : decode cX1_isMeal 43 = .ok (.invokevirtual 349, 3) := dk_182 1 93 (dk_at dksX1_isMeal_1 21 rfl rfl)
theorem dX1_isMeal_46 : decode cX1_isMeal 46 = .ok (.invokevirtual 472, 3) := dk_182 1 216 (dk_at dksX1_isMeal_2 0 rfl rfl)
theorem dX1_isMeal_49 : decode cX1_isMeal 49 = .ok (.ifCond .ne 5, 3) := dk_154 0 5 (dk_at dksX1_isMeal_2 3 rfl rfl)
theorem dX1_isMeal_52 : decode cX1_isMeal 52 = .ok (.iconst 0, 1) := dk_3 (dk_at dksX1_isMeal_2 6 rfl rfl)
theorem dX1_isMeal_53 : decode cX1_isMeal 53 = .ok (.ireturn, 1) := dk_172 (dk_at dksX1_isMeal_2 7 rfl rfl)
theorem dX1_isMeal_54 : decode cX1_isMeal 54 = .ok (.iinc 3 1, 3) := dk_132 3 1 (dk_at dksX1_isMeal_2 8 rfl rfl)
theorem dX1_isMeal_57 : decode cX1_isMeal 57 = .ok (.goto (-45), 3) := dk_167 255 211 (dk_at dksX1_isMeal_2 11 rfl rfl)
theorem dX1_isMeal_60 : decode cX1_isMeal 60 = .ok (.iinc 2 1, 3) := dk_132 2 1 (dk_at dksX1_isMeal_2 14 rfl rfl)
theorem dX1_isMeal_63 : decode cX1_isMeal 63 = .ok (.goto (-61), 3) := dk_167 255 195 (dk_at dksX1_isMeal_2 17 rfl rfl)
theorem dX1_isMeal_66 : decode cX1_isMeal 66 = .ok (.iconst 1, 1) := dk_4 (dk_at dksX1_isMeal_2 20 rfl rfl)
theorem dX1_isMeal_67 : decode cX1_isMeal 67 = .ok (.ireturn, 1) := dk_172 (dk_at dksX1_isMeal_2 21 rfl rfl)
abbrev cX1_isWith : ByteArray := prog_1_method_92_code
def yX1_isWith : MethodName := ⟨RX1, "isWith", "(II)Z"⟩
def dkwX1_isWith_1 : List UInt8 := [167, 0, 4, 3, 172]
abbrev dktX1_isWith_1 : List UInt8 := dkwX1_isWith_1 ++ []
def dkwX1_isWith_0 : List UInt8 := [27, 28, 159, 0, 21, 42, 27, 182, 1, 134, 28, 159, 0, 12, 42, 28, 182, 1, 134, 27, 160, 0, 7, 4]
abbrev dktX1_isWith_0 : List UInt8 := dkwX1_isWith_0 ++ dktX1_isWith_1
theorem dksX1_isWith_0 : cX1_isWith.data.toList.drop 0 = dktX1_isWith_0 := by decide +kernel
theorem dksX1_isWith_1 : cX1_isWith.data.toList.drop 24 = dktX1_isWith_1 := dk_seg dksX1_isWith_0 24 rfl rfl
theorem dX1_isWith_0 : decode cX1_isWith 0 = .ok (.iload_n 1, 1) := dk_27 (dk_at dksX1_isWith_0 0 rfl rfl)
theorem dX1_isWith_1 : decode cX1_isWith 1 = .ok (.iload_n 2, 1) := dk_28 (dk_at dksX1_isWith_0 1 rfl rfl)
theorem dX1_isWith_2 : decode cX1_isWith 2 = .ok (.if_icmp .eq 21, 3) := dk_159 0 21 (dk_at dksX1_isWith_0 2 rfl rfl)
theorem dX1_isWith_5 : decode cX1_isWith 5 = .ok (.aload_n 0, 1) := dk_42 (dk_at dksX1_isWith_0 5 rfl rfl)
theorem dX1_isWith_6 : decode cX1_isWith 6 = .ok (.iload_n 1, 1) := dk_27 (dk_at dksX1_isWith_0 6 rfl rfl)
theorem dX1_isWith_7 : decode cX1_isWith 7 = .ok (.invokevirtual 390, 3) := dk_182 1 134 (dk_at dksX1_isWith_0 7 rfl rfl)
theorem dX1_isWith_10 : decode cX1_isWith 10 = .ok (.iload_n 2, 1) := dk_28 (dk_at dksX1_isWith_0 10 rfl rfl)
theorem dX1_isWith_11 : decode cX1_isWith 11 = .ok (.if_icmp .eq 12, 3) := dk_159 0 12 (dk_at dksX1_isWith_0 11 rfl rfl)
theorem dX1_isWith_14 : decode cX1_isWith 14 = .ok (.aload_n 0, 1) := dk_42 (dk_at dksX1_isWith_0 14 rfl rfl)
theorem dX1_isWith_15 : decode cX1_isWith 15 = .ok (.iload_n 2, 1) := dk_28 (dk_at dksX1_isWith_0 15 rfl rfl)
theorem dX1_isWith_16 : decode cX1_isWith 16 = .ok (.invokevirtual 390, 3) := dk_182 1 134 (dk_at dksX1_isWith_0 16 rfl rfl)
theorem dX1_isWith_19 : decode cX1_isWith 19 = .ok (.iload_n 1, 1) := dk_27 (dk_at dksX1_isWith_0 19 rfl rfl)
theorem dX1_isWith_20 : decode cX1_isWith 20 = .ok (.if_icmp .ne 7, 3) := dk_160 0 7 (dk_at dksX1_isWith_0 20 rfl rfl)
theorem dX1_isWith_23 : decode cX1_isWith 23 = .ok (.iconst 1, 1) := dk_4 (dk_at dksX1_isWith_0 23 rfl rfl)
theorem dX1_isWith_24 : decode cX1_isWith 24 = .ok (.goto 4, 3) := dk_167 0 4 (dk_at dksX1_isWith_1 0 rfl rfl)
theorem dX1_isWith_27 : decode cX1_isWith 27 = .ok (.iconst 0, 1) := dk_3 (dk_at dksX1_isWith_1 3 rfl rfl)
theorem dX1_isWith_28 : decode cX1_isWith 28 = .ok (.ireturn, 1) := dk_172 (dk_at dksX1_isWith_1 4 rfl rfl)
abbrev cX1_valueOfSet : ByteArray := prog_1_method_94_code
def yX1_valueOfSet : MethodName := ⟨RX1, "valueOfSet", "(I)I"⟩
def dkwX1_valueOfSet_1 : List UInt8 := [182, 1, 125, 96, 61, 132, 3, 1, 167, 255, 229, 28, 172]
abbrev dktX1_valueOfSet_1 : List UInt8 := dkwX1_valueOfSet_1 ++ []
def dkwX1_valueOfSet_0 : List UInt8 := [3, 61, 3, 62, 29, 42, 182, 1, 84, 162, 0, 25, 27, 29, 184, 1, 7, 153, 0, 11, 28, 42, 29]
abbrev dktX1_valueOfSet_0 : List UInt8 := dkwX1_valueOfSet_0 ++ dktX1_valueOfSet_1
theorem dksX1_valueOfSet_0 : cX1_valueOfSet.data.toList.drop 0 = dktX1_valueOfSet_0 := by decide +kernel
theorem dksX1_valueOfSet_1 : cX1_valueOfSet.data.toList.drop 23 = dktX1_valueOfSet_1 := dk_seg dksX1_valueOfSet_0 23 rfl rfl
theorem dX1_valueOfSet_0 : decode cX1_valueOfSet 0 = .ok (.iconst 0, 1) := dk_3 (dk_at dksX1_valueOfSet_0 0 rfl rfl)
theorem dX1_valueOfSet_1 : decode cX1_valueOfSet 1 = .ok (.istore_n 2, 1) := dk_61 (dk_at dksX1_valueOfSet_0 1 rfl rfl)
theorem dX1_valueOfSet_2 : decode cX1_valueOfSet 2 = .ok (.iconst 0, 1) := dk_3 (dk_at dksX1_valueOfSet_0 2 rfl rfl)
theorem dX1_valueOfSet_3 : decode cX1_valueOfSet 3 = .ok (.istore_n 3, 1) := dk_62 (dk_at dksX1_valueOfSet_0 3 rfl rfl)
theorem dX1_valueOfSet_4 : decode cX1_valueOfSet 4 = .ok (.iload_n 3, 1) := dk_29 (dk_at dksX1_valueOfSet_0 4 rfl rfl)
theorem dX1_valueOfSet_5 : decode cX1_valueOfSet 5 = .ok (.aload_n 0, 1) := dk_42 (dk_at dksX1_valueOfSet_0 5 rfl rfl)
theorem dX1_valueOfSet_6 : decode cX1_valueOfSet 6 = .ok (.invokevirtual 340, 3) := dk_182 1 84 (dk_at dksX1_valueOfSet_0 6 rfl rfl)
theorem dX1_valueOfSet_9 : decode cX1_valueOfSet 9 = .ok (.if_icmp .ge 25, 3) := dk_162 0 25 (dk_at dksX1_valueOfSet_0 9 rfl rfl)
theorem dX1_valueOfSet_12 : decode cX1_valueOfSet 12 = .ok (.iload_n 1, 1) := dk_27 (dk_at dksX1_valueOfSet_0 12 rfl rfl)
theorem dX1_valueOfSet_13 : decode cX1_valueOfSet 13 = .ok (.iload_n 3, 1) := dk_29 (dk_at dksX1_valueOfSet_0 13 rfl rfl)
theorem dX1_valueOfSet_14 : decode cX1_valueOfSet 14 = .ok (.invokestatic 263, 3) := dk_184 1 7 (dk_at dksX1_valueOfSet_0 14 rfl rfl)
theorem dX1_valueOfSet_17 : decode cX1_valueOfSet 17 = .ok (.ifCond .eq 11, 3) := dk_153 0 11 (dk_at dksX1_valueOfSet_0 17 rfl rfl)
theorem dX1_valueOfSet_20 : decode cX1_valueOfSet 20 = .ok (.iload_n 2, 1) := dk_28 (dk_at dksX1_valueOfSet_0 20 rfl rfl)
theorem dX1_valueOfSet_21 : decode cX1_valueOfSet 21 = .ok (.aload_n 0, 1) := dk_42 (dk_at dksX1_valueOfSet_0 21 rfl rfl)
theorem dX1_valueOfSet_22 : decode cX1_valueOfSet 22 = .ok (.iload_n 3, 1) := dk_29 (dk_at dksX1_valueOfSet_0 22 rfl rfl)
theorem dX1_valueOfSet_23 : decode cX1_valueOfSet 23 = .ok (.invokevirtual 381, 3) := dk_182 1 125 (dk_at dksX1_valueOfSet_1 0 rfl rfl)
theorem dX1_valueOfSet_26 : decode cX1_valueOfSet 26 = .ok (.iadd, 1) := dk_96 (dk_at dksX1_valueOfSet_1 3 rfl rfl)
theorem dX1_valueOfSet_27 : decode cX1_valueOfSet 27 = .ok (.istore_n 2, 1) := dk_61 (dk_at dksX1_valueOfSet_1 4 rfl rfl)
theorem dX1_valueOfSet_28 : decode cX1_valueOfSet 28 = .ok (.iinc 3 1, 3) := dk_132 3 1 (dk_at dksX1_valueOfSet_1 5 rfl rfl)
theorem dX1_valueOfSet_31 : decode cX1_valueOfSet 31 = .ok (.goto (-27), 3) := dk_167 255 229 (dk_at dksX1_valueOfSet_1 8 rfl rfl)
theorem dX1_valueOfSet_34 : decode cX1_valueOfSet 34 = .ok (.iload_n 2, 1) := dk_28 (dk_at dksX1_valueOfSet_1 11 rfl rfl)
theorem dX1_valueOfSet_35 : decode cX1_valueOfSet 35 = .ok (.ireturn, 1) := dk_172 (dk_at dksX1_valueOfSet_1 12 rfl rfl)
abbrev cX1_eat : ByteArray := prog_1_method_101_code
def yX1_eat : MethodName := ⟨RX1, "eat", "(I)I"⟩
def dkwX1_eat_2 : List UInt8 := [182, 1, 249, 167, 0, 16, 42, 180, 0, 67, 4, 42, 182, 1, 84, 120, 4, 100, 46, 172]
abbrev dktX1_eat_2 : List UInt8 := dkwX1_eat_2 ++ []
def dkwX1_eat_1 : List UInt8 := [27, 6, 160, 0, 7, 4, 167, 0, 4, 3, 182, 1, 242, 172, 42, 182, 1, 246, 27, 154, 0, 10, 42]
abbrev dktX1_eat_1 : List UInt8 := dkwX1_eat_1 ++ dktX1_eat_2
def dkwX1_eat_0 : List UInt8 := [42, 182, 1, 128, 153, 0, 12, 27, 3, 6, 184, 0, 246, 154, 0, 5, 2, 172, 27, 4, 164, 0, 18, 42]
abbrev dktX1_eat_0 : List UInt8 := dkwX1_eat_0 ++ dktX1_eat_1
theorem dksX1_eat_0 : cX1_eat.data.toList.drop 0 = dktX1_eat_0 := by decide +kernel
theorem dksX1_eat_1 : cX1_eat.data.toList.drop 24 = dktX1_eat_1 := dk_seg dksX1_eat_0 24 rfl rfl
theorem dksX1_eat_2 : cX1_eat.data.toList.drop 47 = dktX1_eat_2 := dk_seg dksX1_eat_1 23 rfl rfl
theorem dX1_eat_0 : decode cX1_eat 0 = .ok (.aload_n 0, 1) := dk_42 (dk_at dksX1_eat_0 0 rfl rfl)
theorem dX1_eat_1 : decode cX1_eat 1 = .ok (.invokevirtual 384, 3) := dk_182 1 128 (dk_at dksX1_eat_0 1 rfl rfl)
theorem dX1_eat_4 : decode cX1_eat 4 = .ok (.ifCond .eq 12, 3) := dk_153 0 12 (dk_at dksX1_eat_0 4 rfl rfl)
theorem dX1_eat_7 : decode cX1_eat 7 = .ok (.iload_n 1, 1) := dk_27 (dk_at dksX1_eat_0 7 rfl rfl)
theorem dX1_eat_8 : decode cX1_eat 8 = .ok (.iconst 0, 1) := dk_3 (dk_at dksX1_eat_0 8 rfl rfl)
theorem dX1_eat_9 : decode cX1_eat 9 = .ok (.iconst 3, 1) := dk_6 (dk_at dksX1_eat_0 9 rfl rfl)
theorem dX1_eat_10 : decode cX1_eat 10 = .ok (.invokestatic 246, 3) := dk_184 0 246 (dk_at dksX1_eat_0 10 rfl rfl)
theorem dX1_eat_13 : decode cX1_eat 13 = .ok (.ifCond .ne 5, 3) := dk_154 0 5 (dk_at dksX1_eat_0 13 rfl rfl)
theorem dX1_eat_16 : decode cX1_eat 16 = .ok (.iconst (-1), 1) := dk_2 (dk_at dksX1_eat_0 16 rfl rfl)
theorem dX1_eat_17 : decode cX1_eat 17 = .ok (.ireturn, 1) := dk_172 (dk_at dksX1_eat_0 17 rfl rfl)
theorem dX1_eat_18 : decode cX1_eat 18 = .ok (.iload_n 1, 1) := dk_27 (dk_at dksX1_eat_0 18 rfl rfl)
theorem dX1_eat_19 : decode cX1_eat 19 = .ok (.iconst 1, 1) := dk_4 (dk_at dksX1_eat_0 19 rfl rfl)
theorem dX1_eat_20 : decode cX1_eat 20 = .ok (.if_icmp .le 18, 3) := dk_164 0 18 (dk_at dksX1_eat_0 20 rfl rfl)
theorem dX1_eat_23 : decode cX1_eat 23 = .ok (.aload_n 0, 1) := dk_42 (dk_at dksX1_eat_0 23 rfl rfl)
theorem dX1_eat_24 : decode cX1_eat 24 = .ok (.iload_n 1, 1) := dk_27 (dk_at dksX1_eat_1 0 rfl rfl)
theorem dX1_eat_25 : decode cX1_eat 25 = .ok (.iconst 3, 1) := dk_6 (dk_at dksX1_eat_1 1 rfl rfl)
theorem dX1_eat_26 : decode cX1_eat 26 = .ok (.if_icmp .ne 7, 3) := dk_160 0 7 (dk_at dksX1_eat_1 2 rfl rfl)
theorem dX1_eat_29 : decode cX1_eat 29 = .ok (.iconst 1, 1) := dk_4 (dk_at dksX1_eat_1 5 rfl rfl)
theorem dX1_eat_30 : decode cX1_eat 30 = .ok (.goto 4, 3) := dk_167 0 4 (dk_at dksX1_eat_1 6 rfl rfl)
theorem dX1_eat_33 : decode cX1_eat 33 = .ok (.iconst 0, 1) := dk_3 (dk_at dksX1_eat_1 9 rfl rfl)
theorem dX1_eat_34 : decode cX1_eat 34 = .ok (.invokevirtual 498, 3) := dk_182 1 242 (dk_at dksX1_eat_1 10 rfl rfl)
theorem dX1_eat_37 : decode cX1_eat 37 = .ok (.ireturn, 1) := dk_172 (dk_at dksX1_eat_1 13 rfl rfl)
theorem dX1_eat_38 : decode cX1_eat 38 = .ok (.aload_n 0, 1) := dk_42 (dk_at dksX1_eat_1 14 rfl rfl)
theorem dX1_eat_39 : decode cX1_eat 39 = .ok (.invokevirtual 502, 3) := dk_182 1 246 (dk_at dksX1_eat_1 15 rfl rfl)
theorem dX1_eat_42 : decode cX1_eat 42 = .ok (.iload_n 1, 1) := dk_27 (dk_at dksX1_eat_1 18 rfl rfl)
theorem dX1_eat_43 : decode cX1_eat 43 = .ok (.ifCond .ne 10, 3) := dk_154 0 10 (dk_at dksX1_eat_1 19 rfl rfl)
theorem dX1_eat_46 : decode cX1_eat 46 = .ok (.aload_n 0, 1) := dk_42 (dk_at dksX1_eat_1 22 rfl rfl)
theorem dX1_eat_47 : decode cX1_eat 47 = .ok (.invokevirtual 505, 3) := dk_182 1 249 (dk_at dksX1_eat_2 0 rfl rfl)
theorem dX1_eat_50 : decode cX1_eat 50 = .ok (.goto 16, 3) := dk_167 0 16 (dk_at dksX1_eat_2 3 rfl rfl)
theorem dX1_eat_53 : decode cX1_eat 53 = .ok (.aload_n 0, 1) := dk_42 (dk_at dksX1_eat_2 6 rfl rfl)
theorem dX1_eat_54 : decode cX1_eat 54 = .ok (.getfield 67, 3) := dk_180 0 67 (dk_at dksX1_eat_2 7 rfl rfl)
theorem dX1_eat_57 : decode cX1_eat 57 = .ok (.iconst 1, 1) := dk_4 (dk_at dksX1_eat_2 10 rfl rfl)
theorem dX1_eat_58 : decode cX1_eat 58 = .ok (.aload_n 0, 1) := dk_42 (dk_at dksX1_eat_2 11 rfl rfl)
theorem dX1_eat_59 : decode cX1_eat 59 = .ok (.invokevirtual 340, 3) := dk_182 1 84 (dk_at dksX1_eat_2 12 rfl rfl)
theorem dX1_eat_62 : decode cX1_eat 62 = .ok (.ishl, 1) := dk_120 (dk_at dksX1_eat_2 15 rfl rfl)
theorem dX1_eat_63 : decode cX1_eat 63 = .ok (.iconst 1, 1) := dk_4 (dk_at dksX1_eat_2 16 rfl rfl)
theorem dX1_eat_64 : decode cX1_eat 64 = .ok (.isub, 1) := dk_100 (dk_at dksX1_eat_2 17 rfl rfl)
theorem dX1_eat_65 : decode cX1_eat 65 = .ok (.iaload, 1) := dk_46 (dk_at dksX1_eat_2 18 rfl rfl)
theorem dX1_eat_66 : decode cX1_eat 66 = .ok (.ireturn, 1) := dk_172 (dk_at dksX1_eat_2 19 rfl rfl)
abbrev cX1_eatingFrom : ByteArray := prog_1_method_100_code
def yX1_eatingFrom : MethodName := ⟨RX1, "eatingFrom", "(Z)I"⟩
def dkwX1_eatingFrom_2 : List UInt8 := [21, 4, 120, 2, 130, 126, 62, 167, 255, 213, 28, 172]
abbrev dktX1_eatingFrom_2 : List UInt8 := dkwX1_eatingFrom_2 ++ []
def dkwX1_eatingFrom_1 : List UInt8 := [167, 0, 10, 16, 31, 29, 184, 1, 239, 100, 54, 4, 28, 42, 21, 4, 29, 182, 1, 233, 96, 61, 29, 4]
abbrev dktX1_eatingFrom_1 : List UInt8 := dkwX1_eatingFrom_1 ++ dktX1_eatingFrom_2
def dkwX1_eatingFrom_0 : List UInt8 := [3, 61, 4, 42, 182, 1, 84, 120, 4, 100, 62, 29, 153, 0, 45, 27, 153, 0, 10, 29, 184, 1, 236]
abbrev dktX1_eatingFrom_0 : List UInt8 := dkwX1_eatingFrom_0 ++ dktX1_eatingFrom_1
theorem dksX1_eatingFrom_0 : cX1_eatingFrom.data.toList.drop 0 = dktX1_eatingFrom_0 := by decide +kernel
theorem dksX1_eatingFrom_1 : cX1_eatingFrom.data.toList.drop 23 = dktX1_eatingFrom_1 := dk_seg dksX1_eatingFrom_0 23 rfl rfl
theorem dksX1_eatingFrom_2 : cX1_eatingFrom.data.toList.drop 47 = dktX1_eatingFrom_2 := dk_seg dksX1_eatingFrom_1 24 rfl rfl
theorem dX1_eatingFrom_0 : decode cX1_eatingFrom 0 = .ok (.iconst 0, 1) := dk_3 (dk_at dksX1_eatingFrom_0 0 rfl rfl)
theorem dX1_eatingFrom_1 : decode cX1_eatingFrom 1 = .ok (.istore_n 2, 1) := dk_61 (dk_at dksX1_eatingFrom_0 1 rfl rfl)
theorem dX1_eatingFrom_2 : decode cX1_eatingFrom 2 = .ok (.iconst 1, 1) := dk_4 (dk_at dksX1_eatingFrom_0 2 rfl rfl)
theorem dX1_eatingFrom_3 : decode cX1_eatingFrom 3 = .ok (.aload_n 0, 1) := dk_42 (dk_at dksX1_eatingFrom_0 3 rfl rfl)
theorem dX1_eatingFrom_4 : decode cX1_eatingFrom 4 = .ok (.invokevirtual 340, 3) := dk_182 1 84 (dk_at dksX1_eatingFrom_0 4 rfl rfl)
theorem dX1_eatingFrom_7 : decode cX1_eatingFrom 7 = .ok (.ishl, 1) := dk_120 (dk_at dksX1_eatingFrom_0 7 rfl rfl)
theorem dX1_eatingFrom_8 : decode cX1_eatingFrom 8 = .ok (.iconst 1, 1) := dk_4 (dk_at dksX1_eatingFrom_0 8 rfl rfl)
theorem dX1_eatingFrom_9 : decode cX1_eatingFrom 9 = .ok (.isub, 1) := dk_100 (dk_at dksX1_eatingFrom_0 9 rfl rfl)
theorem dX1_eatingFrom_10 : decode cX1_eatingFrom 10 = .ok (.istore_n 3, 1) := dk_62 (dk_at dksX1_eatingFrom_0 10 rfl rfl)
theorem dX1_eatingFrom_11 : decode cX1_eatingFrom 11 = .ok (.iload_n 3, 1) := dk_29 (dk_at dksX1_eatingFrom_0 11 rfl rfl)
theorem dX1_eatingFrom_12 : decode cX1_eatingFrom 12 = .ok (.ifCond .eq 45, 3) := dk_153 0 45 (dk_at dksX1_eatingFrom_0 12 rfl rfl)
theorem dX1_eatingFrom_15 : decode cX1_eatingFrom 15 = .ok (.iload_n 1, 1) := dk_27 (dk_at dksX1_eatingFrom_0 15 rfl rfl)
theorem dX1_eatingFrom_16 : decode cX1_eatingFrom 16 = .ok (.ifCond .eq 10, 3) := dk_153 0 10 (dk_at dksX1_eatingFrom_0 16 rfl rfl)
theorem dX1_eatingFrom_19 : decode cX1_eatingFrom 19 = .ok (.iload_n 3, 1) := dk_29 (dk_at dksX1_eatingFrom_0 19 rfl rfl)
theorem dX1_eatingFrom_20 : decode cX1_eatingFrom 20 = .ok (.invokestatic 492, 3) := dk_184 1 236 (dk_at dksX1_eatingFrom_0 20 rfl rfl)
theorem dX1_eatingFrom_23 : decode cX1_eatingFrom 23 = .ok (.goto 10, 3) := dk_167 0 10 (dk_at dksX1_eatingFrom_1 0 rfl rfl)
theorem dX1_eatingFrom_26 : decode cX1_eatingFrom 26 = .ok (.bipush 31, 2) := dk_16 31 (dk_at dksX1_eatingFrom_1 3 rfl rfl)
theorem dX1_eatingFrom_28 : decode cX1_eatingFrom 28 = .ok (.iload_n 3, 1) := dk_29 (dk_at dksX1_eatingFrom_1 5 rfl rfl)
theorem dX1_eatingFrom_29 : decode cX1_eatingFrom 29 = .ok (.invokestatic 495, 3) := dk_184 1 239 (dk_at dksX1_eatingFrom_1 6 rfl rfl)
theorem dX1_eatingFrom_32 : decode cX1_eatingFrom 32 = .ok (.isub, 1) := dk_100 (dk_at dksX1_eatingFrom_1 9 rfl rfl)
theorem dX1_eatingFrom_33 : decode cX1_eatingFrom 33 = .ok (.istore 4, 2) := dk_54 4 (dk_at dksX1_eatingFrom_1 10 rfl rfl)
theorem dX1_eatingFrom_35 : decode cX1_eatingFrom 35 = .ok (.iload_n 2, 1) := dk_28 (dk_at dksX1_eatingFrom_1 12 rfl rfl)
theorem dX1_eatingFrom_36 : decode cX1_eatingFrom 36 = .ok (.aload_n 0, 1) := dk_42 (dk_at dksX1_eatingFrom_1 13 rfl rfl)
theorem dX1_eatingFrom_37 : decode cX1_eatingFrom 37 = .ok (.iload 4, 2) := dk_21 4 (dk_at dksX1_eatingFrom_1 14 rfl rfl)
theorem dX1_eatingFrom_39 : decode cX1_eatingFrom 39 = .ok (.iload_n 3, 1) := dk_29 (dk_at dksX1_eatingFrom_1 16 rfl rfl)
theorem dX1_eatingFrom_40 : decode cX1_eatingFrom 40 = .ok (.invokevirtual 489, 3) := dk_182 1 233 (dk_at dksX1_eatingFrom_1 17 rfl rfl)
theorem dX1_eatingFrom_43 : decode cX1_eatingFrom 43 = .ok (.iadd, 1) := dk_96 (dk_at dksX1_eatingFrom_1 20 rfl rfl)
theorem dX1_eatingFrom_44 : decode cX1_eatingFrom 44 = .ok (.istore_n 2, 1) := dk_61 (dk_at dksX1_eatingFrom_1 21 rfl rfl)
theorem dX1_eatingFrom_45 : decode cX1_eatingFrom 45 = .ok (.iload_n 3, 1) := dk_29 (dk_at dksX1_eatingFrom_1 22 rfl rfl)
theorem dX1_eatingFrom_46 : decode cX1_eatingFrom 46 = .ok (.iconst 1, 1) := dk_4 (dk_at dksX1_eatingFrom_1 23 rfl rfl)
theorem dX1_eatingFrom_47 : decode cX1_eatingFrom 47 = .ok (.iload 4, 2) := dk_21 4 (dk_at dksX1_eatingFrom_2 0 rfl rfl)
theorem dX1_eatingFrom_49 : decode cX1_eatingFrom 49 = .ok (.ishl, 1) := dk_120 (dk_at dksX1_eatingFrom_2 2 rfl rfl)
theorem dX1_eatingFrom_50 : decode cX1_eatingFrom 50 = .ok (.iconst (-1), 1) := dk_2 (dk_at dksX1_eatingFrom_2 3 rfl rfl)
theorem dX1_eatingFrom_51 : decode cX1_eatingFrom 51 = .ok (.ixor, 1) := dk_130 (dk_at dksX1_eatingFrom_2 4 rfl rfl)
theorem dX1_eatingFrom_52 : decode cX1_eatingFrom 52 = .ok (.iand, 1) := dk_126 (dk_at dksX1_eatingFrom_2 5 rfl rfl)
theorem dX1_eatingFrom_53 : decode cX1_eatingFrom 53 = .ok (.istore_n 3, 1) := dk_62 (dk_at dksX1_eatingFrom_2 6 rfl rfl)
theorem dX1_eatingFrom_54 : decode cX1_eatingFrom 54 = .ok (.goto (-43), 3) := dk_167 255 213 (dk_at dksX1_eatingFrom_2 7 rfl rfl)
theorem dX1_eatingFrom_57 : decode cX1_eatingFrom 57 = .ok (.iload_n 2, 1) := dk_28 (dk_at dksX1_eatingFrom_2 10 rfl rfl)
theorem dX1_eatingFrom_58 : decode cX1_eatingFrom 58 = .ok (.ireturn, 1) := dk_172 (dk_at dksX1_eatingFrom_2 11 rfl rfl)
abbrev cX1_eatenNow : ByteArray := prog_1_method_97_code
def yX1_eatenNow : MethodName := ⟨RX1, "eatenNow", "(II)I"⟩
def dkwX1_eatenNow_0 : List UInt8 := [42, 27, 42, 182, 1, 84, 28, 184, 1, 225, 100, 42, 27, 28, 182, 1, 230, 182, 1, 121, 172]
abbrev dktX1_eatenNow_0 : List UInt8 := dkwX1_eatenNow_0 ++ []
theorem dksX1_eatenNow_0 : cX1_eatenNow.data.toList.drop 0 = dktX1_eatenNow_0 := by decide +kernel
theorem dX1_eatenNow_0 : decode cX1_eatenNow 0 = .ok (.aload_n 0, 1) := dk_42 (dk_at dksX1_eatenNow_0 0 rfl rfl)
theorem dX1_eatenNow_1 : decode cX1_eatenNow 1 = .ok (.iload_n 1, 1) := dk_27 (dk_at dksX1_eatenNow_0 1 rfl rfl)
theorem dX1_eatenNow_2 : decode cX1_eatenNow 2 = .ok (.aload_n 0, 1) := dk_42 (dk_at dksX1_eatenNow_0 2 rfl rfl)
theorem dX1_eatenNow_3 : decode cX1_eatenNow 3 = .ok (.invokevirtual 340, 3) := dk_182 1 84 (dk_at dksX1_eatenNow_0 3 rfl rfl)
theorem dX1_eatenNow_6 : decode cX1_eatenNow 6 = .ok (.iload_n 2, 1) := dk_28 (dk_at dksX1_eatenNow_0 6 rfl rfl)
theorem dX1_eatenNow_7 : decode cX1_eatenNow 7 = .ok (.invokestatic 481, 3) := dk_184 1 225 (dk_at dksX1_eatenNow_0 7 rfl rfl)
theorem dX1_eatenNow_10 : decode cX1_eatenNow 10 = .ok (.isub, 1) := dk_100 (dk_at dksX1_eatenNow_0 10 rfl rfl)
theorem dX1_eatenNow_11 : decode cX1_eatenNow 11 = .ok (.aload_n 0, 1) := dk_42 (dk_at dksX1_eatenNow_0 11 rfl rfl)
theorem dX1_eatenNow_12 : decode cX1_eatenNow 12 = .ok (.iload_n 1, 1) := dk_27 (dk_at dksX1_eatenNow_0 12 rfl rfl)
theorem dX1_eatenNow_13 : decode cX1_eatenNow 13 = .ok (.iload_n 2, 1) := dk_28 (dk_at dksX1_eatenNow_0 13 rfl rfl)
theorem dX1_eatenNow_14 : decode cX1_eatenNow 14 = .ok (.invokevirtual 486, 3) := dk_182 1 230 (dk_at dksX1_eatenNow_0 14 rfl rfl)
theorem dX1_eatenNow_17 : decode cX1_eatenNow 17 = .ok (.invokevirtual 377, 3) := dk_182 1 121 (dk_at dksX1_eatenNow_0 17 rfl rfl)
theorem dX1_eatenNow_20 : decode cX1_eatenNow 20 = .ok (.ireturn, 1) := dk_172 (dk_at dksX1_eatenNow_0 20 rfl rfl)
abbrev cX1_belowIn : ByteArray := prog_1_method_96_code
def yX1_belowIn : MethodName := ⟨RX1, "belowIn", "(II)I"⟩
def dkwX1_belowIn_0 : List UInt8 := [28, 27, 4, 96, 122, 184, 1, 225, 172]
abbrev dktX1_belowIn_0 : List UInt8 := dkwX1_belowIn_0 ++ []
theorem dksX1_belowIn_0 : cX1_belowIn.data.toList.drop 0 = dktX1_belowIn_0 := by decide +kernel
theorem dX1_belowIn_0 : decode cX1_belowIn 0 = .ok (.iload_n 2, 1) := dk_28 (dk_at dksX1_belowIn_0 0 rfl rfl)
theorem dX1_belowIn_1 : decode cX1_belowIn 1 = .ok (.iload_n 1, 1) := dk_27 (dk_at dksX1_belowIn_0 1 rfl rfl)
theorem dX1_belowIn_2 : decode cX1_belowIn 2 = .ok (.iconst 1, 1) := dk_4 (dk_at dksX1_belowIn_0 2 rfl rfl)
theorem dX1_belowIn_3 : decode cX1_belowIn 3 = .ok (.iadd, 1) := dk_96 (dk_at dksX1_belowIn_0 3 rfl rfl)
theorem dX1_belowIn_4 : decode cX1_belowIn 4 = .ok (.ishr, 1) := dk_122 (dk_at dksX1_belowIn_0 4 rfl rfl)
theorem dX1_belowIn_5 : decode cX1_belowIn 5 = .ok (.invokestatic 481, 3) := dk_184 1 225 (dk_at dksX1_belowIn_0 5 rfl rfl)
theorem dX1_belowIn_8 : decode cX1_belowIn 8 = .ok (.ireturn, 1) := dk_172 (dk_at dksX1_belowIn_0 8 rfl rfl)
abbrev cX1_layEating : ByteArray := prog_1_method_98_code
def yX1_layEating : MethodName := ⟨RX1, "layEating", "()V"⟩
def dkwX1_layEating_3 : List UInt8 := [180, 0, 67, 27, 28, 79, 132, 1, 1, 167, 255, 186, 177]
abbrev dktX1_layEating_3 : List UInt8 := dkwX1_layEating_3 ++ []
def dkwX1_layEating_2 : List UInt8 := [180, 0, 67, 27, 4, 29, 120, 2, 130, 126, 46, 96, 184, 1, 104, 61, 132, 3, 1, 167, 255, 213, 42]
abbrev dktX1_layEating_2 : List UInt8 := dkwX1_layEating_2 ++ dktX1_layEating_3
def dkwX1_layEating_1 : List UInt8 := [42, 182, 1, 84, 162, 0, 41, 27, 29, 184, 1, 7, 153, 0, 27, 28, 42, 29, 27, 182, 1, 233, 42]
abbrev dktX1_layEating_1 : List UInt8 := dkwX1_layEating_1 ++ dktX1_layEating_2
def dkwX1_layEating_0 : List UInt8 := [42, 180, 0, 67, 3, 3, 79, 4, 60, 27, 4, 42, 182, 1, 84, 120, 162, 0, 66, 2, 61, 3, 62, 29]
abbrev dktX1_layEating_0 : List UInt8 := dkwX1_layEating_0 ++ dktX1_layEating_1
theorem dksX1_layEating_0 : cX1_layEating.data.toList.drop 0 = dktX1_layEating_0 := by decide +kernel
theorem dksX1_layEating_1 : cX1_layEating.data.toList.drop 24 = dktX1_layEating_1 := dk_seg dksX1_layEating_0 24 rfl rfl
theorem dksX1_layEating_2 : cX1_layEating.data.toList.drop 47 = dktX1_layEating_2 := dk_seg dksX1_layEating_1 23 rfl rfl
theorem dksX1_layEating_3 : cX1_layEating.data.toList.drop 70 = dktX1_layEating_3 := dk_seg dksX1_layEating_2 23 rfl rfl
theorem dX1_layEating_0 : decode cX1_layEating 0 = .ok (.aload_n 0, 1) := dk_42 (dk_at dksX1_layEating_0 0 rfl rfl)
theorem dX1_layEating_1 : decode cX1_layEating 1 = .ok (.getfield 67, 3) := dk_180 0 67 (dk_at dksX1_layEating_0 1 rfl rfl)
theorem dX1_layEating_4 : decode cX1_layEating 4 = .ok (.iconst 0, 1) := dk_3 (dk_at dksX1_layEating_0 4 rfl rfl)
theorem dX1_layEating_5 : decode cX1_layEating 5 = .ok (.iconst 0, 1) := dk_3 (dk_at dksX1_layEating_0 5 rfl rfl)
theorem dX1_layEating_6 : decode cX1_layEating 6 = .ok (.iastore, 1) := dk_79 (dk_at dksX1_layEating_0 6 rfl rfl)
theorem dX1_layEating_7 : decode cX1_layEating 7 = .ok (.iconst 1, 1) := dk_4 (dk_at dksX1_layEating_0 7 rfl rfl)
theorem dX1_layEating_8 : decode cX1_layEating 8 = .ok (.istore_n 1, 1) := dk_60 (dk_at dksX1_layEating_0 8 rfl rfl)
theorem dX1_layEating_9 : decode cX1_layEating 9 = .ok (.iload_n 1, 1) := dk_27 (dk_at dksX1_layEating_0 9 rfl rfl)
theorem dX1_layEating_10 : decode cX1_layEating 10 = .ok (.iconst 1, 1) := dk_4 (dk_at dksX1_layEating_0 10 rfl rfl)
theorem dX1_layEating_11 : decode cX1_layEating 11 = .ok (.aload_n 0, 1) := dk_42 (dk_at dksX1_layEating_0 11 rfl rfl)
theorem dX1_layEating_12 : decode cX1_layEating 12 = .ok (.invokevirtual 340, 3) := dk_182 1 84 (dk_at dksX1_layEating_0 12 rfl rfl)
theorem dX1_layEating_15 : decode cX1_layEating 15 = .ok (.ishl, 1) := dk_120 (dk_at dksX1_layEating_0 15 rfl rfl)
theorem dX1_layEating_16 : decode cX1_layEating 16 = .ok (.if_icmp .ge 66, 3) := dk_162 0 66 (dk_at dksX1_layEating_0 16 rfl rfl)
theorem dX1_layEating_19 : decode cX1_layEating 19 = .ok (.iconst (-1), 1) := dk_2 (dk_at dksX1_layEating_0 19 rfl rfl)
theorem dX1_layEating_20 : decode cX1_layEating 20 = .ok (.istore_n 2, 1) := dk_61 (dk_at dksX1_layEating_0 20 rfl rfl)
theorem dX1_layEating_21 : decode cX1_layEating 21 = .ok (.iconst 0, 1) := dk_3 (dk_at dksX1_layEating_0 21 rfl rfl)
theorem dX1_layEating_22 : decode cX1_layEating 22 = .ok (.istore_n 3, 1) := dk_62 (dk_at dksX1_layEating_0 22 rfl rfl)
theorem dX1_layEating_23 : decode cX1_layEating 23 = .ok (.iload_n 3, 1) := dk_29 (dk_at dksX1_layEating_0 23 rfl rfl)
theorem dX1_layEating_24 : decode cX1_layEating 24 = .ok (.aload_n 0, 1) := dk_42 (dk_at dksX1_layEating_1 0 rfl rfl)
theorem dX1_layEating_25 : decode cX1_layEating 25 = .ok (.invokevirtual 340, 3) := dk_182 1 84 (dk_at dksX1_layEating_1 1 rfl rfl)
theorem dX1_layEating_28 : decode cX1_layEating 28 = .ok (.if_icmp .ge 41, 3) := dk_162 0 41 (dk_at dksX1_layEating_1 4 rfl rfl)
theorem dX1_layEating_31 : decode cX1_layEating 31 = .ok (.iload_n 1, 1) := dk_27 (dk_at dksX1_layEating_1 7 rfl rfl)
theorem dX1_layEating_32 : decode cX1_layEating 32 = .ok (.iload_n 3, 1) := dk_29 (dk_at dksX1_layEating_1 8 rfl rfl)
theorem dX1_layEating_33 : decode cX1_layEating 33 = .ok (.invokestatic 263, 3) := dk_184 1 7 (dk_at dksX1_layEating_1 9 rfl rfl)
theorem dX1_layEating_36 : decode cX1_layEating 36 = .ok (.ifCond .eq 27, 3) := dk_153 0 27 (dk_at dksX1_layEating_1 12 rfl rfl)
theorem dX1_layEating_39 : decode cX1_layEating 39 = .ok (.iload_n 2, 1) := dk_28 (dk_at dksX1_layEating_1 15 rfl rfl)
theorem dX1_layEating_40 : decode cX1_layEating 40 = .ok (.aload_n 0, 1) := dk_42 (dk_at dksX1_layEating_1 16 rfl rfl)
theorem dX1_layEating_41 : decode cX1_layEating 41 = .ok (.iload_n 3, 1) := dk_29 (dk_at dksX1_layEating_1 17 rfl rfl)
theorem dX1_layEating_42 : decode cX1_layEating 42 = .ok (.iload_n 1, 1) := dk_27 (dk_at dksX1_layEating_1 18 rfl rfl)
theorem dX1_layEating_43 : decode cX1_layEating 43 = .ok (.invokevirtual 489, 3) := dk_182 1 233 (dk_at dksX1_layEating_1 19 rfl rfl)
theorem dX1_layEating_46 : decode cX1_layEating 46 = .ok (.aload_n 0, 1) := dk_42 (dk_at dksX1_layEating_1 22 rfl rfl)
theorem dX1_layEating_47 : decode cX1_layEating 47 = .ok (.getfield 67, 3) := dk_180 0 67 (dk_at dksX1_layEating_2 0 rfl rfl)
theorem dX1_layEating_50 : decode cX1_layEating 50 = .ok (.iload_n 1, 1) := dk_27 (dk_at dksX1_layEating_2 3 rfl rfl)
theorem dX1_layEating_51 : decode cX1_layEating 51 = .ok (.iconst 1, 1) := dk_4 (dk_at dksX1_layEating_2 4 rfl rfl)
theorem dX1_layEating_52 : decode cX1_layEating 52 = .ok (.iload_n 3, 1) := dk_29 (dk_at dksX1_layEating_2 5 rfl rfl)
theorem dX1_layEating_53 : decode cX1_layEating 53 = .ok (.ishl, 1) := dk_120 (dk_at dksX1_layEating_2 6 rfl rfl)
theorem dX1_layEating_54 : decode cX1_layEating 54 = .ok (.iconst (-1), 1) := dk_2 (dk_at dksX1_layEating_2 7 rfl rfl)
theorem dX1_layEating_55 : decode cX1_layEating 55 = .ok (.ixor, 1) := dk_130 (dk_at dksX1_layEating_2 8 rfl rfl)
theorem dX1_layEating_56 : decode cX1_layEating 56 = .ok (.iand, 1) := dk_126 (dk_at dksX1_layEating_2 9 rfl rfl)
theorem dX1_layEating_57 : decode cX1_layEating 57 = .ok (.iaload, 1) := dk_46 (dk_at dksX1_layEating_2 10 rfl rfl)
theorem dX1_layEating_58 : decode cX1_layEating 58 = .ok (.iadd, 1) := dk_96 (dk_at dksX1_layEating_2 11 rfl rfl)
theorem dX1_layEating_59 : decode cX1_layEating 59 = .ok (.invokestatic 360, 3) := dk_184 1 104 (dk_at dksX1_layEating_2 12 rfl rfl)
theorem dX1_layEating_62 : decode cX1_layEating 62 = .ok (.istore_n 2, 1) := dk_61 (dk_at dksX1_layEating_2 15 rfl rfl)
theorem dX1_layEating_63 : decode cX1_layEating 63 = .ok (.iinc 3 1, 3) := dk_132 3 1 (dk_at dksX1_layEating_2 16 rfl rfl)
theorem dX1_layEating_66 : decode cX1_layEating 66 = .ok (.goto (-43), 3) := dk_167 255 213 (dk_at dksX1_layEating_2 19 rfl rfl)
theorem dX1_layEating_69 : decode cX1_layEating 69 = .ok (.aload_n 0, 1) := dk_42 (dk_at dksX1_layEating_2 22 rfl rfl)
theorem dX1_layEating_70 : decode cX1_layEating 70 = .ok (.getfield 67, 3) := dk_180 0 67 (dk_at dksX1_layEating_3 0 rfl rfl)
theorem dX1_layEating_73 : decode cX1_layEating 73 = .ok (.iload_n 1, 1) := dk_27 (dk_at dksX1_layEating_3 3 rfl rfl)
theorem dX1_layEating_74 : decode cX1_layEating 74 = .ok (.iload_n 2, 1) := dk_28 (dk_at dksX1_layEating_3 4 rfl rfl)
theorem dX1_layEating_75 : decode cX1_layEating 75 = .ok (.iastore, 1) := dk_79 (dk_at dksX1_layEating_3 5 rfl rfl)
theorem dX1_layEating_76 : decode cX1_layEating 76 = .ok (.iinc 1 1, 3) := dk_132 1 1 (dk_at dksX1_layEating_3 6 rfl rfl)
theorem dX1_layEating_79 : decode cX1_layEating 79 = .ok (.goto (-70), 3) := dk_167 255 186 (dk_at dksX1_layEating_3 9 rfl rfl)
theorem dX1_layEating_82 : decode cX1_layEating 82 = .ok (.return_, 1) := dk_177 (dk_at dksX1_layEating_3 12 rfl rfl)
abbrev cX1_eatingRow : ByteArray := prog_1_method_99_code
def yX1_eatingRow : MethodName := ⟨RX1, "eatingRow", "()I"⟩
def dkwX1_eatingRow_3 : List UInt8 := [120, 2, 130, 126, 61, 167, 255, 193, 27, 172]
abbrev dktX1_eatingRow_3 : List UInt8 := dkwX1_eatingRow_3 ++ []
def dkwX1_eatingRow_2 : List UInt8 := [180, 0, 67, 28, 46, 159, 0, 9, 132, 3, 1, 167, 255, 217, 16, 10, 27, 104, 29, 96, 60, 28, 4, 29]
abbrev dktX1_eatingRow_2 : List UInt8 := dkwX1_eatingRow_2 ++ dktX1_eatingRow_3
def dkwX1_eatingRow_1 : List UInt8 := [153, 0, 31, 42, 29, 28, 182, 1, 233, 42, 180, 0, 67, 28, 4, 29, 120, 2, 130, 126, 46, 96, 42]
abbrev dktX1_eatingRow_1 : List UInt8 := dkwX1_eatingRow_1 ++ dktX1_eatingRow_2
def dkwX1_eatingRow_0 : List UInt8 := [3, 60, 4, 42, 182, 1, 84, 120, 4, 100, 61, 28, 153, 0, 65, 3, 62, 28, 29, 184, 1, 7]
abbrev dktX1_eatingRow_0 : List UInt8 := dkwX1_eatingRow_0 ++ dktX1_eatingRow_1
theorem dksX1_eatingRow_0 : cX1_eatingRow.data.toList.drop 0 = dktX1_eatingRow_0 := by decide +kernel
theorem dksX1_eatingRow_1 : cX1_eatingRow.data.toList.drop 22 = dktX1_eatingRow_1 := dk_seg dksX1_eatingRow_0 22 rfl rfl
theorem dksX1_eatingRow_2 : cX1_eatingRow.data.toList.drop 45 = dktX1_eatingRow_2 := dk_seg dksX1_eatingRow_1 23 rfl rfl
theorem dksX1_eatingRow_3 : cX1_eatingRow.data.toList.drop 69 = dktX1_eatingRow_3 := dk_seg dksX1_eatingRow_2 24 rfl rfl
theorem dX1_eatingRow_0 : decode cX1_eatingRow 0 = .ok (.iconst 0, 1) := dk_3 (dk_at dksX1_eatingRow_0 0 rfl rfl)
theorem dX1_eatingRow_1 : decode cX1_eatingRow 1 = .ok (.istore_n 1, 1) := dk_60 (dk_at dksX1_eatingRow_0 1 rfl rfl)
theorem dX1_eatingRow_2 : decode cX1_eatingRow 2 = .ok (.iconst 1, 1) := dk_4 (dk_at dksX1_eatingRow_0 2 rfl rfl)
theorem dX1_eatingRow_3 : decode cX1_eatingRow 3 = .ok (.aload_n 0, 1) := dk_42 (dk_at dksX1_eatingRow_0 3 rfl rfl)
theorem dX1_eatingRow_4 : decode cX1_eatingRow 4 = .ok (.invokevirtual 340, 3) := dk_182 1 84 (dk_at dksX1_eatingRow_0 4 rfl rfl)
theorem dX1_eatingRow_7 : decode cX1_eatingRow 7 = .ok (.ishl, 1) := dk_120 (dk_at dksX1_eatingRow_0 7 rfl rfl)
theorem dX1_eatingRow_8 : decode cX1_eatingRow 8 = .ok (.iconst 1, 1) := dk_4 (dk_at dksX1_eatingRow_0 8 rfl rfl)
theorem dX1_eatingRow_9 : decode cX1_eatingRow 9 = .ok (.isub, 1) := dk_100 (dk_at dksX1_eatingRow_0 9 rfl rfl)
theorem dX1_eatingRow_10 : decode cX1_eatingRow 10 = .ok (.istore_n 2, 1) := dk_61 (dk_at dksX1_eatingRow_0 10 rfl rfl)
theorem dX1_eatingRow_11 : decode cX1_eatingRow 11 = .ok (.iload_n 2, 1) := dk_28 (dk_at dksX1_eatingRow_0 11 rfl rfl)
theorem dX1_eatingRow_12 : decode cX1_eatingRow 12 = .ok (.ifCond .eq 65, 3) := dk_153 0 65 (dk_at dksX1_eatingRow_0 12 rfl rfl)
theorem dX1_eatingRow_15 : decode cX1_eatingRow 15 = .ok (.iconst 0, 1) := dk_3 (dk_at dksX1_eatingRow_0 15 rfl rfl)
theorem dX1_eatingRow_16 : decode cX1_eatingRow 16 = .ok (.istore_n 3, 1) := dk_62 (dk_at dksX1_eatingRow_0 16 rfl rfl)
theorem dX1_eatingRow_17 : decode cX1_eatingRow 17 = .ok (.iload_n 2, 1) := dk_28 (dk_at dksX1_eatingRow_0 17 rfl rfl)
theorem dX1_eatingRow_18 : decode cX1_eatingRow 18 = .ok (.iload_n 3, 1) := dk_29 (dk_at dksX1_eatingRow_0 18 rfl rfl)
theorem dX1_eatingRow_19 : decode cX1_eatingRow 19 = .ok (.invokestatic 263, 3) := dk_184 1 7 (dk_at dksX1_eatingRow_0 19 rfl rfl)
theorem dX1_eatingRow_22 : decode cX1_eatingRow 22 = .ok (.ifCond .eq 31, 3) := dk_153 0 31 (dk_at dksX1_eatingRow_1 0 rfl rfl)
theorem dX1_eatingRow_25 : decode cX1_eatingRow 25 = .ok (.aload_n 0, 1) := dk_42 (dk_at dksX1_eatingRow_1 3 rfl rfl)
theorem dX1_eatingRow_26 : decode cX1_eatingRow 26 = .ok (.iload_n 3, 1) := dk_29 (dk_at dksX1_eatingRow_1 4 rfl rfl)
theorem dX1_eatingRow_27 : decode cX1_eatingRow 27 = .ok (.iload_n 2, 1) := dk_28 (dk_at dksX1_eatingRow_1 5 rfl rfl)
theorem dX1_eatingRow_28 : decode cX1_eatingRow 28 = .ok (.invokevirtual 489, 3) := dk_182 1 233 (dk_at dksX1_eatingRow_1 6 rfl rfl)
theorem dX1_eatingRow_31 : decode cX1_eatingRow 31 = .ok (.aload_n 0, 1) := dk_42 (dk_at dksX1_eatingRow_1 9 rfl rfl)
theorem dX1_eatingRow_32 : decode cX1_eatingRow 32 = .ok (.getfield 67, 3) := dk_180 0 67 (dk_at dksX1_eatingRow_1 10 rfl rfl)
theorem dX1_eatingRow_35 : decode cX1_eatingRow 35 = .ok (.iload_n 2, 1) := dk_28 (dk_at dksX1_eatingRow_1 13 rfl rfl)
theorem dX1_eatingRow_36 : decode cX1_eatingRow 36 = .ok (.iconst 1, 1) := dk_4 (dk_at dksX1_eatingRow_1 14 rfl rfl)
theorem dX1_eatingRow_37 : decode cX1_eatingRow 37 = .ok (.iload_n 3, 1) := dk_29 (dk_at dksX1_eatingRow_1 15 rfl rfl)
theorem dX1_eatingRow_38 : decode cX1_eatingRow 38 = .ok (.ishl, 1) := dk_120 (dk_at dksX1_eatingRow_1 16 rfl rfl)
theorem dX1_eatingRow_39 : decode cX1_eatingRow 39 = .ok (.iconst (-1), 1) := dk_2 (dk_at dksX1_eatingRow_1 17 rfl rfl)
theorem dX1_eatingRow_40 : decode cX1_eatingRow 40 = .ok (.ixor, 1) := dk_130 (dk_at dksX1_eatingRow_1 18 rfl rfl)
theorem dX1_eatingRow_41 : decode cX1_eatingRow 41 = .ok (.iand, 1) := dk_126 (dk_at dksX1_eatingRow_1 19 rfl rfl)
theorem dX1_eatingRow_42 : decode cX1_eatingRow 42 = .ok (.iaload, 1) := dk_46 (dk_at dksX1_eatingRow_1 20 rfl rfl)
theorem dX1_eatingRow_43 : decode cX1_eatingRow 43 = .ok (.iadd, 1) := dk_96 (dk_at dksX1_eatingRow_1 21 rfl rfl)
theorem dX1_eatingRow_44 : decode cX1_eatingRow 44 = .ok (.aload_n 0, 1) := dk_42 (dk_at dksX1_eatingRow_1 22 rfl rfl)
theorem dX1_eatingRow_45 : decode cX1_eatingRow 45 = .ok (.getfield 67, 3) := dk_180 0 67 (dk_at dksX1_eatingRow_2 0 rfl rfl)
theorem dX1_eatingRow_48 : decode cX1_eatingRow 48 = .ok (.iload_n 2, 1) := dk_28 (dk_at dksX1_eatingRow_2 3 rfl rfl)
theorem dX1_eatingRow_49 : decode cX1_eatingRow 49 = .ok (.iaload, 1) := dk_46 (dk_at dksX1_eatingRow_2 4 rfl rfl)
theorem dX1_eatingRow_50 : decode cX1_eatingRow 50 = .ok (.if_icmp .eq 9, 3) := dk_159 0 9 (dk_at dksX1_eatingRow_2 5 rfl rfl)
theorem dX1_eatingRow_53 : decode cX1_eatingRow 53 = .ok (.iinc 3 1, 3) := dk_132 3 1 (dk_at dksX1_eatingRow_2 8 rfl rfl)
theorem dX1_eatingRow_56 : decode cX1_eatingRow 56 = .ok (.goto (-39), 3) := dk_167 255 217 (dk_at dksX1_eatingRow_2 11 rfl rfl)
theorem dX1_eatingRow_59 : decode cX1_eatingRow 59 = .ok (.bipush 10, 2) := dk_16 10 (dk_at dksX1_eatingRow_2 14 rfl rfl)
theorem dX1_eatingRow_61 : decode cX1_eatingRow 61 = .ok (.iload_n 1, 1) := dk_27 (dk_at dksX1_eatingRow_2 16 rfl rfl)
theorem dX1_eatingRow_62 : decode cX1_eatingRow 62 = .ok (.imul, 1) := dk_104 (dk_at dksX1_eatingRow_2 17 rfl rfl)
theorem dX1_eatingRow_63 : decode cX1_eatingRow 63 = .ok (.iload_n 3, 1) := dk_29 (dk_at dksX1_eatingRow_2 18 rfl rfl)
theorem dX1_eatingRow_64 : decode cX1_eatingRow 64 = .ok (.iadd, 1) := dk_96 (dk_at dksX1_eatingRow_2 19 rfl rfl)
theorem dX1_eatingRow_65 : decode cX1_eatingRow 65 = .ok (.istore_n 1, 1) := dk_60 (dk_at dksX1_eatingRow_2 20 rfl rfl)
theorem dX1_eatingRow_66 : decode cX1_eatingRow 66 = .ok (.iload_n 2, 1) := dk_28 (dk_at dksX1_eatingRow_2 21 rfl rfl)
theorem dX1_eatingRow_67 : decode cX1_eatingRow 67 = .ok (.iconst 1, 1) := dk_4 (dk_at dksX1_eatingRow_2 22 rfl rfl)
theorem dX1_eatingRow_68 : decode cX1_eatingRow 68 = .ok (.iload_n 3, 1) := dk_29 (dk_at dksX1_eatingRow_2 23 rfl rfl)
theorem dX1_eatingRow_69 : decode cX1_eatingRow 69 = .ok (.ishl, 1) := dk_120 (dk_at dksX1_eatingRow_3 0 rfl rfl)
theorem dX1_eatingRow_70 : decode cX1_eatingRow 70 = .ok (.iconst (-1), 1) := dk_2 (dk_at dksX1_eatingRow_3 1 rfl rfl)
theorem dX1_eatingRow_71 : decode cX1_eatingRow 71 = .ok (.ixor, 1) := dk_130 (dk_at dksX1_eatingRow_3 2 rfl rfl)
theorem dX1_eatingRow_72 : decode cX1_eatingRow 72 = .ok (.iand, 1) := dk_126 (dk_at dksX1_eatingRow_3 3 rfl rfl)
theorem dX1_eatingRow_73 : decode cX1_eatingRow 73 = .ok (.istore_n 2, 1) := dk_61 (dk_at dksX1_eatingRow_3 4 rfl rfl)
theorem dX1_eatingRow_74 : decode cX1_eatingRow 74 = .ok (.goto (-63), 3) := dk_167 255 193 (dk_at dksX1_eatingRow_3 5 rfl rfl)
theorem dX1_eatingRow_77 : decode cX1_eatingRow 77 = .ok (.iload_n 1, 1) := dk_27 (dk_at dksX1_eatingRow_3 8 rfl rfl)
theorem dX1_eatingRow_78 : decode cX1_eatingRow 78 = .ok (.ireturn, 1) := dk_172 (dk_at dksX1_eatingRow_3 9 rfl rfl)
abbrev cX1_costs : ByteArray := prog_1_method_102_code
def yX1_costs : MethodName := ⟨RX1, "costs", "(I)I"⟩
def dkwX1_costs_1 : List UInt8 := [182, 1, 183, 182, 1, 171, 28, 42, 182, 1, 252, 100, 62, 42, 182, 1, 210, 29, 172]
abbrev dktX1_costs_1 : List UInt8 := dkwX1_costs_1 ++ []
def dkwX1_costs_0 : List UInt8 := [42, 27, 182, 1, 180, 154, 0, 5, 2, 172, 42, 182, 1, 252, 61, 42, 182, 1, 201, 42, 42, 27]
abbrev dktX1_costs_0 : List UInt8 := dkwX1_costs_0 ++ dktX1_costs_1
theorem dksX1_costs_0 : cX1_costs.data.toList.drop 0 = dktX1_costs_0 := by decide +kernel
theorem dksX1_costs_1 : cX1_costs.data.toList.drop 22 = dktX1_costs_1 := dk_seg dksX1_costs_0 22 rfl rfl
theorem dX1_costs_0 : decode cX1_costs 0 = .ok (.aload_n 0, 1) := dk_42 (dk_at dksX1_costs_0 0 rfl rfl)
theorem dX1_costs_1 : decode cX1_costs 1 = .ok (.iload_n 1, 1) := dk_27 (dk_at dksX1_costs_0 1 rfl rfl)
theorem dX1_costs_2 : decode cX1_costs 2 = .ok (.invokevirtual 436, 3) := dk_182 1 180 (dk_at dksX1_costs_0 2 rfl rfl)
theorem dX1_costs_5 : decode cX1_costs 5 = .ok (.ifCond .ne 5, 3) := dk_154 0 5 (dk_at dksX1_costs_0 5 rfl rfl)
theorem dX1_costs_8 : decode cX1_costs 8 = .ok (.iconst (-1), 1) := dk_2 (dk_at dksX1_costs_0 8 rfl rfl)
theorem dX1_costs_9 : decode cX1_costs 9 = .ok (.ireturn, 1) := dk_172 (dk_at dksX1_costs_0 9 rfl rfl)
theorem dX1_costs_10 : decode cX1_costs 10 = .ok (.aload_n 0, 1) := dk_42 (dk_at dksX1_costs_0 10 rfl rfl)
theorem dX1_costs_11 : decode cX1_costs 11 = .ok (.invokevirtual 508, 3) := dk_182 1 252 (dk_at dksX1_costs_0 11 rfl rfl)
theorem dX1_costs_14 : decode cX1_costs 14 = .ok (.istore_n 2, 1) := dk_61 (dk_at dksX1_costs_0 14 rfl rfl)
theorem dX1_costs_15 : decode cX1_costs 15 = .ok (.aload_n 0, 1) := dk_42 (dk_at dksX1_costs_0 15 rfl rfl)
theorem dX1_costs_16 : decode cX1_costs 16 = .ok (.invokevirtual 457, 3) := dk_182 1 201 (dk_at dksX1_costs_0 16 rfl rfl)
theorem dX1_costs_19 : decode cX1_costs 19 = .ok (.aload_n 0, 1) := dk_42 (dk_at dksX1_costs_0 19 rfl rfl)
theorem dX1_costs_20 : decode cX1_costs 20 = .ok (.aload_n 0, 1) := dk_42 (dk_at dksX1_costs_0 20 rfl rfl)
theorem dX1_costs_21 : decode cX1_costs 21 = .ok (.iload_n 1, 1) := dk_27 (dk_at dksX1_costs_0 21 rfl rfl)
theorem dX1_costs_22 : decode cX1_costs 22 = .ok (.invokevirtual 439, 3) := dk_182 1 183 (dk_at dksX1_costs_1 0 rfl rfl)
theorem dX1_costs_25 : decode cX1_costs 25 = .ok (.invokevirtual 427, 3) := dk_182 1 171 (dk_at dksX1_costs_1 3 rfl rfl)
theorem dX1_costs_28 : decode cX1_costs 28 = .ok (.iload_n 2, 1) := dk_28 (dk_at dksX1_costs_1 6 rfl rfl)
theorem dX1_costs_29 : decode cX1_costs 29 = .ok (.aload_n 0, 1) := dk_42 (dk_at dksX1_costs_1 7 rfl rfl)
theorem dX1_costs_30 : decode cX1_costs 30 = .ok (.invokevirtual 508, 3) := dk_182 1 252 (dk_at dksX1_costs_1 8 rfl rfl)
theorem dX1_costs_33 : decode cX1_costs 33 = .ok (.isub, 1) := dk_100 (dk_at dksX1_costs_1 11 rfl rfl)
theorem dX1_costs_34 : decode cX1_costs 34 = .ok (.istore_n 3, 1) := dk_62 (dk_at dksX1_costs_1 12 rfl rfl)
theorem dX1_costs_35 : decode cX1_costs 35 = .ok (.aload_n 0, 1) := dk_42 (dk_at dksX1_costs_1 13 rfl rfl)
theorem dX1_costs_36 : decode cX1_costs 36 = .ok (.invokevirtual 466, 3) := dk_182 1 210 (dk_at dksX1_costs_1 14 rfl rfl)
theorem dX1_costs_39 : decode cX1_costs 39 = .ok (.iload_n 3, 1) := dk_29 (dk_at dksX1_costs_1 17 rfl rfl)
theorem dX1_costs_40 : decode cX1_costs 40 = .ok (.ireturn, 1) := dk_172 (dk_at dksX1_costs_1 18 rfl rfl)
abbrev cX1_valueAll : ByteArray := prog_1_method_58_code
def yX1_valueAll : MethodName := ⟨RX1, "valueAll", "()I"⟩
def dkwX1_valueAll_1 : List UInt8 := [167, 255, 237, 27, 172]
abbrev dktX1_valueAll_1 : List UInt8 := dkwX1_valueAll_1 ++ []
def dkwX1_valueAll_0 : List UInt8 := [3, 60, 3, 61, 28, 42, 182, 1, 84, 162, 0, 17, 27, 42, 28, 182, 1, 125, 96, 60, 132, 2, 1]
abbrev dktX1_valueAll_0 : List UInt8 := dkwX1_valueAll_0 ++ dktX1_valueAll_1
theorem dksX1_valueAll_0 : cX1_valueAll.data.toList.drop 0 = dktX1_valueAll_0 := by decide +kernel
theorem dksX1_valueAll_1 : cX1_valueAll.data.toList.drop 23 = dktX1_valueAll_1 := dk_seg dksX1_valueAll_0 23 rfl rfl
theorem dX1_valueAll_0 : decode cX1_valueAll 0 = .ok (.iconst 0, 1) := dk_3 (dk_at dksX1_valueAll_0 0 rfl rfl)
theorem dX1_valueAll_1 : decode cX1_valueAll 1 = .ok (.istore_n 1, 1) := dk_60 (dk_at dksX1_valueAll_0 1 rfl rfl)
theorem dX1_valueAll_2 : decode cX1_valueAll 2 = .ok (.iconst 0, 1) := dk_3 (dk_at dksX1_valueAll_0 2 rfl rfl)
theorem dX1_valueAll_3 : decode cX1_valueAll 3 = .ok (.istore_n 2, 1) := dk_61 (dk_at dksX1_valueAll_0 3 rfl rfl)
theorem dX1_valueAll_4 : decode cX1_valueAll 4 = .ok (.iload_n 2, 1) := dk_28 (dk_at dksX1_valueAll_0 4 rfl rfl)
theorem dX1_valueAll_5 : decode cX1_valueAll 5 = .ok (.aload_n 0, 1) := dk_42 (dk_at dksX1_valueAll_0 5 rfl rfl)
theorem dX1_valueAll_6 : decode cX1_valueAll 6 = .ok (.invokevirtual 340, 3) := dk_182 1 84 (dk_at dksX1_valueAll_0 6 rfl rfl)
theorem dX1_valueAll_9 : decode cX1_valueAll 9 = .ok (.if_icmp .ge 17, 3) := dk_162 0 17 (dk_at dksX1_valueAll_0 9 rfl rfl)
theorem dX1_valueAll_12 : decode cX1_valueAll 12 = .ok (.iload_n 1, 1) := dk_27 (dk_at dksX1_valueAll_0 12 rfl rfl)
theorem dX1_valueAll_13 : decode cX1_valueAll 13 = .ok (.aload_n 0, 1) := dk_42 (dk_at dksX1_valueAll_0 13 rfl rfl)
theorem dX1_valueAll_14 : decode cX1_valueAll 14 = .ok (.iload_n 2, 1) := dk_28 (dk_at dksX1_valueAll_0 14 rfl rfl)
theorem dX1_valueAll_15 : decode cX1_valueAll 15 = .ok (.invokevirtual 381, 3) := dk_182 1 125 (dk_at dksX1_valueAll_0 15 rfl rfl)
theorem dX1_valueAll_18 : decode cX1_valueAll 18 = .ok (.iadd, 1) := dk_96 (dk_at dksX1_valueAll_0 18 rfl rfl)
theorem dX1_valueAll_19 : decode cX1_valueAll 19 = .ok (.istore_n 1, 1) := dk_60 (dk_at dksX1_valueAll_0 19 rfl rfl)
theorem dX1_valueAll_20 : decode cX1_valueAll 20 = .ok (.iinc 2 1, 3) := dk_132 2 1 (dk_at dksX1_valueAll_0 20 rfl rfl)
theorem dX1_valueAll_23 : decode cX1_valueAll 23 = .ok (.goto (-19), 3) := dk_167 255 237 (dk_at dksX1_valueAll_1 0 rfl rfl)
theorem dX1_valueAll_26 : decode cX1_valueAll 26 = .ok (.iload_n 1, 1) := dk_27 (dk_at dksX1_valueAll_1 3 rfl rfl)
theorem dX1_valueAll_27 : decode cX1_valueAll 27 = .ok (.ireturn, 1) := dk_172 (dk_at dksX1_valueAll_1 4 rfl rfl)
abbrev cX1_full : ByteArray := prog_1_method_103_code
def yX1_full : MethodName := ⟨RX1, "full", "(I)I"⟩
def dkwX1_full_2 : List UInt8 := [167, 255, 222, 2, 172]
abbrev dktX1_full_2 : List UInt8 := dkwX1_full_2 ++ []
def dkwX1_full_1 : List UInt8 := [180, 0, 33, 4, 46, 28, 104, 42, 180, 0, 33, 3, 46, 108, 27, 161, 0, 5, 28, 172, 132, 2, 1]
abbrev dktX1_full_1 : List UInt8 := dkwX1_full_1 ++ dktX1_full_2
def dkwX1_full_0 : List UInt8 := [42, 27, 182, 1, 180, 154, 0, 5, 2, 172, 3, 61, 28, 42, 180, 0, 33, 3, 46, 163, 0, 30, 42]
abbrev dktX1_full_0 : List UInt8 := dkwX1_full_0 ++ dktX1_full_1
theorem dksX1_full_0 : cX1_full.data.toList.drop 0 = dktX1_full_0 := by decide +kernel
theorem dksX1_full_1 : cX1_full.data.toList.drop 23 = dktX1_full_1 := dk_seg dksX1_full_0 23 rfl rfl
theorem dksX1_full_2 : cX1_full.data.toList.drop 46 = dktX1_full_2 := dk_seg dksX1_full_1 23 rfl rfl
theorem dX1_full_0 : decode cX1_full 0 = .ok (.aload_n 0, 1) := dk_42 (dk_at dksX1_full_0 0 rfl rfl)
theorem dX1_full_1 : decode cX1_full 1 = .ok (.iload_n 1, 1) := dk_27 (dk_at dksX1_full_0 1 rfl rfl)
theorem dX1_full_2 : decode cX1_full 2 = .ok (.invokevirtual 436, 3) := dk_182 1 180 (dk_at dksX1_full_0 2 rfl rfl)
theorem dX1_full_5 : decode cX1_full 5 = .ok (.ifCond .ne 5, 3) := dk_154 0 5 (dk_at dksX1_full_0 5 rfl rfl)
theorem dX1_full_8 : decode cX1_full 8 = .ok (.iconst (-1), 1) := dk_2 (dk_at dksX1_full_0 8 rfl rfl)
theorem dX1_full_9 : decode cX1_full 9 = .ok (.ireturn, 1) := dk_172 (dk_at dksX1_full_0 9 rfl rfl)
theorem dX1_full_10 : decode cX1_full 10 = .ok (.iconst 0, 1) := dk_3 (dk_at dksX1_full_0 10 rfl rfl)
theorem dX1_full_11 : decode cX1_full 11 = .ok (.istore_n 2, 1) := dk_61 (dk_at dksX1_full_0 11 rfl rfl)
theorem dX1_full_12 : decode cX1_full 12 = .ok (.iload_n 2, 1) := dk_28 (dk_at dksX1_full_0 12 rfl rfl)
theorem dX1_full_13 : decode cX1_full 13 = .ok (.aload_n 0, 1) := dk_42 (dk_at dksX1_full_0 13 rfl rfl)
theorem dX1_full_14 : decode cX1_full 14 = .ok (.getfield 33, 3) := dk_180 0 33 (dk_at dksX1_full_0 14 rfl rfl)
theorem dX1_full_17 : decode cX1_full 17 = .ok (.iconst 0, 1) := dk_3 (dk_at dksX1_full_0 17 rfl rfl)
theorem dX1_full_18 : decode cX1_full 18 = .ok (.iaload, 1) := dk_46 (dk_at dksX1_full_0 18 rfl rfl)
theorem dX1_full_19 : decode cX1_full 19 = .ok (.if_icmp .gt 30, 3) := dk_163 0 30 (dk_at dksX1_full_0 19 rfl rfl)
theorem dX1_full_22 : decode cX1_full 22 = .ok (.aload_n 0, 1) := dk_42 (dk_at dksX1_full_0 22 rfl rfl)
theorem dX1_full_23 : decode cX1_full 23 = .ok (.getfield 33, 3) := dk_180 0 33 (dk_at dksX1_full_1 0 rfl rfl)
theorem dX1_full_26 : decode cX1_full 26 = .ok (.iconst 1, 1) := dk_4 (dk_at dksX1_full_1 3 rfl rfl)
theorem dX1_full_27 : decode cX1_full 27 = .ok (.iaload, 1) := dk_46 (dk_at dksX1_full_1 4 rfl rfl)
theorem dX1_full_28 : decode cX1_full 28 = .ok (.iload_n 2, 1) := dk_28 (dk_at dksX1_full_1 5 rfl rfl)
theorem dX1_full_29 : decode cX1_full 29 = .ok (.imul, 1) := dk_104 (dk_at dksX1_full_1 6 rfl rfl)
theorem dX1_full_30 : decode cX1_full 30 = .ok (.aload_n 0, 1) := dk_42 (dk_at dksX1_full_1 7 rfl rfl)
theorem dX1_full_31 : decode cX1_full 31 = .ok (.getfield 33, 3) := dk_180 0 33 (dk_at dksX1_full_1 8 rfl rfl)
theorem dX1_full_34 : decode cX1_full 34 = .ok (.iconst 0, 1) := dk_3 (dk_at dksX1_full_1 11 rfl rfl)
theorem dX1_full_35 : decode cX1_full 35 = .ok (.iaload, 1) := dk_46 (dk_at dksX1_full_1 12 rfl rfl)
theorem dX1_full_36 : decode cX1_full 36 = .ok (.idiv, 1) := dk_108 (dk_at dksX1_full_1 13 rfl rfl)
theorem dX1_full_37 : decode cX1_full 37 = .ok (.iload_n 1, 1) := dk_27 (dk_at dksX1_full_1 14 rfl rfl)
theorem dX1_full_38 : decode cX1_full 38 = .ok (.if_icmp .lt 5, 3) := dk_161 0 5 (dk_at dksX1_full_1 15 rfl rfl)
theorem dX1_full_41 : decode cX1_full 41 = .ok (.iload_n 2, 1) := dk_28 (dk_at dksX1_full_1 18 rfl rfl)
theorem dX1_full_42 : decode cX1_full 42 = .ok (.ireturn, 1) := dk_172 (dk_at dksX1_full_1 19 rfl rfl)
theorem dX1_full_43 : decode cX1_full 43 = .ok (.iinc 2 1, 3) := dk_132 2 1 (dk_at dksX1_full_1 20 rfl rfl)
theorem dX1_full_46 : decode cX1_full 46 = .ok (.goto (-34), 3) := dk_167 255 222 (dk_at dksX1_full_2 0 rfl rfl)
theorem dX1_full_49 : decode cX1_full 49 = .ok (.iconst (-1), 1) := dk_2 (dk_at dksX1_full_2 3 rfl rfl)
theorem dX1_full_50 : decode cX1_full 50 = .ok (.ireturn, 1) := dk_172 (dk_at dksX1_full_2 4 rfl rfl)
abbrev cX1_keep : ByteArray := prog_1_method_104_code
def yX1_keep : MethodName := ⟨RX1, "keep", "(II)I"⟩
def dkwX1_keep_3 : List UInt8 := [161, 0, 12, 21, 4, 4, 21, 5, 120, 128, 54, 4, 132, 5, 1, 167, 255, 205, 21, 4, 172]
abbrev dktX1_keep_3 : List UInt8 := dkwX1_keep_3 ++ []
def dkwX1_keep_2 : List UInt8 := [21, 5, 29, 182, 1, 114, 42, 21, 5, 182, 1, 87, 42, 180, 0, 58, 16, 33, 46, 182, 1, 117, 28]
abbrev dktX1_keep_2 : List UInt8 := dkwX1_keep_2 ++ dktX1_keep_3
def dkwX1_keep_1 : List UInt8 := [182, 1, 183, 62, 3, 54, 4, 3, 54, 5, 21, 5, 42, 182, 1, 84, 162, 0, 48, 42, 21, 5, 42]
abbrev dktX1_keep_1 : List UInt8 := dkwX1_keep_1 ++ dktX1_keep_2
def dkwX1_keep_0 : List UInt8 := [42, 27, 182, 1, 180, 153, 0, 13, 28, 3, 16, 9, 184, 0, 246, 154, 0, 5, 2, 172, 42, 27]
abbrev dktX1_keep_0 : List UInt8 := dkwX1_keep_0 ++ dktX1_keep_1
theorem dksX1_keep_0 : cX1_keep.data.toList.drop 0 = dktX1_keep_0 := by decide +kernel
theorem dksX1_keep_1 : cX1_keep.data.toList.drop 22 = dktX1_keep_1 := dk_seg dksX1_keep_0 22 rfl rfl
theorem dksX1_keep_2 : cX1_keep.data.toList.drop 45 = dktX1_keep_2 := dk_seg dksX1_keep_1 23 rfl rfl
theorem dksX1_keep_3 : cX1_keep.data.toList.drop 68 = dktX1_keep_3 := dk_seg dksX1_keep_2 23 rfl rfl
theorem dX1_keep_0 : decode cX1_keep 0 = .ok (.aload_n 0, 1) := dk_42 (dk_at dksX1_keep_0 0 rfl rfl)
theorem dX1_keep_1 : decode cX1_keep 1 = .ok (.iload_n 1, 1) := dk_27 (dk_at dksX1_keep_0 1 rfl rfl)
theorem dX1_keep_2 : decode cX1_keep 2 = .ok (.invokevirtual 436, 3) := dk_182 1 180 (dk_at dksX1_keep_0 2 rfl rfl)
theorem dX1_keep_5 : decode cX1_keep 5 = .ok (.ifCond .eq 13, 3) := dk_153 0 13 (dk_at dksX1_keep_0 5 rfl rfl)
theorem dX1_keep_8 : decode cX1_keep 8 = .ok (.iload_n 2, 1) := dk_28 (dk_at dksX1_keep_0 8 rfl rfl)
theorem dX1_keep_9 : decode cX1_keep 9 = .ok (.iconst 0, 1) := dk_3 (dk_at dksX1_keep_0 9 rfl rfl)
theorem dX1_keep_10 : decode cX1_keep 10 = .ok (.bipush 9, 2) := dk_16 9 (dk_at dksX1_keep_0 10 rfl rfl)
theorem dX1_keep_12 : decode cX1_keep 12 = .ok (.invokestatic 246, 3) := dk_184 0 246 (dk_at dksX1_keep_0 12 rfl rfl)
theorem dX1_keep_15 : decode cX1_keep 15 = .ok (.ifCond .ne 5, 3) := dk_154 0 5 (dk_at dksX1_keep_0 15 rfl rfl)
theorem dX1_keep_18 : decode cX1_keep 18 = .ok (.iconst (-1), 1) := dk_2 (dk_at dksX1_keep_0 18 rfl rfl)
theorem dX1_keep_19 : decode cX1_keep 19 = .ok (.ireturn, 1) := dk_172 (dk_at dksX1_keep_0 19 rfl rfl)
theorem dX1_keep_20 : decode cX1_keep 20 = .ok (.aload_n 0, 1) := dk_42 (dk_at dksX1_keep_0 20 rfl rfl)
theorem dX1_keep_21 : decode cX1_keep 21 = .ok (.iload_n 1, 1) := dk_27 (dk_at dksX1_keep_0 21 rfl rfl)
theorem dX1_keep_22 : decode cX1_keep 22 = .ok (.invokevirtual 439, 3) := dk_182 1 183 (dk_at dksX1_keep_1 0 rfl rfl)
theorem dX1_keep_25 : decode cX1_keep 25 = .ok (.istore_n 3, 1) := dk_62 (dk_at dksX1_keep_1 3 rfl rfl)
theorem dX1_keep_26 : decode cX1_keep 26 = .ok (.iconst 0, 1) := dk_3 (dk_at dksX1_keep_1 4 rfl rfl)
theorem dX1_keep_27 : decode cX1_keep 27 = .ok (.istore 4, 2) := dk_54 4 (dk_at dksX1_keep_1 5 rfl rfl)
theorem dX1_keep_29 : decode cX1_keep 29 = .ok (.iconst 0, 1) := dk_3 (dk_at dksX1_keep_1 7 rfl rfl)
theorem dX1_keep_30 : decode cX1_keep 30 = .ok (.istore 5, 2) := dk_54 5 (dk_at dksX1_keep_1 8 rfl rfl)
theorem dX1_keep_32 : decode cX1_keep 32 = .ok (.iload 5, 2) := dk_21 5 (dk_at dksX1_keep_1 10 rfl rfl)
theorem dX1_keep_34 : decode cX1_keep 34 = .ok (.aload_n 0, 1) := dk_42 (dk_at dksX1_keep_1 12 rfl rfl)
theorem dX1_keep_35 : decode cX1_keep 35 = .ok (.invokevirtual 340, 3) := dk_182 1 84 (dk_at dksX1_keep_1 13 rfl rfl)
theorem dX1_keep_38 : decode cX1_keep 38 = .ok (.if_icmp .ge 48, 3) := dk_162 0 48 (dk_at dksX1_keep_1 16 rfl rfl)
theorem dX1_keep_41 : decode cX1_keep 41 = .ok (.aload_n 0, 1) := dk_42 (dk_at dksX1_keep_1 19 rfl rfl)
theorem dX1_keep_42 : decode cX1_keep 42 = .ok (.iload 5, 2) := dk_21 5 (dk_at dksX1_keep_1 20 rfl rfl)
theorem dX1_keep_44 : decode cX1_keep 44 = .ok (.aload_n 0, 1) := dk_42 (dk_at dksX1_keep_1 22 rfl rfl)
theorem dX1_keep_45 : decode cX1_keep 45 = .ok (.iload 5, 2) := dk_21 5 (dk_at dksX1_keep_2 0 rfl rfl)
theorem dX1_keep_47 : decode cX1_keep 47 = .ok (.iload_n 3, 1) := dk_29 (dk_at dksX1_keep_2 2 rfl rfl)
theorem dX1_keep_48 : decode cX1_keep 48 = .ok (.invokevirtual 370, 3) := dk_182 1 114 (dk_at dksX1_keep_2 3 rfl rfl)
theorem dX1_keep_51 : decode cX1_keep 51 = .ok (.aload_n 0, 1) := dk_42 (dk_at dksX1_keep_2 6 rfl rfl)
theorem dX1_keep_52 : decode cX1_keep 52 = .ok (.iload 5, 2) := dk_21 5 (dk_at dksX1_keep_2 7 rfl rfl)
theorem dX1_keep_54 : decode cX1_keep 54 = .ok (.invokevirtual 343, 3) := dk_182 1 87 (dk_at dksX1_keep_2 9 rfl rfl)
theorem dX1_keep_57 : decode cX1_keep 57 = .ok (.aload_n 0, 1) := dk_42 (dk_at dksX1_keep_2 12 rfl rfl)
theorem dX1_keep_58 : decode cX1_keep 58 = .ok (.getfield 58, 3) := dk_180 0 58 (dk_at dksX1_keep_2 13 rfl rfl)
theorem dX1_keep_61 : decode cX1_keep 61 = .ok (.bipush 33, 2) := dk_16 33 (dk_at dksX1_keep_2 16 rfl rfl)
theorem dX1_keep_63 : decode cX1_keep 63 = .ok (.iaload, 1) := dk_46 (dk_at dksX1_keep_2 18 rfl rfl)
theorem dX1_keep_64 : decode cX1_keep 64 = .ok (.invokevirtual 373, 3) := dk_182 1 117 (dk_at dksX1_keep_2 19 rfl rfl)
theorem dX1_keep_67 : decode cX1_keep 67 = .ok (.iload_n 2, 1) := dk_28 (dk_at dksX1_keep_2 22 rfl rfl)
theorem dX1_keep_68 : decode cX1_keep 68 = .ok (.if_icmp .lt 12, 3) := dk_161 0 12 (dk_at dksX1_keep_3 0 rfl rfl)
theorem dX1_keep_71 : decode cX1_keep 71 = .ok (.iload 4, 2) := dk_21 4 (dk_at dksX1_keep_3 3 rfl rfl)
theorem dX1_keep_73 : decode cX1_keep 73 = .ok (.iconst 1, 1) := dk_4 (dk_at dksX1_keep_3 5 rfl rfl)
theorem dX1_keep_74 : decode cX1_keep 74 = .ok (.iload 5, 2) := dk_21 5 (dk_at dksX1_keep_3 6 rfl rfl)
theorem dX1_keep_76 : decode cX1_keep 76 = .ok (.ishl, 1) := dk_120 (dk_at dksX1_keep_3 8 rfl rfl)
theorem dX1_keep_77 : decode cX1_keep 77 = .ok (.ior, 1) := dk_128 (dk_at dksX1_keep_3 9 rfl rfl)
theorem dX1_keep_78 : decode cX1_keep 78 = .ok (.istore 4, 2) := dk_54 4 (dk_at dksX1_keep_3 10 rfl rfl)
theorem dX1_keep_80 : decode cX1_keep 80 = .ok (.iinc 5 1, 3) := dk_132 5 1 (dk_at dksX1_keep_3 12 rfl rfl)
theorem dX1_keep_83 : decode cX1_keep 83 = .ok (.goto (-51), 3) := dk_167 255 205 (dk_at dksX1_keep_3 15 rfl rfl)
theorem dX1_keep_86 : decode cX1_keep 86 = .ok (.iload 4, 2) := dk_21 4 (dk_at dksX1_keep_3 18 rfl rfl)
theorem dX1_keep_88 : decode cX1_keep 88 = .ok (.ireturn, 1) := dk_172 (dk_at dksX1_keep_3 20 rfl rfl)
abbrev cX1_spans : ByteArray := prog_1_method_106_code
def yX1_spans : MethodName := ⟨RX1, "spans", "(II)I"⟩
def dkwX1_spans_3 : List UInt8 := [21, 4, 27, 182, 1, 255, 96, 62, 132, 4, 1, 167, 255, 199, 29, 172]
abbrev dktX1_spans_3 : List UInt8 := dkwX1_spans_3 ++ []
def dkwX1_spans_2 : List UInt8 := [182, 1, 93, 27, 160, 0, 13, 29, 42, 21, 4, 4, 182, 1, 93, 96, 62, 28, 4, 160, 0, 13, 29, 42]
abbrev dktX1_spans_2 : List UInt8 := dkwX1_spans_2 ++ dktX1_spans_3
def dkwX1_spans_1 : List UInt8 := [21, 4, 42, 182, 1, 84, 162, 0, 54, 42, 21, 4, 182, 1, 143, 153, 0, 24, 42, 21, 4, 3]
abbrev dktX1_spans_1 : List UInt8 := dkwX1_spans_1 ++ dktX1_spans_2
def dkwX1_spans_0 : List UInt8 := [42, 27, 182, 1, 131, 153, 0, 12, 28, 3, 4, 184, 0, 246, 154, 0, 5, 2, 172, 3, 62, 3, 54, 4]
abbrev dktX1_spans_0 : List UInt8 := dkwX1_spans_0 ++ dktX1_spans_1
theorem dksX1_spans_0 : cX1_spans.data.toList.drop 0 = dktX1_spans_0 := by decide +kernel
theorem dksX1_spans_1 : cX1_spans.data.toList.drop 24 = dktX1_spans_1 := dk_seg dksX1_spans_0 24 rfl rfl
theorem dksX1_spans_2 : cX1_spans.data.toList.drop 46 = dktX1_spans_2 := dk_seg dksX1_spans_1 22 rfl rfl
theorem dksX1_spans_3 : cX1_spans.data.toList.drop 70 = dktX1_spans_3 := dk_seg dksX1_spans_2 24 rfl rfl
theorem dX1_spans_0 : decode cX1_spans 0 = .ok (.aload_n 0, 1) := dk_42 (dk_at dksX1_spans_0 0 rfl rfl)
theorem dX1_spans_1 : decode cX1_spans 1 = .ok (.iload_n 1, 1) := dk_27 (dk_at dksX1_spans_0 1 rfl rfl)
theorem dX1_spans_2 : decode cX1_spans 2 = .ok (.invokevirtual 387, 3) := dk_182 1 131 (dk_at dksX1_spans_0 2 rfl rfl)
theorem dX1_spans_5 : decode cX1_spans 5 = .ok (.ifCond .eq 12, 3) := dk_153 0 12 (dk_at dksX1_spans_0 5 rfl rfl)
theorem dX1_spans_8 : decode cX1_spans 8 = .ok (.iload_n 2, 1) := dk_28 (dk_at dksX1_spans_0 8 rfl rfl)
theorem dX1_spans_9 : decode cX1_spans 9 = .ok (.iconst 0, 1) := dk_3 (dk_at dksX1_spans_0 9 rfl rfl)
theorem dX1_spans_10 : decode cX1_spans 10 = .ok (.iconst 1, 1) := dk_4 (dk_at dksX1_spans_0 10 rfl rfl)
theorem dX1_spans_11 : decode cX1_spans 11 = .ok (.invokestatic 246, 3) := dk_184 0 246 (dk_at dksX1_spans_0 11 rfl rfl)
theorem dX1_spans_14 : decode cX1_spans 14 = .ok (.ifCond .ne 5, 3) := dk_154 0 5 (dk_at dksX1_spans_0 14 rfl rfl)
theorem dX1_spans_17 : decode cX1_spans 17 = .ok (.iconst (-1), 1) := dk_2 (dk_at dksX1_spans_0 17 rfl rfl)
theorem dX1_spans_18 : decode cX1_spans 18 = .ok (.ireturn, 1) := dk_172 (dk_at dksX1_spans_0 18 rfl rfl)
theorem dX1_spans_19 : decode cX1_spans 19 = .ok (.iconst 0, 1) := dk_3 (dk_at dksX1_spans_0 19 rfl rfl)
theorem dX1_spans_20 : decode cX1_spans 20 = .ok (.istore_n 3, 1) := dk_62 (dk_at dksX1_spans_0 20 rfl rfl)
theorem dX1_spans_21 : decode cX1_spans 21 = .ok (.iconst 0, 1) := dk_3 (dk_at dksX1_spans_0 21 rfl rfl)
theorem dX1_spans_22 : decode cX1_spans 22 = .ok (.istore 4, 2) := dk_54 4 (dk_at dksX1_spans_0 22 rfl rfl)
theorem dX1_spans_24 : decode cX1_spans 24 = .ok (.iload 4, 2) := dk_21 4 (dk_at dksX1_spans_1 0 rfl rfl)
theorem dX1_spans_26 : decode cX1_spans 26 = .ok (.aload_n 0, 1) := dk_42 (dk_at dksX1_spans_1 2 rfl rfl)
theorem dX1_spans_27 : decode cX1_spans 27 = .ok (.invokevirtual 340, 3) := dk_182 1 84 (dk_at dksX1_spans_1 3 rfl rfl)
theorem dX1_spans_30 : decode cX1_spans 30 = .ok (.if_icmp .ge 54, 3) := dk_162 0 54 (dk_at dksX1_spans_1 6 rfl rfl)
theorem dX1_spans_33 : decode cX1_spans 33 = .ok (.aload_n 0, 1) := dk_42 (dk_at dksX1_spans_1 9 rfl rfl)
theorem dX1_spans_34 : decode cX1_spans 34 = .ok (.iload 4, 2) := dk_21 4 (dk_at dksX1_spans_1 10 rfl rfl)
theorem dX1_spans_36 : decode cX1_spans 36 = .ok (.invokevirtual 399, 3) := dk_182 1 143 (dk_at dksX1_spans_1 12 rfl rfl)
theorem dX1_spans_39 : decode cX1_spans 39 = .ok (.ifCond .eq 24, 3) := dk_153 0 24 (dk_at dksX1_spans_1 15 rfl rfl)
theorem dX1_spans_42 : decode cX1_spans 42 = .ok (.aload_n 0, 1) := dk_42 (dk_at dksX1_spans_1 18 rfl rfl)
theorem dX1_spans_43 : decode cX1_spans 43 = .ok (.iload 4, 2) := dk_21 4 (dk_at dksX1_spans_1 19 rfl rfl)
theorem dX1_spans_45 : decode cX1_spans 45 = .ok (.iconst 0, 1) := dk_3 (dk_at dksX1_spans_1 21 rfl rfl)
theorem dX1_spans_46 : decode cX1_spans 46 = .ok (.invokevirtual 349, 3) := dk_182 1 93 (dk_at dksX1_spans_2 0 rfl rfl)
theorem dX1_spans_49 : decode cX1_spans 49 = .ok (.iload_n 1, 1) := dk_27 (dk_at dksX1_spans_2 3 rfl rfl)
theorem dX1_spans_50 : decode cX1_spans 50 = .ok (.if_icmp .ne 13, 3) := dk_160 0 13 (dk_at dksX1_spans_2 4 rfl rfl)
theorem dX1_spans_53 : decode cX1_spans 53 = .ok (.iload_n 3, 1) := dk_29 (dk_at dksX1_spans_2 7 rfl rfl)
theorem dX1_spans_54 : decode cX1_spans 54 = .ok (.aload_n 0, 1) := dk_42 (dk_at dksX1_spans_2 8 rfl rfl)
theorem dX1_spans_55 : decode cX1_spans 55 = .ok (.iload 4, 2) := dk_21 4 (dk_at dksX1_spans_2 9 rfl rfl)
theorem dX1_spans_57 : decode cX1_spans 57 = .ok (.iconst 1, 1) := dk_4 (dk_at dksX1_spans_2 11 rfl rfl)
theorem dX1_spans_58 : decode cX1_spans 58 = .ok (.invokevirtual 349, 3) := dk_182 1 93 (dk_at dksX1_spans_2 12 rfl rfl)
theorem dX1_spans_61 : decode cX1_spans 61 = .ok (.iadd, 1) := dk_96 (dk_at dksX1_spans_2 15 rfl rfl)
theorem dX1_spans_62 : decode cX1_spans 62 = .ok (.istore_n 3, 1) := dk_62 (dk_at dksX1_spans_2 16 rfl rfl)
theorem dX1_spans_63 : decode cX1_spans 63 = .ok (.iload_n 2, 1) := dk_28 (dk_at dksX1_spans_2 17 rfl rfl)
theorem dX1_spans_64 : decode cX1_spans 64 = .ok (.iconst 1, 1) := dk_4 (dk_at dksX1_spans_2 18 rfl rfl)
theorem dX1_spans_65 : decode cX1_spans 65 = .ok (.if_icmp .ne 13, 3) := dk_160 0 13 (dk_at dksX1_spans_2 19 rfl rfl)
theorem dX1_spans_68 : decode cX1_spans 68 = .ok (.iload_n 3, 1) := dk_29 (dk_at dksX1_spans_2 22 rfl rfl)
theorem dX1_spans_69 : decode cX1_spans 69 = .ok (.aload_n 0, 1) := dk_42 (dk_at dksX1_spans_2 23 rfl rfl)
theorem dX1_spans_70 : decode cX1_spans 70 = .ok (.iload 4, 2) := dk_21 4 (dk_at dksX1_spans_3 0 rfl rfl)
theorem dX1_spans_72 : decode cX1_spans 72 = .ok (.iload_n 1, 1) := dk_27 (dk_at dksX1_spans_3 2 rfl rfl)
theorem dX1_spans_73 : decode cX1_spans 73 = .ok (.invokevirtual 511, 3) := dk_182 1 255 (dk_at dksX1_spans_3 3 rfl rfl)
theorem dX1_spans_76 : decode cX1_spans 76 = .ok (.iadd, 1) := dk_96 (dk_at dksX1_spans_3 6 rfl rfl)
theorem dX1_spans_77 : decode cX1_spans 77 = .ok (.istore_n 3, 1) := dk_62 (dk_at dksX1_spans_3 7 rfl rfl)
theorem dX1_spans_78 : decode cX1_spans 78 = .ok (.iinc 4 1, 3) := dk_132 4 1 (dk_at dksX1_spans_3 8 rfl rfl)
theorem dX1_spans_81 : decode cX1_spans 81 = .ok (.goto (-57), 3) := dk_167 255 199 (dk_at dksX1_spans_3 11 rfl rfl)
theorem dX1_spans_84 : decode cX1_spans 84 = .ok (.iload_n 3, 1) := dk_29 (dk_at dksX1_spans_3 14 rfl rfl)
theorem dX1_spans_85 : decode cX1_spans 85 = .ok (.ireturn, 1) := dk_172 (dk_at dksX1_spans_3 15 rfl rfl)
abbrev cX1_couldHold : ByteArray := prog_1_method_105_code
def yX1_couldHold : MethodName := ⟨RX1, "couldHold", "(II)I"⟩
def dkwX1_couldHold_3 : List UInt8 := [21, 4, 4, 16, 9, 184, 0, 246, 153, 0, 8, 21, 4, 167, 0, 4, 3, 172]
abbrev dktX1_couldHold_3 : List UInt8 := dkwX1_couldHold_3 ++ []
def dkwX1_couldHold_2 : List UInt8 := [167, 0, 4, 3, 62, 42, 27, 182, 1, 146, 42, 28, 4, 182, 1, 90, 108, 54, 4, 29, 153, 0, 19]
abbrev dktX1_couldHold_2 : List UInt8 := dkwX1_couldHold_2 ++ dktX1_couldHold_3
def dkwX1_couldHold_1 : List UInt8 := [182, 1, 90, 160, 0, 22, 42, 27, 182, 1, 146, 42, 28, 4, 182, 1, 90, 112, 154, 0, 7, 4]
abbrev dktX1_couldHold_1 : List UInt8 := dkwX1_couldHold_1 ++ dktX1_couldHold_2
def dkwX1_couldHold_0 : List UInt8 := [42, 27, 182, 1, 143, 154, 0, 42, 42, 42, 27, 3, 182, 1, 93, 3, 182, 1, 90, 42, 28, 3]
abbrev dktX1_couldHold_0 : List UInt8 := dkwX1_couldHold_0 ++ dktX1_couldHold_1
theorem dksX1_couldHold_0 : cX1_couldHold.data.toList.drop 0 = dktX1_couldHold_0 := by decide +kernel
theorem dksX1_couldHold_1 : cX1_couldHold.data.toList.drop 22 = dktX1_couldHold_1 := dk_seg dksX1_couldHold_0 22 rfl rfl
theorem dksX1_couldHold_2 : cX1_couldHold.data.toList.drop 44 = dktX1_couldHold_2 := dk_seg dksX1_couldHold_1 22 rfl rfl
theorem dksX1_couldHold_3 : cX1_couldHold.data.toList.drop 67 = dktX1_couldHold_3 := dk_seg dksX1_couldHold_2 23 rfl rfl
theorem dX1_couldHold_0 : decode cX1_couldHold 0 = .ok (.aload_n 0, 1) := dk_42 (dk_at dksX1_couldHold_0 0 rfl rfl)
theorem dX1_couldHold_1 : decode cX1_couldHold 1 = .ok (.iload_n 1, 1) := dk_27 (dk_at dksX1_couldHold_0 1 rfl rfl)
theorem dX1_couldHold_2 : decode cX1_couldHold 2 = .ok (.invokevirtual 399, 3) := dk_182 1 143 (dk_at dksX1_couldHold_0 2 rfl rfl)
theorem dX1_couldHold_5 : decode cX1_couldHold 5 = .ok (.ifCond .ne 42, 3) := dk_154 0 42 (dk_at dksX1_couldHold_0 5 rfl rfl)
theorem dX1_couldHold_8 : decode cX1_couldHold 8 = .ok (.aload_n 0, 1) := dk_42 (dk_at dksX1_couldHold_0 8 rfl rfl)
theorem dX1_couldHold_9 : decode cX1_couldHold 9 = .ok (.aload_n 0, 1) := dk_42 (dk_at dksX1_couldHold_0 9 rfl rfl)
theorem dX1_couldHold_10 : decode cX1_couldHold 10 = .ok (.iload_n 1, 1) := dk_27 (dk_at dksX1_couldHold_0 10 rfl rfl)
theorem dX1_couldHold_11 : decode cX1_couldHold 11 = .ok (.iconst 0, 1) := dk_3 (dk_at dksX1_couldHold_0 11 rfl rfl)
theorem dX1_couldHold_12 : decode cX1_couldHold 12 = .ok (.invokevirtual 349, 3) := dk_182 1 93 (dk_at dksX1_couldHold_0 12 rfl rfl)
theorem dX1_couldHold_15 : decode cX1_couldHold 15 = .ok (.iconst 0, 1) := dk_3 (dk_at dksX1_couldHold_0 15 rfl rfl)
theorem dX1_couldHold_16 : decode cX1_couldHold 16 = .ok (.invokevirtual 346, 3) := dk_182 1 90 (dk_at dksX1_couldHold_0 16 rfl rfl)
theorem dX1_couldHold_19 : decode cX1_couldHold 19 = .ok (.aload_n 0, 1) := dk_42 (dk_at dksX1_couldHold_0 19 rfl rfl)
theorem dX1_couldHold_20 : decode cX1_couldHold 20 = .ok (.iload_n 2, 1) := dk_28 (dk_at dksX1_couldHold_0 20 rfl rfl)
theorem dX1_couldHold_21 : decode cX1_couldHold 21 = .ok (.iconst 0, 1) := dk_3 (dk_at dksX1_couldHold_0 21 rfl rfl)
theorem dX1_couldHold_22 : decode cX1_couldHold 22 = .ok (.invokevirtual 346, 3) := dk_182 1 90 (dk_at dksX1_couldHold_1 0 rfl rfl)
theorem dX1_couldHold_25 : decode cX1_couldHold 25 = .ok (.if_icmp .ne 22, 3) := dk_160 0 22 (dk_at dksX1_couldHold_1 3 rfl rfl)
theorem dX1_couldHold_28 : decode cX1_couldHold 28 = .ok (.aload_n 0, 1) := dk_42 (dk_at dksX1_couldHold_1 6 rfl rfl)
theorem dX1_couldHold_29 : decode cX1_couldHold 29 = .ok (.iload_n 1, 1) := dk_27 (dk_at dksX1_couldHold_1 7 rfl rfl)
theorem dX1_couldHold_30 : decode cX1_couldHold 30 = .ok (.invokevirtual 402, 3) := dk_182 1 146 (dk_at dksX1_couldHold_1 8 rfl rfl)
theorem dX1_couldHold_33 : decode cX1_couldHold 33 = .ok (.aload_n 0, 1) := dk_42 (dk_at dksX1_couldHold_1 11 rfl rfl)
theorem dX1_couldHold_34 : decode cX1_couldHold 34 = .ok (.iload_n 2, 1) := dk_28 (dk_at dksX1_couldHold_1 12 rfl rfl)
theorem dX1_couldHold_35 : decode cX1_couldHold 35 = .ok (.iconst 1, 1) := dk_4 (dk_at dksX1_couldHold_1 13 rfl rfl)
theorem dX1_couldHold_36 : decode cX1_couldHold 36 = .ok (.invokevirtual 346, 3) := dk_182 1 90 (dk_at dksX1_couldHold_1 14 rfl rfl)
theorem dX1_couldHold_39 : decode cX1_couldHold 39 = .ok (.irem, 1) := dk_112 (dk_at dksX1_couldHold_1 17 rfl rfl)
theorem dX1_couldHold_40 : decode cX1_couldHold 40 = .ok (.ifCond .ne 7, 3) := dk_154 0 7 (dk_at dksX1_couldHold_1 18 rfl rfl)
theorem dX1_couldHold_43 : decode cX1_couldHold 43 = .ok (.iconst 1, 1) := dk_4 (dk_at dksX1_couldHold_1 21 rfl rfl)
theorem dX1_couldHold_44 : decode cX1_couldHold 44 = .ok (.goto 4, 3) := dk_167 0 4 (dk_at dksX1_couldHold_2 0 rfl rfl)
theorem dX1_couldHold_47 : decode cX1_couldHold 47 = .ok (.iconst 0, 1) := dk_3 (dk_at dksX1_couldHold_2 3 rfl rfl)
theorem dX1_couldHold_48 : decode cX1_couldHold 48 = .ok (.istore_n 3, 1) := dk_62 (dk_at dksX1_couldHold_2 4 rfl rfl)
theorem dX1_couldHold_49 : decode cX1_couldHold 49 = .ok (.aload_n 0, 1) := dk_42 (dk_at dksX1_couldHold_2 5 rfl rfl)
theorem dX1_couldHold_50 : decode cX1_couldHold 50 = .ok (.iload_n 1, 1) := dk_27 (dk_at dksX1_couldHold_2 6 rfl rfl)
theorem dX1_couldHold_51 : decode cX1_couldHold 51 = .ok (.invokevirtual 402, 3) := dk_182 1 146 (dk_at dksX1_couldHold_2 7 rfl rfl)
theorem dX1_couldHold_54 : decode cX1_couldHold 54 = .ok (.aload_n 0, 1) := dk_42 (dk_at dksX1_couldHold_2 10 rfl rfl)
theorem dX1_couldHold_55 : decode cX1_couldHold 55 = .ok (.iload_n 2, 1) := dk_28 (dk_at dksX1_couldHold_2 11 rfl rfl)
theorem dX1_couldHold_56 : decode cX1_couldHold 56 = .ok (.iconst 1, 1) := dk_4 (dk_at dksX1_couldHold_2 12 rfl rfl)
theorem dX1_couldHold_57 : decode cX1_couldHold 57 = .ok (.invokevirtual 346, 3) := dk_182 1 90 (dk_at dksX1_couldHold_2 13 rfl rfl)
theorem dX1_couldHold_60 : decode cX1_couldHold 60 = .ok (.idiv, 1) := dk_108 (dk_at dksX1_couldHold_2 16 rfl rfl)
theorem dX1_couldHold_61 : decode cX1_couldHold 61 = .ok (.istore 4, 2) := dk_54 4 (dk_at dksX1_couldHold_2 17 rfl rfl)
theorem dX1_couldHold_63 : decode cX1_couldHold 63 = .ok (.iload_n 3, 1) := dk_29 (dk_at dksX1_couldHold_2 19 rfl rfl)
theorem dX1_couldHold_64 : decode cX1_couldHold 64 = .ok (.ifCond .eq 19, 3) := dk_153 0 19 (dk_at dksX1_couldHold_2 20 rfl rfl)
theorem dX1_couldHold_67 : decode cX1_couldHold 67 = .ok (.iload 4, 2) := dk_21 4 (dk_at dksX1_couldHold_3 0 rfl rfl)
theorem dX1_couldHold_69 : decode cX1_couldHold 69 = .ok (.iconst 1, 1) := dk_4 (dk_at dksX1_couldHold_3 2 rfl rfl)
theorem dX1_couldHold_70 : decode cX1_couldHold 70 = .ok (.bipush 9, 2) := dk_16 9 (dk_at dksX1_couldHold_3 3 rfl rfl)
theorem dX1_couldHold_72 : decode cX1_couldHold 72 = .ok (.invokestatic 246, 3) := dk_184 0 246 (dk_at dksX1_couldHold_3 5 rfl rfl)
theorem dX1_couldHold_75 : decode cX1_couldHold 75 = .ok (.ifCond .eq 8, 3) := dk_153 0 8 (dk_at dksX1_couldHold_3 8 rfl rfl)
theorem dX1_couldHold_78 : decode cX1_couldHold 78 = .ok (.iload 4, 2) := dk_21 4 (dk_at dksX1_couldHold_3 11 rfl rfl)
theorem dX1_couldHold_80 : decode cX1_couldHold 80 = .ok (.goto 4, 3) := dk_167 0 4 (dk_at dksX1_couldHold_3 13 rfl rfl)
theorem dX1_couldHold_83 : decode cX1_couldHold 83 = .ok (.iconst 0, 1) := dk_3 (dk_at dksX1_couldHold_3 16 rfl rfl)
theorem dX1_couldHold_84 : decode cX1_couldHold 84 = .ok (.ireturn, 1) := dk_172 (dk_at dksX1_couldHold_3 17 rfl rfl)
abbrev cX1_weighs : ByteArray := prog_1_method_51_code
def yX1_weighs : MethodName := ⟨RX1, "weighs", "(I)I"⟩
def dkwX1_weighs_0 : List UInt8 := [42, 27, 4, 182, 1, 93, 42, 42, 27, 3, 182, 1, 93, 4, 182, 1, 90, 104, 172]
abbrev dktX1_weighs_0 : List UInt8 := dkwX1_weighs_0 ++ []
theorem dksX1_weighs_0 : cX1_weighs.data.toList.drop 0 = dktX1_weighs_0 := by decide +kernel
theorem dX1_weighs_0 : decode cX1_weighs 0 = .ok (.aload_n 0, 1) := dk_42 (dk_at dksX1_weighs_0 0 rfl rfl)
theorem dX1_weighs_1 : decode cX1_weighs 1 = .ok (.iload_n 1, 1) := dk_27 (dk_at dksX1_weighs_0 1 rfl rfl)
theorem dX1_weighs_2 : decode cX1_weighs 2 = .ok (.iconst 1, 1) := dk_4 (dk_at dksX1_weighs_0 2 rfl rfl)
theorem dX1_weighs_3 : decode cX1_weighs 3 = .ok (.invokevirtual 349, 3) := dk_182 1 93 (dk_at dksX1_weighs_0 3 rfl rfl)
theorem dX1_weighs_6 : decode cX1_weighs 6 = .ok (.aload_n 0, 1) := dk_42 (dk_at dksX1_weighs_0 6 rfl rfl)
theorem dX1_weighs_7 : decode cX1_weighs 7 = .ok (.aload_n 0, 1) := dk_42 (dk_at dksX1_weighs_0 7 rfl rfl)
theorem dX1_weighs_8 : decode cX1_weighs 8 = .ok (.iload_n 1, 1) := dk_27 (dk_at dksX1_weighs_0 8 rfl rfl)
theorem dX1_weighs_9 : decode cX1_weighs 9 = .ok (.iconst 0, 1) := dk_3 (dk_at dksX1_weighs_0 9 rfl rfl)
theorem dX1_weighs_10 : decode cX1_weighs 10 = .ok (.invokevirtual 349, 3) := dk_182 1 93 (dk_at dksX1_weighs_0 10 rfl rfl)
theorem dX1_weighs_13 : decode cX1_weighs 13 = .ok (.iconst 1, 1) := dk_4 (dk_at dksX1_weighs_0 13 rfl rfl)
theorem dX1_weighs_14 : decode cX1_weighs 14 = .ok (.invokevirtual 346, 3) := dk_182 1 90 (dk_at dksX1_weighs_0 14 rfl rfl)
theorem dX1_weighs_17 : decode cX1_weighs 17 = .ok (.imul, 1) := dk_104 (dk_at dksX1_weighs_0 17 rfl rfl)
theorem dX1_weighs_18 : decode cX1_weighs 18 = .ok (.ireturn, 1) := dk_172 (dk_at dksX1_weighs_0 18 rfl rfl)
abbrev cX1_nameless : ByteArray := prog_1_method_108_code
def yX1_nameless : MethodName := ⟨RX1, "nameless", "()I"⟩
def dkwX1_nameless_0 : List UInt8 := [42, 182, 1, 128, 153, 0, 10, 42, 182, 2, 2, 167, 0, 4, 2, 172]
abbrev dktX1_nameless_0 : List UInt8 := dkwX1_nameless_0 ++ []
theorem dksX1_nameless_0 : cX1_nameless.data.toList.drop 0 = dktX1_nameless_0 := by decide +kernel
theorem dX1_nameless_0 : decode cX1_nameless 0 = .ok (.aload_n 0, 1) := dk_42 (dk_at dksX1_nameless_0 0 rfl rfl)
theorem dX1_nameless_1 : decode cX1_nameless 1 = .ok (.invokevirtual 384, 3) := dk_182 1 128 (dk_at dksX1_nameless_0 1 rfl rfl)
theorem dX1_nameless_4 : decode cX1_nameless 4 = .ok (.ifCond .eq 10, 3) := dk_153 0 10 (dk_at dksX1_nameless_0 4 rfl rfl)
theorem dX1_nameless_7 : decode cX1_nameless 7 = .ok (.aload_n 0, 1) := dk_42 (dk_at dksX1_nameless_0 7 rfl rfl)
theorem dX1_nameless_8 : decode cX1_nameless 8 = .ok (.invokevirtual 514, 3) := dk_182 2 2 (dk_at dksX1_nameless_0 8 rfl rfl)
theorem dX1_nameless_11 : decode cX1_nameless 11 = .ok (.goto 4, 3) := dk_167 0 4 (dk_at dksX1_nameless_0 11 rfl rfl)
theorem dX1_nameless_14 : decode cX1_nameless 14 = .ok (.iconst (-1), 1) := dk_2 (dk_at dksX1_nameless_0 14 rfl rfl)
theorem dX1_nameless_15 : decode cX1_nameless 15 = .ok (.ireturn, 1) := dk_172 (dk_at dksX1_nameless_0 15 rfl rfl)
abbrev cX1_namelessNow : ByteArray := prog_1_method_107_code
def yX1_namelessNow : MethodName := ⟨RX1, "namelessNow", "()I"⟩
def dkwX1_namelessNow_1 : List UInt8 := [128, 60, 132, 2, 1, 167, 255, 231, 27, 172]
abbrev dktX1_namelessNow_1 : List UInt8 := dkwX1_namelessNow_1 ++ []
def dkwX1_namelessNow_0 : List UInt8 := [3, 60, 3, 61, 28, 42, 182, 1, 84, 162, 0, 23, 42, 28, 182, 1, 143, 154, 0, 9, 27, 4, 28, 120]
abbrev dktX1_namelessNow_0 : List UInt8 := dkwX1_namelessNow_0 ++ dktX1_namelessNow_1
theorem dksX1_namelessNow_0 : cX1_namelessNow.data.toList.drop 0 = dktX1_namelessNow_0 := by decide +kernel
theorem dksX1_namelessNow_1 : cX1_namelessNow.data.toList.drop 24 = dktX1_namelessNow_1 := dk_seg dksX1_namelessNow_0 24 rfl rfl
theorem dX1_namelessNow_0 : decode cX1_namelessNow 0 = .ok (.iconst 0, 1) := dk_3 (dk_at dksX1_namelessNow_0 0 rfl rfl)
theorem dX1_namelessNow_1 : decode cX1_namelessNow 1 = .ok (.istore_n 1, 1) := dk_60 (dk_at dksX1_namelessNow_0 1 rfl rfl)
theorem dX1_namelessNow_2 : decode cX1_namelessNow 2 = .ok (.iconst 0, 1) := dk_3 (dk_at dksX1_namelessNow_0 2 rfl rfl)
theorem dX1_namelessNow_3 : decode cX1_namelessNow 3 = .ok (.istore_n 2, 1) := dk_61 (dk_at dksX1_namelessNow_0 3 rfl rfl)
theorem dX1_namelessNow_4 : decode cX1_namelessNow 4 = .ok (.iload_n 2, 1) := dk_28 (dk_at dksX1_namelessNow_0 4 rfl rfl)
theorem dX1_namelessNow_5 : decode cX1_namelessNow 5 = .ok (.aload_n 0, 1) := dk_42 (dk_at dksX1_namelessNow_0 5 rfl rfl)
theorem dX1_namelessNow_6 : decode cX1_namelessNow 6 = .ok (.invokevirtual 340, 3) := dk_182 1 84 (dk_at dksX1_namelessNow_0 6 rfl rfl)
theorem dX1_namelessNow_9 : decode cX1_namelessNow 9 = .ok (.if_icmp .ge 23, 3) := dk_162 0 23 (dk_at dksX1_namelessNow_0 9 rfl rfl)
theorem dX1_namelessNow_12 : decode cX1_namelessNow 12 = .ok (.aload_n 0, 1) := dk_42 (dk_at dksX1_namelessNow_0 12 rfl rfl)
theorem dX1_namelessNow_13 : decode cX1_namelessNow 13 = .ok (.iload_n 2, 1) := dk_28 (dk_at dksX1_namelessNow_0 13 rfl rfl)
theorem dX1_namelessNow_14 : decode cX1_namelessNow 14 = .ok (.invokevirtual 399, 3) := dk_182 1 143 (dk_at dksX1_namelessNow_0 14 rfl rfl)
theorem dX1_namelessNow_17 : decode cX1_namelessNow 17 = .ok (.ifCond .ne 9, 3) := dk_154 0 9 (dk_at dksX1_namelessNow_0 17 rfl rfl)
theorem dX1_namelessNow_20 : decode cX1_namelessNow 20 = .ok (.iload_n 1, 1) := dk_27 (dk_at dksX1_namelessNow_0 20 rfl rfl)
theorem dX1_namelessNow_21 : decode cX1_namelessNow 21 = .ok (.iconst 1, 1) := dk_4 (dk_at dksX1_namelessNow_0 21 rfl rfl)
theorem dX1_namelessNow_22 : decode cX1_namelessNow 22 = .ok (.iload_n 2, 1) := dk_28 (dk_at dksX1_namelessNow_0 22 rfl rfl)
theorem dX1_namelessNow_23 : decode cX1_namelessNow 23 = .ok (.ishl, 1) := dk_120 (dk_at dksX1_namelessNow_0 23 rfl rfl)
theorem dX1_namelessNow_24 : decode cX1_namelessNow 24 = .ok (.ior, 1) := dk_128 (dk_at dksX1_namelessNow_1 0 rfl rfl)
theorem dX1_namelessNow_25 : decode cX1_namelessNow 25 = .ok (.istore_n 1, 1) := dk_60 (dk_at dksX1_namelessNow_1 1 rfl rfl)
theorem dX1_namelessNow_26 : decode cX1_namelessNow 26 = .ok (.iinc 2 1, 3) := dk_132 2 1 (dk_at dksX1_namelessNow_1 2 rfl rfl)
theorem dX1_namelessNow_29 : decode cX1_namelessNow 29 = .ok (.goto (-25), 3) := dk_167 255 231 (dk_at dksX1_namelessNow_1 5 rfl rfl)
theorem dX1_namelessNow_32 : decode cX1_namelessNow 32 = .ok (.iload_n 1, 1) := dk_27 (dk_at dksX1_namelessNow_1 8 rfl rfl)
theorem dX1_namelessNow_33 : decode cX1_namelessNow 33 = .ok (.ireturn, 1) := dk_172 (dk_at dksX1_namelessNow_1 9 rfl rfl)
abbrev cX1_doubles : ByteArray := prog_1_method_110_code
def yX1_doubles : MethodName := ⟨RX1, "doubles", "(I)I"⟩
def dkwX1_doubles_3 : List UInt8 := [132, 4, 1, 167, 255, 215, 132, 3, 1, 167, 255, 196, 27, 2, 160, 0, 7, 28, 167, 0, 4, 2, 172]
abbrev dktX1_doubles_3 : List UInt8 := dkwX1_doubles_3 ++ []
def dkwX1_doubles_2 : List UInt8 := [154, 0, 6, 167, 0, 19, 28, 27, 160, 0, 11, 16, 10, 29, 104, 21, 4, 96, 172, 132, 2, 1]
abbrev dktX1_doubles_2 : List UInt8 := dkwX1_doubles_2 ++ dktX1_doubles_3
def dkwX1_doubles_1 : List UInt8 := [162, 0, 58, 29, 4, 96, 54, 4, 21, 4, 42, 182, 1, 84, 162, 0, 38, 42, 29, 21, 4, 182, 2, 5]
abbrev dktX1_doubles_1 : List UInt8 := dkwX1_doubles_1 ++ dktX1_doubles_2
def dkwX1_doubles_0 : List UInt8 := [42, 182, 1, 128, 153, 0, 8, 27, 2, 162, 0, 5, 2, 172, 3, 61, 3, 62, 29, 42, 182, 1, 84]
abbrev dktX1_doubles_0 : List UInt8 := dkwX1_doubles_0 ++ dktX1_doubles_1
theorem dksX1_doubles_0 : cX1_doubles.data.toList.drop 0 = dktX1_doubles_0 := by decide +kernel
theorem dksX1_doubles_1 : cX1_doubles.data.toList.drop 23 = dktX1_doubles_1 := dk_seg dksX1_doubles_0 23 rfl rfl
theorem dksX1_doubles_2 : cX1_doubles.data.toList.drop 47 = dktX1_doubles_2 := dk_seg dksX1_doubles_1 24 rfl rfl
theorem dksX1_doubles_3 : cX1_doubles.data.toList.drop 69 = dktX1_doubles_3 := dk_seg dksX1_doubles_2 22 rfl rfl
theorem dX1_doubles_0 : decode cX1_doubles 0 = .ok (.aload_n 0, 1) := dk_42 (dk_at dksX1_doubles_0 0 rfl rfl)
theorem dX1_doubles_1 : decode cX1_doubles 1 = .ok (.invokevirtual 384, 3) := dk_182 1 128 (dk_at dksX1_doubles_0 1 rfl rfl)
theorem dX1_doubles_4 : decode cX1_doubles 4 = .ok (.ifCond .eq 8, 3) := dk_153 0 8 (dk_at dksX1_doubles_0 4 rfl rfl)
theorem dX1_doubles_7 : decode cX1_doubles 7 = .ok (.iload_n 1, 1) := dk_27 (dk_at dksX1_doubles_0 7 rfl rfl)
theorem dX1_doubles_8 : decode cX1_doubles 8 = .ok (.iconst (-1), 1) := dk_2 (dk_at dksX1_doubles_0 8 rfl rfl)
theorem dX1_doubles_9 : decode cX1_doubles 9 = .ok (.if_icmp .ge 5, 3) := dk_162 0 5 (dk_at dksX1_doubles_0 9 rfl rfl)
theorem dX1_doubles_12 : decode cX1_doubles 12 = .ok (.iconst (-1), 1) := dk_2 (dk_at dksX1_doubles_0 12 rfl rfl)
theorem dX1_doubles_13 : decode cX1_doubles 13 = .ok (.ireturn, 1) := dk_172 (dk_at dksX1_doubles_0 13 rfl rfl)
theorem dX1_doubles_14 : decode cX1_doubles 14 = .ok (.iconst 0, 1) := dk_3 (dk_at dksX1_doubles_0 14 rfl rfl)
theorem dX1_doubles_15 : decode cX1_doubles 15 = .ok (.istore_n 2, 1) := dk_61 (dk_at dksX1_doubles_0 15 rfl rfl)
theorem dX1_doubles_16 : decode cX1_doubles 16 = .ok (.iconst 0, 1) := dk_3 (dk_at dksX1_doubles_0 16 rfl rfl)
theorem dX1_doubles_17 : decode cX1_doubles 17 = .ok (.istore_n 3, 1) := dk_62 (dk_at dksX1_doubles_0 17 rfl rfl)
theorem dX1_doubles_18 : decode cX1_doubles 18 = .ok (.iload_n 3, 1) := dk_29 (dk_at dksX1_doubles_0 18 rfl rfl)
theorem dX1_doubles_19 : decode cX1_doubles 19 = .ok (.aload_n 0, 1) := dk_42 (dk_at dksX1_doubles_0 19 rfl rfl)
theorem dX1_doubles_20 : decode cX1_doubles 20 = .ok (.invokevirtual 340, 3) := dk_182 1 84 (dk_at dksX1_doubles_0 20 rfl rfl)
theorem dX1_doubles_23 : decode cX1_doubles 23 = .ok (.if_icmp .ge 58, 3) := dk_162 0 58 (dk_at dksX1_doubles_1 0 rfl rfl)
theorem dX1_doubles_26 : decode cX1_doubles 26 = .ok (.iload_n 3, 1) := dk_29 (dk_at dksX1_doubles_1 3 rfl rfl)
theorem dX1_doubles_27 : decode cX1_doubles 27 = .ok (.iconst 1, 1) := dk_4 (dk_at dksX1_doubles_1 4 rfl rfl)
theorem dX1_doubles_28 : decode cX1_doubles 28 = .ok (.iadd, 1) := dk_96 (dk_at dksX1_doubles_1 5 rfl rfl)
theorem dX1_doubles_29 : decode cX1_doubles 29 = .ok (.istore 4, 2) := dk_54 4 (dk_at dksX1_doubles_1 6 rfl rfl)
theorem dX1_doubles_31 : decode cX1_doubles 31 = .ok (.iload 4, 2) := dk_21 4 (dk_at dksX1_doubles_1 8 rfl rfl)
theorem dX1_doubles_33 : decode cX1_doubles 33 = .ok (.aload_n 0, 1) := dk_42 (dk_at dksX1_doubles_1 10 rfl rfl)
theorem dX1_doubles_34 : decode cX1_doubles 34 = .ok (.invokevirtual 340, 3) := dk_182 1 84 (dk_at dksX1_doubles_1 11 rfl rfl)
theorem dX1_doubles_37 : decode cX1_doubles 37 = .ok (.if_icmp .ge 38, 3) := dk_162 0 38 (dk_at dksX1_doubles_1 14 rfl rfl)
theorem dX1_doubles_40 : decode cX1_doubles 40 = .ok (.aload_n 0, 1) := dk_42 (dk_at dksX1_doubles_1 17 rfl rfl)
theorem dX1_doubles_41 : decode cX1_doubles 41 = .ok (.iload_n 3, 1) := dk_29 (dk_at dksX1_doubles_1 18 rfl rfl)
theorem dX1_doubles_42 : decode cX1_doubles 42 = .ok (.iload 4, 2) := dk_21 4 (dk_at dksX1_doubles_1 19 rfl rfl)
theorem dX1_doubles_44 : decode cX1_doubles 44 = .ok (.invokevirtual 517, 3) := dk_182 2 5 (dk_at dksX1_doubles_1 21 rfl rfl)
theorem dX1_doubles_47 : decode cX1_doubles 47 = .ok (.ifCond .ne 6, 3) := dk_154 0 6 (dk_at dksX1_doubles_2 0 rfl rfl)
theorem dX1_doubles_50 : decode cX1_doubles 50 = .ok (.goto 19, 3) := dk_167 0 19 (dk_at dksX1_doubles_2 3 rfl rfl)
theorem dX1_doubles_53 : decode cX1_doubles 53 = .ok (.iload_n 2, 1) := dk_28 (dk_at dksX1_doubles_2 6 rfl rfl)
theorem dX1_doubles_54 : decode cX1_doubles 54 = .ok (.iload_n 1, 1) := dk_27 (dk_at dksX1_doubles_2 7 rfl rfl)
theorem dX1_doubles_55 : decode cX1_doubles 55 = .ok (.if_icmp .ne 11, 3) := dk_160 0 11 (dk_at dksX1_doubles_2 8 rfl rfl)
theorem dX1_doubles_58 : decode cX1_doubles 58 = .ok (.bipush 10, 2) := dk_16 10 (dk_at dksX1_doubles_2 11 rfl rfl)
theorem dX1_doubles_60 : decode cX1_doubles 60 = .ok (.iload_n 3, 1) := dk_29 (dk_at dksX1_doubles_2 13 rfl rfl)
theorem dX1_doubles_61 : decode cX1_doubles 61 = .ok (.imul, 1) := dk_104 (dk_at dksX1_doubles_2 14 rfl rfl)
theorem dX1_doubles_62 : decode cX1_doubles 62 = .ok (.iload 4, 2) := dk_21 4 (dk_at dksX1_doubles_2 15 rfl rfl)
theorem dX1_doubles_64 : decode cX1_doubles 64 = .ok (.iadd, 1) := dk_96 (dk_at dksX1_doubles_2 17 rfl rfl)
theorem dX1_doubles_65 : decode cX1_doubles 65 = .ok (.ireturn, 1) := dk_172 (dk_at dksX1_doubles_2 18 rfl rfl)
theorem dX1_doubles_66 : decode cX1_doubles 66 = .ok (.iinc 2 1, 3) := dk_132 2 1 (dk_at dksX1_doubles_2 19 rfl rfl)
theorem dX1_doubles_69 : decode cX1_doubles 69 = .ok (.iinc 4 1, 3) := dk_132 4 1 (dk_at dksX1_doubles_3 0 rfl rfl)
theorem dX1_doubles_72 : decode cX1_doubles 72 = .ok (.goto (-41), 3) := dk_167 255 215 (dk_at dksX1_doubles_3 3 rfl rfl)
theorem dX1_doubles_75 : decode cX1_doubles 75 = .ok (.iinc 3 1, 3) := dk_132 3 1 (dk_at dksX1_doubles_3 6 rfl rfl)
theorem dX1_doubles_78 : decode cX1_doubles 78 = .ok (.goto (-60), 3) := dk_167 255 196 (dk_at dksX1_doubles_3 9 rfl rfl)
theorem dX1_doubles_81 : decode cX1_doubles 81 = .ok (.iload_n 1, 1) := dk_27 (dk_at dksX1_doubles_3 12 rfl rfl)
theorem dX1_doubles_82 : decode cX1_doubles 82 = .ok (.iconst (-1), 1) := dk_2 (dk_at dksX1_doubles_3 13 rfl rfl)
theorem dX1_doubles_83 : decode cX1_doubles 83 = .ok (.if_icmp .ne 7, 3) := dk_160 0 7 (dk_at dksX1_doubles_3 14 rfl rfl)
theorem dX1_doubles_86 : decode cX1_doubles 86 = .ok (.iload_n 2, 1) := dk_28 (dk_at dksX1_doubles_3 17 rfl rfl)
theorem dX1_doubles_87 : decode cX1_doubles 87 = .ok (.goto 4, 3) := dk_167 0 4 (dk_at dksX1_doubles_3 18 rfl rfl)
theorem dX1_doubles_90 : decode cX1_doubles 90 = .ok (.iconst (-1), 1) := dk_2 (dk_at dksX1_doubles_3 21 rfl rfl)
theorem dX1_doubles_91 : decode cX1_doubles 91 = .ok (.ireturn, 1) := dk_172 (dk_at dksX1_doubles_3 22 rfl rfl)
abbrev cX1_areDouble : ByteArray := prog_1_method_109_code
def yX1_areDouble : MethodName := ⟨RX1, "areDouble", "(II)Z"⟩
def dkwX1_areDouble_2 : List UInt8 := [3, 182, 1, 90, 160, 0, 7, 4, 167, 0, 4, 3, 172]
abbrev dktX1_areDouble_2 : List UInt8 := dkwX1_areDouble_2 ++ []
def dkwX1_areDouble_1 : List UInt8 := [182, 1, 146, 160, 0, 32, 42, 42, 27, 3, 182, 1, 93, 3, 182, 1, 90, 42, 42, 28, 3, 182, 1, 93]
abbrev dktX1_areDouble_1 : List UInt8 := dkwX1_areDouble_1 ++ dktX1_areDouble_2
def dkwX1_areDouble_0 : List UInt8 := [42, 27, 182, 1, 143, 154, 0, 53, 42, 28, 182, 1, 143, 154, 0, 45, 42, 27, 182, 1, 146, 42, 28]
abbrev dktX1_areDouble_0 : List UInt8 := dkwX1_areDouble_0 ++ dktX1_areDouble_1
theorem dksX1_areDouble_0 : cX1_areDouble.data.toList.drop 0 = dktX1_areDouble_0 := by decide +kernel
theorem dksX1_areDouble_1 : cX1_areDouble.data.toList.drop 23 = dktX1_areDouble_1 := dk_seg dksX1_areDouble_0 23 rfl rfl
theorem dksX1_areDouble_2 : cX1_areDouble.data.toList.drop 47 = dktX1_areDouble_2 := dk_seg dksX1_areDouble_1 24 rfl rfl
theorem dX1_areDouble_0 : decode cX1_areDouble 0 = .ok (.aload_n 0, 1) := dk_42 (dk_at dksX1_areDouble_0 0 rfl rfl)
theorem dX1_areDouble_1 : decode cX1_areDouble 1 = .ok (.iload_n 1, 1) := dk_27 (dk_at dksX1_areDouble_0 1 rfl rfl)
theorem dX1_areDouble_2 : decode cX1_areDouble 2 = .ok (.invokevirtual 399, 3) := dk_182 1 143 (dk_at dksX1_areDouble_0 2 rfl rfl)
theorem dX1_areDouble_5 : decode cX1_areDouble 5 = .ok (.ifCond .ne 53, 3) := dk_154 0 53 (dk_at dksX1_areDouble_0 5 rfl rfl)
theorem dX1_areDouble_8 : decode cX1_areDouble 8 = .ok (.aload_n 0, 1) := dk_42 (dk_at dksX1_areDouble_0 8 rfl rfl)
theorem dX1_areDouble_9 : decode cX1_areDouble 9 = .ok (.iload_n 2, 1) := dk_28 (dk_at dksX1_areDouble_0 9 rfl rfl)
theorem dX1_areDouble_10 : decode cX1_areDouble 10 = .ok (.invokevirtual 399, 3) := dk_182 1 143 (dk_at dksX1_areDouble_0 10 rfl rfl)
theorem dX1_areDouble_13 : decode cX1_areDouble 13 = .ok (.ifCond .ne 45, 3) := dk_154 0 45 (dk_at dksX1_areDouble_0 13 rfl rfl)
theorem dX1_areDouble_16 : decode cX1_areDouble 16 = .ok (.aload_n 0, 1) := dk_42 (dk_at dksX1_areDouble_0 16 rfl rfl)
theorem dX1_areDouble_17 : decode cX1_areDouble 17 = .ok (.iload_n 1, 1) := dk_27 (dk_at dksX1_areDouble_0 17 rfl rfl)
theorem dX1_areDouble_18 : decode cX1_areDouble 18 = .ok (.invokevirtual 402, 3) := dk_182 1 146 (dk_at dksX1_areDouble_0 18 rfl rfl)
theorem dX1_areDouble_21 : decode cX1_areDouble 21 = .ok (.aload_n 0, 1) := dk_42 (dk_at dksX1_areDouble_0 21 rfl rfl)
theorem dX1_areDouble_22 : decode cX1_areDouble 22 = .ok (.iload_n 2, 1) := dk_28 (dk_at dksX1_areDouble_0 22 rfl rfl)
theorem dX1_areDouble_23 : decode cX1_areDouble 23 = .ok (.invokevirtual 402, 3) := dk_182 1 146 (dk_at dksX1_areDouble_1 0 rfl rfl)
theorem dX1_areDouble_26 : decode cX1_areDouble 26 = .ok (.if_icmp .ne 32, 3) := dk_160 0 32 (dk_at dksX1_areDouble_1 3 rfl rfl)
theorem dX1_areDouble_29 : decode cX1_areDouble 29 = .ok (.aload_n 0, 1) := dk_42 (dk_at dksX1_areDouble_1 6 rfl rfl)
theorem dX1_areDouble_30 : decode cX1_areDouble 30 = .ok (.aload_n 0, 1) := dk_42 (dk_at dksX1_areDouble_1 7 rfl rfl)
theorem dX1_areDouble_31 : decode cX1_areDouble 31 = .ok (.iload_n 1, 1) := dk_27 (dk_at dksX1_areDouble_1 8 rfl rfl)
theorem dX1_areDouble_32 : decode cX1_areDouble 32 = .ok (.iconst 0, 1) := dk_3 (dk_at dksX1_areDouble_1 9 rfl rfl)
theorem dX1_areDouble_33 : decode cX1_areDouble 33 = .ok (.invokevirtual 349, 3) := dk_182 1 93 (dk_at dksX1_areDouble_1 10 rfl rfl)
theorem dX1_areDouble_36 : decode cX1_areDouble 36 = .ok (.iconst 0, 1) := dk_3 (dk_at dksX1_areDouble_1 13 rfl rfl)
theorem dX1_areDouble_37 : decode cX1_areDouble 37 = .ok (.invokevirtual 346, 3) := dk_182 1 90 (dk_at dksX1_areDouble_1 14 rfl rfl)
theorem dX1_areDouble_40 : decode cX1_areDouble 40 = .ok (.aload_n 0, 1) := dk_42 (dk_at dksX1_areDouble_1 17 rfl rfl)
theorem dX1_areDouble_41 : decode cX1_areDouble 41 = .ok (.aload_n 0, 1) := dk_42 (dk_at dksX1_areDouble_1 18 rfl rfl)
theorem dX1_areDouble_42 : decode cX1_areDouble 42 = .ok (.iload_n 2, 1) := dk_28 (dk_at dksX1_areDouble_1 19 rfl rfl)
theorem dX1_areDouble_43 : decode cX1_areDouble 43 = .ok (.iconst 0, 1) := dk_3 (dk_at dksX1_areDouble_1 20 rfl rfl)
theorem dX1_areDouble_44 : decode cX1_areDouble 44 = .ok (.invokevirtual 349, 3) := dk_182 1 93 (dk_at dksX1_areDouble_1 21 rfl rfl)
theorem dX1_areDouble_47 : decode cX1_areDouble 47 = .ok (.iconst 0, 1) := dk_3 (dk_at dksX1_areDouble_2 0 rfl rfl)
theorem dX1_areDouble_48 : decode cX1_areDouble 48 = .ok (.invokevirtual 346, 3) := dk_182 1 90 (dk_at dksX1_areDouble_2 1 rfl rfl)
theorem dX1_areDouble_51 : decode cX1_areDouble 51 = .ok (.if_icmp .ne 7, 3) := dk_160 0 7 (dk_at dksX1_areDouble_2 4 rfl rfl)
theorem dX1_areDouble_54 : decode cX1_areDouble 54 = .ok (.iconst 1, 1) := dk_4 (dk_at dksX1_areDouble_2 7 rfl rfl)
theorem dX1_areDouble_55 : decode cX1_areDouble 55 = .ok (.goto 4, 3) := dk_167 0 4 (dk_at dksX1_areDouble_2 8 rfl rfl)
theorem dX1_areDouble_58 : decode cX1_areDouble 58 = .ok (.iconst 0, 1) := dk_3 (dk_at dksX1_areDouble_2 11 rfl rfl)
theorem dX1_areDouble_59 : decode cX1_areDouble 59 = .ok (.ireturn, 1) := dk_172 (dk_at dksX1_areDouble_2 12 rfl rfl)
abbrev cX1_peek : ByteArray := prog_1_method_111_code
def yX1_peek : MethodName := ⟨RX1, "peek", "(II)I"⟩
def dkwX1_peek_3 : List UInt8 := [180, 1, 71, 28, 79, 42, 89, 180, 1, 71, 4, 96, 181, 1, 71, 42, 180, 1, 71, 172]
abbrev dktX1_peek_3 : List UInt8 := dkwX1_peek_3 ++ []
def dkwX1_peek_2 : List UInt8 := [16, 12, 160, 0, 5, 2, 172, 42, 180, 0, 70, 42, 180, 1, 71, 27, 79, 42, 180, 0, 73, 42]
abbrev dktX1_peek_2 : List UInt8 := dkwX1_peek_2 ++ dktX1_peek_3
def dkwX1_peek_1 : List UInt8 := [167, 0, 4, 4, 27, 154, 0, 7, 8, 167, 0, 5, 16, 9, 184, 0, 246, 153, 0, 12, 42, 180, 1, 71]
abbrev dktX1_peek_1 : List UInt8 := dkwX1_peek_1 ++ dktX1_peek_2
def dkwX1_peek_0 : List UInt8 := [42, 182, 1, 128, 153, 0, 47, 27, 3, 4, 184, 0, 246, 153, 0, 38, 28, 27, 154, 0, 7, 3]
abbrev dktX1_peek_0 : List UInt8 := dkwX1_peek_0 ++ dktX1_peek_1
theorem dksX1_peek_0 : cX1_peek.data.toList.drop 0 = dktX1_peek_0 := by decide +kernel
theorem dksX1_peek_1 : cX1_peek.data.toList.drop 22 = dktX1_peek_1 := dk_seg dksX1_peek_0 22 rfl rfl
theorem dksX1_peek_2 : cX1_peek.data.toList.drop 46 = dktX1_peek_2 := dk_seg dksX1_peek_1 24 rfl rfl
theorem dksX1_peek_3 : cX1_peek.data.toList.drop 68 = dktX1_peek_3 := dk_seg dksX1_peek_2 22 rfl rfl
theorem dX1_peek_0 : decode cX1_peek 0 = .ok (.aload_n 0, 1) := dk_42 (dk_at dksX1_peek_0 0 rfl rfl)
theorem dX1_peek_1 : decode cX1_peek 1 = .ok (.invokevirtual 384, 3) := dk_182 1 128 (dk_at dksX1_peek_0 1 rfl rfl)
theorem dX1_peek_4 : decode cX1_peek 4 = .ok (.ifCond .eq 47, 3) := dk_153 0 47 (dk_at dksX1_peek_0 4 rfl rfl)
theorem dX1_peek_7 : decode cX1_peek 7 = .ok (.iload_n 1, 1) := dk_27 (dk_at dksX1_peek_0 7 rfl rfl)
theorem dX1_peek_8 : decode cX1_peek 8 = .ok (.iconst 0, 1) := dk_3 (dk_at dksX1_peek_0 8 rfl rfl)
theorem dX1_peek_9 : decode cX1_peek 9 = .ok (.iconst 1, 1) := dk_4 (dk_at dksX1_peek_0 9 rfl rfl)
theorem dX1_peek_10 : decode cX1_peek 10 = .ok (.invokestatic 246, 3) := dk_184 0 246 (dk_at dksX1_peek_0 10 rfl rfl)
theorem dX1_peek_13 : decode cX1_peek 13 = .ok (.ifCond .eq 38, 3) := dk_153 0 38 (dk_at dksX1_peek_0 13 rfl rfl)
theorem dX1_peek_16 : decode cX1_peek 16 = .ok (.iload_n 2, 1) := dk_28 (dk_at dksX1_peek_0 16 rfl rfl)
theorem dX1_peek_17 : decode cX1_peek 17 = .ok (.iload_n 1, 1) := dk_27 (dk_at dksX1_peek_0 17 rfl rfl)
theorem dX1_peek_18 : decode cX1_peek 18 = .ok (.ifCond .ne 7, 3) := dk_154 0 7 (dk_at dksX1_peek_0 18 rfl rfl)
theorem dX1_peek_21 : decode cX1_peek 21 = .ok (.iconst 0, 1) := dk_3 (dk_at dksX1_peek_0 21 rfl rfl)
theorem dX1_peek_22 : decode cX1_peek 22 = .ok (.goto 4, 3) := dk_167 0 4 (dk_at dksX1_peek_1 0 rfl rfl)
theorem dX1_peek_25 : decode cX1_peek 25 = .ok (.iconst 1, 1) := dk_4 (dk_at dksX1_peek_1 3 rfl rfl)
theorem dX1_peek_26 : decode cX1_peek 26 = .ok (.iload_n 1, 1) := dk_27 (dk_at dksX1_peek_1 4 rfl rfl)
theorem dX1_peek_27 : decode cX1_peek 27 = .ok (.ifCond .ne 7, 3) := dk_154 0 7 (dk_at dksX1_peek_1 5 rfl rfl)
theorem dX1_peek_30 : decode cX1_peek 30 = .ok (.iconst 5, 1) := dk_8 (dk_at dksX1_peek_1 8 rfl rfl)
theorem dX1_peek_31 : decode cX1_peek 31 = .ok (.goto 5, 3) := dk_167 0 5 (dk_at dksX1_peek_1 9 rfl rfl)
theorem dX1_peek_34 : decode cX1_peek 34 = .ok (.bipush 9, 2) := dk_16 9 (dk_at dksX1_peek_1 12 rfl rfl)
theorem dX1_peek_36 : decode cX1_peek 36 = .ok (.invokestatic 246, 3) := dk_184 0 246 (dk_at dksX1_peek_1 14 rfl rfl)
theorem dX1_peek_39 : decode cX1_peek 39 = .ok (.ifCond .eq 12, 3) := dk_153 0 12 (dk_at dksX1_peek_1 17 rfl rfl)
theorem dX1_peek_42 : decode cX1_peek 42 = .ok (.aload_n 0, 1) := dk_42 (dk_at dksX1_peek_1 20 rfl rfl)
theorem dX1_peek_43 : decode cX1_peek 43 = .ok (.getfield 327, 3) := dk_180 1 71 (dk_at dksX1_peek_1 21 rfl rfl)
theorem dX1_peek_46 : decode cX1_peek 46 = .ok (.bipush 12, 2) := dk_16 12 (dk_at dksX1_peek_2 0 rfl rfl)
theorem dX1_peek_48 : decode cX1_peek 48 = .ok (.if_icmp .ne 5, 3) := dk_160 0 5 (dk_at dksX1_peek_2 2 rfl rfl)
theorem dX1_peek_51 : decode cX1_peek 51 = .ok (.iconst (-1), 1) := dk_2 (dk_at dksX1_peek_2 5 rfl rfl)
theorem dX1_peek_52 : decode cX1_peek 52 = .ok (.ireturn, 1) := dk_172 (dk_at dksX1_peek_2 6 rfl rfl)
theorem dX1_peek_53 : decode cX1_peek 53 = .ok (.aload_n 0, 1) := dk_42 (dk_at dksX1_peek_2 7 rfl rfl)
theorem dX1_peek_54 : decode cX1_peek 54 = .ok (.getfield 70, 3) := dk_180 0 70 (dk_at dksX1_peek_2 8 rfl rfl)
theorem dX1_peek_57 : decode cX1_peek 57 = .ok (.aload_n 0, 1) := dk_42 (dk_at dksX1_peek_2 11 rfl rfl)
theorem dX1_peek_58 : decode cX1_peek 58 = .ok (.getfield 327, 3) := dk_180 1 71 (dk_at dksX1_peek_2 12 rfl rfl)
theorem dX1_peek_61 : decode cX1_peek 61 = .ok (.iload_n 1, 1) := dk_27 (dk_at dksX1_peek_2 15 rfl rfl)
theorem dX1_peek_62 : decode cX1_peek 62 = .ok (.iastore, 1) := dk_79 (dk_at dksX1_peek_2 16 rfl rfl)
theorem dX1_peek_63 : decode cX1_peek 63 = .ok (.aload_n 0, 1) := dk_42 (dk_at dksX1_peek_2 17 rfl rfl)
theorem dX1_peek_64 : decode cX1_peek 64 = .ok (.getfield 73, 3) := dk_180 0 73 (dk_at dksX1_peek_2 18 rfl rfl)
theorem dX1_peek_67 : decode cX1_peek 67 = .ok (.aload_n 0, 1) := dk_42 (dk_at dksX1_peek_2 21 rfl rfl)
theorem dX1_peek_68 : decode cX1_peek 68 = .ok (.getfield 327, 3) := dk_180 1 71 (dk_at dksX1_peek_3 0 rfl rfl)
theorem dX1_peek_71 : decode cX1_peek 71 = .ok (.iload_n 2, 1) := dk_28 (dk_at dksX1_peek_3 3 rfl rfl)
theorem dX1_peek_72 : decode cX1_peek 72 = .ok (.iastore, 1) := dk_79 (dk_at dksX1_peek_3 4 rfl rfl)
theorem dX1_peek_73 : decode cX1_peek 73 = .ok (.aload_n 0, 1) := dk_42 (dk_at dksX1_peek_3 5 rfl rfl)
theorem dX1_peek_74 : decode cX1_peek 74 = .ok (.dup, 1) := dk_89 (dk_at dksX1_peek_3 6 rfl rfl)
theorem dX1_peek_75 : decode cX1_peek 75 = .ok (.getfield 327, 3) := dk_180 1 71 (dk_at dksX1_peek_3 7 rfl rfl)
theorem dX1_peek_78 : decode cX1_peek 78 = .ok (.iconst 1, 1) := dk_4 (dk_at dksX1_peek_3 10 rfl rfl)
theorem dX1_peek_79 : decode cX1_peek 79 = .ok (.iadd, 1) := dk_96 (dk_at dksX1_peek_3 11 rfl rfl)
theorem dX1_peek_80 : decode cX1_peek 80 = .ok (.putfield 327, 3) := dk_181 1 71 (dk_at dksX1_peek_3 12 rfl rfl)
theorem dX1_peek_83 : decode cX1_peek 83 = .ok (.aload_n 0, 1) := dk_42 (dk_at dksX1_peek_3 15 rfl rfl)
theorem dX1_peek_84 : decode cX1_peek 84 = .ok (.getfield 327, 3) := dk_180 1 71 (dk_at dksX1_peek_3 16 rfl rfl)
theorem dX1_peek_87 : decode cX1_peek 87 = .ok (.ireturn, 1) := dk_172 (dk_at dksX1_peek_3 19 rfl rfl)
abbrev cX1_what : ByteArray := prog_1_method_114_code
def yX1_what : MethodName := ⟨RX1, "what", "(I)I"⟩
def dkwX1_what_5 : List UInt8 := [20, 2, 18, 105, 33, 109, 136, 172]
abbrev dktX1_what_5 : List UInt8 := dkwX1_what_5 ++ []
def dkwX1_what_4 : List UInt8 := [154, 0, 7, 28, 167, 0, 25, 33, 9, 148, 154, 0, 7, 3, 167, 0, 15, 42, 28, 182, 2, 8]
abbrev dktX1_what_4 : List UInt8 := dkwX1_what_4 ++ dktX1_what_5
def dkwX1_what_3 : List UInt8 := [182, 2, 8, 42, 28, 182, 2, 8, 148, 158, 0, 6, 21, 5, 61, 132, 5, 1, 167, 255, 217, 27]
abbrev dktX1_what_3 : List UInt8 := dkwX1_what_3 ++ dktX1_what_4
def dkwX1_what_2 : List UInt8 := [54, 5, 21, 5, 42, 180, 1, 68, 162, 0, 36, 33, 42, 21, 5, 182, 2, 8, 97, 66, 42, 21, 5]
abbrev dktX1_what_2 : List UInt8 := dkwX1_what_2 ++ dktX1_what_3
def dkwX1_what_1 : List UInt8 := [4, 182, 2, 15, 42, 3, 182, 2, 15, 148, 156, 0, 7, 4, 167, 0, 4, 3, 172, 3, 61, 9, 66, 3]
abbrev dktX1_what_1 : List UInt8 := dkwX1_what_1 ++ dktX1_what_2
def dkwX1_what_0 : List UInt8 := [42, 182, 1, 128, 153, 0, 12, 27, 3, 5, 184, 0, 246, 154, 0, 5, 2, 172, 27, 5, 160, 0, 23, 42]
abbrev dktX1_what_0 : List UInt8 := dkwX1_what_0 ++ dktX1_what_1
theorem dksX1_what_0 : cX1_what.data.toList.drop 0 = dktX1_what_0 := by decide +kernel
theorem dksX1_what_1 : cX1_what.data.toList.drop 24 = dktX1_what_1 := dk_seg dksX1_what_0 24 rfl rfl
theorem dksX1_what_2 : cX1_what.data.toList.drop 48 = dktX1_what_2 := dk_seg dksX1_what_1 24 rfl rfl
theorem dksX1_what_3 : cX1_what.data.toList.drop 71 = dktX1_what_3 := dk_seg dksX1_what_2 23 rfl rfl
theorem dksX1_what_4 : cX1_what.data.toList.drop 93 = dktX1_what_4 := dk_seg dksX1_what_3 22 rfl rfl
theorem dksX1_what_5 : cX1_what.data.toList.drop 115 = dktX1_what_5 := dk_seg dksX1_what_4 22 rfl rfl
theorem dX1_what_0 : decode cX1_what 0 = .ok (.aload_n 0, 1) := dk_42 (dk_at dksX1_what_0 0 rfl rfl)
theorem dX1_what_1 : decode cX1_what 1 = .ok (.invokevirtual 384, 3) := dk_182 1 128 (dk_at dksX1_what_0 1 rfl rfl)
theorem dX1_what_4 : decode cX1_what 4 = .ok (.ifCond .eq 12, 3) := dk_153 0 12 (dk_at dksX1_what_0 4 rfl rfl)
theorem dX1_what_7 : decode cX1_what 7 = .ok (.iload_n 1, 1) := dk_27 (dk_at dksX1_what_0 7 rfl rfl)
theorem dX1_what_8 : decode cX1_what 8 = .ok (.iconst 0, 1) := dk_3 (dk_at dksX1_what_0 8 rfl rfl)
theorem dX1_what_9 : decode cX1_what 9 = .ok (.iconst 2, 1) := dk_5 (dk_at dksX1_what_0 9 rfl rfl)
theorem dX1_what_10 : decode cX1_what 10 = .ok (.invokestatic 246, 3) := dk_184 0 246 (dk_at dksX1_what_0 10 rfl rfl)
theorem dX1_what_13 : decode cX1_what 13 = .ok (.ifCond .ne 5, 3) := dk_154 0 5 (dk_at dksX1_what_0 13 rfl rfl)
theorem dX1_what_16 : decode cX1_what 16 = .ok (.iconst (-1), 1) := dk_2 (dk_at dksX1_what_0 16 rfl rfl)
theorem dX1_what_17 : decode cX1_what 17 = .ok (.ireturn, 1) := dk_172 (dk_at dksX1_what_0 17 rfl rfl)
theorem dX1_what_18 : decode cX1_what 18 = .ok (.iload_n 1, 1) := dk_27 (dk_at dksX1_what_0 18 rfl rfl)
theorem dX1_what_19 : decode cX1_what 19 = .ok (.iconst 2, 1) := dk_5 (dk_at dksX1_what_0 19 rfl rfl)
theorem dX1_what_20 : decode cX1_what 20 = .ok (.if_icmp .ne 23, 3) := dk_160 0 23 (dk_at dksX1_what_0 20 rfl rfl)
theorem dX1_what_23 : decode cX1_what 23 = .ok (.aload_n 0, 1) := dk_42 (dk_at dksX1_what_0 23 rfl rfl)
theorem dX1_what_24 : decode cX1_what 24 = .ok (.iconst 1, 1) := dk_4 (dk_at dksX1_what_1 0 rfl rfl)
theorem dX1_what_25 : decode cX1_what 25 = .ok (.invokevirtual 527, 3) := dk_182 2 15 (dk_at dksX1_what_1 1 rfl rfl)
theorem dX1_what_28 : decode cX1_what 28 = .ok (.aload_n 0, 1) := dk_42 (dk_at dksX1_what_1 4 rfl rfl)
theorem dX1_what_29 : decode cX1_what 29 = .ok (.iconst 0, 1) := dk_3 (dk_at dksX1_what_1 5 rfl rfl)
theorem dX1_what_30 : decode cX1_what 30 = .ok (.invokevirtual 527, 3) := dk_182 2 15 (dk_at dksX1_what_1 6 rfl rfl)
theorem dX1_what_33 : decode cX1_what 33 = .ok (.lcmp, 1) := dk_148 (dk_at dksX1_what_1 9 rfl rfl)
theorem dX1_what_34 : decode cX1_what 34 = .ok (.ifCond .ge 7, 3) := dk_156 0 7 (dk_at dksX1_what_1 10 rfl rfl)
theorem dX1_what_37 : decode cX1_what 37 = .ok (.iconst 1, 1) := dk_4 (dk_at dksX1_what_1 13 rfl rfl)
theorem dX1_what_38 : decode cX1_what 38 = .ok (.goto 4, 3) := dk_167 0 4 (dk_at dksX1_what_1 14 rfl rfl)
theorem dX1_what_41 : decode cX1_what 41 = .ok (.iconst 0, 1) := dk_3 (dk_at dksX1_what_1 17 rfl rfl)
theorem dX1_what_42 : decode cX1_what 42 = .ok (.ireturn, 1) := dk_172 (dk_at dksX1_what_1 18 rfl rfl)
theorem dX1_what_43 : decode cX1_what 43 = .ok (.iconst 0, 1) := dk_3 (dk_at dksX1_what_1 19 rfl rfl)
theorem dX1_what_44 : decode cX1_what 44 = .ok (.istore_n 2, 1) := dk_61 (dk_at dksX1_what_1 20 rfl rfl)
theorem dX1_what_45 : decode cX1_what 45 = .ok (.lconst 0, 1) := dk_9 (dk_at dksX1_what_1 21 rfl rfl)
theorem dX1_what_46 : decode cX1_what 46 = .ok (.lstore_n 3, 1) := dk_66 (dk_at dksX1_what_1 22 rfl rfl)
theorem dX1_what_47 : decode cX1_what 47 = .ok (.iconst 0, 1) := dk_3 (dk_at dksX1_what_1 23 rfl rfl)
theorem dX1_what_48 : decode cX1_what 48 = .ok (.istore 5, 2) := dk_54 5 (dk_at dksX1_what_2 0 rfl rfl)
theorem dX1_what_50 : decode cX1_what 50 = .ok (.iload 5, 2) := dk_21 5 (dk_at dksX1_what_2 2 rfl rfl)
theorem dX1_what_52 : decode cX1_what 52 = .ok (.aload_n 0, 1) := dk_42 (dk_at dksX1_what_2 4 rfl rfl)
theorem dX1_what_53 : decode cX1_what 53 = .ok (.getfield 324, 3) := dk_180 1 68 (dk_at dksX1_what_2 5 rfl rfl)
theorem dX1_what_56 : decode cX1_what 56 = .ok (.if_icmp .ge 36, 3) := dk_162 0 36 (dk_at dksX1_what_2 8 rfl rfl)
theorem dX1_what_59 : decode cX1_what 59 = .ok (.lload_n 3, 1) := dk_33 (dk_at dksX1_what_2 11 rfl rfl)
theorem dX1_what_60 : decode cX1_what 60 = .ok (.aload_n 0, 1) := dk_42 (dk_at dksX1_what_2 12 rfl rfl)
theorem dX1_what_61 : decode cX1_what 61 = .ok (.iload 5, 2) := dk_21 5 (dk_at dksX1_what_2 13 rfl rfl)
theorem dX1_what_63 : decode cX1_what 63 = .ok (.invokevirtual 520, 3) := dk_182 2 8 (dk_at dksX1_what_2 15 rfl rfl)
theorem dX1_what_66 : decode cX1_what 66 = .ok (.ladd, 1) := dk_97 (dk_at dksX1_what_2 18 rfl rfl)
theorem dX1_what_67 : decode cX1_what 67 = .ok (.lstore_n 3, 1) := dk_66 (dk_at dksX1_what_2 19 rfl rfl)
theorem dX1_what_68 : decode cX1_what 68 = .ok (.aload_n 0, 1) := dk_42 (dk_at dksX1_what_2 20 rfl rfl)
theorem dX1_what_69 : decode cX1_what 69 = .ok (.iload 5, 2) := dk_21 5 (dk_at dksX1_what_2 21 rfl rfl)
theorem dX1_what_71 : decode cX1_what 71 = .ok (.invokevirtual 520, 3) := dk_182 2 8 (dk_at dksX1_what_3 0 rfl rfl)
theorem dX1_what_74 : decode cX1_what 74 = .ok (.aload_n 0, 1) := dk_42 (dk_at dksX1_what_3 3 rfl rfl)
theorem dX1_what_75 : decode cX1_what 75 = .ok (.iload_n 2, 1) := dk_28 (dk_at dksX1_what_3 4 rfl rfl)
theorem dX1_what_76 : decode cX1_what 76 = .ok (.invokevirtual 520, 3) := dk_182 2 8 (dk_at dksX1_what_3 5 rfl rfl)
theorem dX1_what_79 : decode cX1_what 79 = .ok (.lcmp, 1) := dk_148 (dk_at dksX1_what_3 8 rfl rfl)
theorem dX1_what_80 : decode cX1_what 80 = .ok (.ifCond .le 6, 3) := dk_158 0 6 (dk_at dksX1_what_3 9 rfl rfl)
theorem dX1_what_83 : decode cX1_what 83 = .ok (.iload 5, 2) := dk_21 5 (dk_at dksX1_what_3 12 rfl rfl)
theorem dX1_what_85 : decode cX1_what 85 = .ok (.istore_n 2, 1) := dk_61 (dk_at dksX1_what_3 14 rfl rfl)
theorem dX1_what_86 : decode cX1_what 86 = .ok (.iinc 5 1, 3) := dk_132 5 1 (dk_at dksX1_what_3 15 rfl rfl)
theorem dX1_what_89 : decode cX1_what 89 = .ok (.goto (-39), 3) := dk_167 255 217 (dk_at dksX1_what_3 18 rfl rfl)
theorem dX1_what_92 : decode cX1_what 92 = .ok (.iload_n 1, 1) := dk_27 (dk_at dksX1_what_3 21 rfl rfl)
theorem dX1_what_93 : decode cX1_what 93 = .ok (.ifCond .ne 7, 3) := dk_154 0 7 (dk_at dksX1_what_4 0 rfl rfl)
theorem dX1_what_96 : decode cX1_what 96 = .ok (.iload_n 2, 1) := dk_28 (dk_at dksX1_what_4 3 rfl rfl)
theorem dX1_what_97 : decode cX1_what 97 = .ok (.goto 25, 3) := dk_167 0 25 (dk_at dksX1_what_4 4 rfl rfl)
theorem dX1_what_100 : decode cX1_what 100 = .ok (.lload_n 3, 1) := dk_33 (dk_at dksX1_what_4 7 rfl rfl)
theorem dX1_what_101 : decode cX1_what 101 = .ok (.lconst 0, 1) := dk_9 (dk_at dksX1_what_4 8 rfl rfl)
theorem dX1_what_102 : decode cX1_what 102 = .ok (.lcmp, 1) := dk_148 (dk_at dksX1_what_4 9 rfl rfl)
theorem dX1_what_103 : decode cX1_what 103 = .ok (.ifCond .ne 7, 3) := dk_154 0 7 (dk_at dksX1_what_4 10 rfl rfl)
theorem dX1_what_106 : decode cX1_what 106 = .ok (.iconst 0, 1) := dk_3 (dk_at dksX1_what_4 13 rfl rfl)
theorem dX1_what_107 : decode cX1_what 107 = .ok (.goto 15, 3) := dk_167 0 15 (dk_at dksX1_what_4 14 rfl rfl)
theorem dX1_what_110 : decode cX1_what 110 = .ok (.aload_n 0, 1) := dk_42 (dk_at dksX1_what_4 17 rfl rfl)
theorem dX1_what_111 : decode cX1_what 111 = .ok (.iload_n 2, 1) := dk_28 (dk_at dksX1_what_4 18 rfl rfl)
theorem dX1_what_112 : decode cX1_what 112 = .ok (.invokevirtual 520, 3) := dk_182 2 8 (dk_at dksX1_what_4 19 rfl rfl)
theorem dX1_what_115 : decode cX1_what 115 = .ok (.ldc2_w 530, 3) := dk_20 2 18 (dk_at dksX1_what_5 0 rfl rfl)
theorem dX1_what_118 : decode cX1_what 118 = .ok (.lmul, 1) := dk_105 (dk_at dksX1_what_5 3 rfl rfl)
theorem dX1_what_119 : decode cX1_what 119 = .ok (.lload_n 3, 1) := dk_33 (dk_at dksX1_what_5 4 rfl rfl)
theorem dX1_what_120 : decode cX1_what 120 = .ok (.ldiv, 1) := dk_109 (dk_at dksX1_what_5 5 rfl rfl)
theorem dX1_what_121 : decode cX1_what 121 = .ok (.l2i, 1) := dk_136 (dk_at dksX1_what_5 6 rfl rfl)
theorem dX1_what_122 : decode cX1_what 122 = .ok (.ireturn, 1) := dk_172 (dk_at dksX1_what_5 7 rfl rfl)
abbrev cX1_mostHeld : ByteArray := prog_1_method_113_code
def yX1_mostHeld : MethodName := ⟨RX1, "mostHeld", "(I)J"⟩
def dkwX1_mostHeld_3 : List UInt8 := [132, 4, 1, 167, 255, 187, 32, 173]
abbrev dktX1_mostHeld_3 : List UInt8 := dkwX1_mostHeld_3 ++ []
def dkwX1_mostHeld_2 : List UInt8 := [22, 5, 42, 21, 7, 182, 2, 8, 97, 55, 5, 132, 7, 1, 167, 255, 213, 32, 22, 5, 184, 2, 12, 65]
abbrev dktX1_mostHeld_2 : List UInt8 := dkwX1_mostHeld_2 ++ dktX1_mostHeld_3
def dkwX1_mostHeld_1 : List UInt8 := [162, 0, 40, 42, 21, 7, 27, 154, 0, 7, 3, 167, 0, 4, 4, 182, 1, 90, 21, 4, 160, 0, 14]
abbrev dktX1_mostHeld_1 : List UInt8 := dkwX1_mostHeld_1 ++ dktX1_mostHeld_2
def dkwX1_mostHeld_0 : List UInt8 := [9, 65, 3, 54, 4, 21, 4, 16, 10, 162, 0, 68, 9, 55, 5, 3, 54, 7, 21, 7, 42, 180, 1, 68]
abbrev dktX1_mostHeld_0 : List UInt8 := dkwX1_mostHeld_0 ++ dktX1_mostHeld_1
theorem dksX1_mostHeld_0 : cX1_mostHeld.data.toList.drop 0 = dktX1_mostHeld_0 := by decide +kernel
theorem dksX1_mostHeld_1 : cX1_mostHeld.data.toList.drop 24 = dktX1_mostHeld_1 := dk_seg dksX1_mostHeld_0 24 rfl rfl
theorem dksX1_mostHeld_2 : cX1_mostHeld.data.toList.drop 47 = dktX1_mostHeld_2 := dk_seg dksX1_mostHeld_1 23 rfl rfl
theorem dksX1_mostHeld_3 : cX1_mostHeld.data.toList.drop 71 = dktX1_mostHeld_3 := dk_seg dksX1_mostHeld_2 24 rfl rfl
theorem dX1_mostHeld_0 : decode cX1_mostHeld 0 = .ok (.lconst 0, 1) := dk_9 (dk_at dksX1_mostHeld_0 0 rfl rfl)
theorem dX1_mostHeld_1 : decode cX1_mostHeld 1 = .ok (.lstore_n 2, 1) := dk_65 (dk_at dksX1_mostHeld_0 1 rfl rfl)
theorem dX1_mostHeld_2 : decode cX1_mostHeld 2 = .ok (.iconst 0, 1) := dk_3 (dk_at dksX1_mostHeld_0 2 rfl rfl)
theorem dX1_mostHeld_3 : decode cX1_mostHeld 3 = .ok (.istore 4, 2) := dk_54 4 (dk_at dksX1_mostHeld_0 3 rfl rfl)
theorem dX1_mostHeld_5 : decode cX1_mostHeld 5 = .ok (.iload 4, 2) := dk_21 4 (dk_at dksX1_mostHeld_0 5 rfl rfl)
theorem dX1_mostHeld_7 : decode cX1_mostHeld 7 = .ok (.bipush 10, 2) := dk_16 10 (dk_at dksX1_mostHeld_0 7 rfl rfl)
theorem dX1_mostHeld_9 : decode cX1_mostHeld 9 = .ok (.if_icmp .ge 68, 3) := dk_162 0 68 (dk_at dksX1_mostHeld_0 9 rfl rfl)
theorem dX1_mostHeld_12 : decode cX1_mostHeld 12 = .ok (.lconst 0, 1) := dk_9 (dk_at dksX1_mostHeld_0 12 rfl rfl)
theorem dX1_mostHeld_13 : decode cX1_mostHeld 13 = .ok (.lstore 5, 2) := dk_55 5 (dk_at dksX1_mostHeld_0 13 rfl rfl)
theorem dX1_mostHeld_15 : decode cX1_mostHeld 15 = .ok (.iconst 0, 1) := dk_3 (dk_at dksX1_mostHeld_0 15 rfl rfl)
theorem dX1_mostHeld_16 : decode cX1_mostHeld 16 = .ok (.istore 7, 2) := dk_54 7 (dk_at dksX1_mostHeld_0 16 rfl rfl)
theorem dX1_mostHeld_18 : decode cX1_mostHeld 18 = .ok (.iload 7, 2) := dk_21 7 (dk_at dksX1_mostHeld_0 18 rfl rfl)
theorem dX1_mostHeld_20 : decode cX1_mostHeld 20 = .ok (.aload_n 0, 1) := dk_42 (dk_at dksX1_mostHeld_0 20 rfl rfl)
theorem dX1_mostHeld_21 : decode cX1_mostHeld 21 = .ok (.getfield 324, 3) := dk_180 1 68 (dk_at dksX1_mostHeld_0 21 rfl rfl)
theorem dX1_mostHeld_24 : decode cX1_mostHeld 24 = .ok (.if_icmp .ge 40, 3) := dk_162 0 40 (dk_at dksX1_mostHeld_1 0 rfl rfl)
theorem dX1_mostHeld_27 : decode cX1_mostHeld 27 = .ok (.aload_n 0, 1) := dk_42 (dk_at dksX1_mostHeld_1 3 rfl rfl)
theorem dX1_mostHeld_28 : decode cX1_mostHeld 28 = .ok (.iload 7, 2) := dk_21 7 (dk_at dksX1_mostHeld_1 4 rfl rfl)
theorem dX1_mostHeld_30 : decode cX1_mostHeld 30 = .ok (.iload_n 1, 1) := dk_27 (dk_at dksX1_mostHeld_1 6 rfl rfl)
theorem dX1_mostHeld_31 : decode cX1_mostHeld 31 = .ok (.ifCond .ne 7, 3) := dk_154 0 7 (dk_at dksX1_mostHeld_1 7 rfl rfl)
theorem dX1_mostHeld_34 : decode cX1_mostHeld 34 = .ok (.iconst 0, 1) := dk_3 (dk_at dksX1_mostHeld_1 10 rfl rfl)
theorem dX1_mostHeld_35 : decode cX1_mostHeld 35 = .ok (.goto 4, 3) := dk_167 0 4 (dk_at dksX1_mostHeld_1 11 rfl rfl)
theorem dX1_mostHeld_38 : decode cX1_mostHeld 38 = .ok (.iconst 1, 1) := dk_4 (dk_at dksX1_mostHeld_1 14 rfl rfl)
theorem dX1_mostHeld_39 : decode cX1_mostHeld 39 = .ok (.invokevirtual 346, 3) := dk_182 1 90 (dk_at dksX1_mostHeld_1 15 rfl rfl)
theorem dX1_mostHeld_42 : decode cX1_mostHeld 42 = .ok (.iload 4, 2) := dk_21 4 (dk_at dksX1_mostHeld_1 18 rfl rfl)
theorem dX1_mostHeld_44 : decode cX1_mostHeld 44 = .ok (.if_icmp .ne 14, 3) := dk_160 0 14 (dk_at dksX1_mostHeld_1 20 rfl rfl)
theorem dX1_mostHeld_47 : decode cX1_mostHeld 47 = .ok (.lload 5, 2) := dk_22 5 (dk_at dksX1_mostHeld_2 0 rfl rfl)
theorem dX1_mostHeld_49 : decode cX1_mostHeld 49 = .ok (.aload_n 0, 1) := dk_42 (dk_at dksX1_mostHeld_2 2 rfl rfl)
theorem dX1_mostHeld_50 : decode cX1_mostHeld 50 = .ok (.iload 7, 2) := dk_21 7 (dk_at dksX1_mostHeld_2 3 rfl rfl)
theorem dX1_mostHeld_52 : decode cX1_mostHeld 52 = .ok (.invokevirtual 520, 3) := dk_182 2 8 (dk_at dksX1_mostHeld_2 5 rfl rfl)
theorem dX1_mostHeld_55 : decode cX1_mostHeld 55 = .ok (.ladd, 1) := dk_97 (dk_at dksX1_mostHeld_2 8 rfl rfl)
theorem dX1_mostHeld_56 : decode cX1_mostHeld 56 = .ok (.lstore 5, 2) := dk_55 5 (dk_at dksX1_mostHeld_2 9 rfl rfl)
theorem dX1_mostHeld_58 : decode cX1_mostHeld 58 = .ok (.iinc 7 1, 3) := dk_132 7 1 (dk_at dksX1_mostHeld_2 11 rfl rfl)
theorem dX1_mostHeld_61 : decode cX1_mostHeld 61 = .ok (.goto (-43), 3) := dk_167 255 213 (dk_at dksX1_mostHeld_2 14 rfl rfl)
theorem dX1_mostHeld_64 : decode cX1_mostHeld 64 = .ok (.lload_n 2, 1) := dk_32 (dk_at dksX1_mostHeld_2 17 rfl rfl)
theorem dX1_mostHeld_65 : decode cX1_mostHeld 65 = .ok (.lload 5, 2) := dk_22 5 (dk_at dksX1_mostHeld_2 18 rfl rfl)
theorem dX1_mostHeld_67 : decode cX1_mostHeld 67 = .ok (.invokestatic 524, 3) := dk_184 2 12 (dk_at dksX1_mostHeld_2 20 rfl rfl)
theorem dX1_mostHeld_70 : decode cX1_mostHeld 70 = .ok (.lstore_n 2, 1) := dk_65 (dk_at dksX1_mostHeld_2 23 rfl rfl)
theorem dX1_mostHeld_71 : decode cX1_mostHeld 71 = .ok (.iinc 4 1, 3) := dk_132 4 1 (dk_at dksX1_mostHeld_3 0 rfl rfl)
theorem dX1_mostHeld_74 : decode cX1_mostHeld 74 = .ok (.goto (-69), 3) := dk_167 255 187 (dk_at dksX1_mostHeld_3 3 rfl rfl)
theorem dX1_mostHeld_77 : decode cX1_mostHeld 77 = .ok (.lload_n 2, 1) := dk_32 (dk_at dksX1_mostHeld_3 6 rfl rfl)
theorem dX1_mostHeld_78 : decode cX1_mostHeld 78 = .ok (.lreturn, 1) := dk_173 (dk_at dksX1_mostHeld_3 7 rfl rfl)
abbrev cX1_heldOf : ByteArray := prog_1_method_112_code
def yX1_heldOf : MethodName := ⟨RX1, "heldOf", "(I)J"⟩
def dkwX1_heldOf_3 : List UInt8 := [167, 255, 191, 32, 173]
abbrev dktX1_heldOf_3 : List UInt8 := dkwX1_heldOf_3 ++ []
def dkwX1_heldOf_2 : List UInt8 := [180, 0, 33, 6, 46, 100, 133, 167, 0, 10, 42, 180, 0, 33, 6, 46, 133, 105, 65, 132, 4, 1]
abbrev dktX1_heldOf_2 : List UInt8 := dkwX1_heldOf_2 ++ dktX1_heldOf_3
def dkwX1_heldOf_1 : List UInt8 := [154, 0, 7, 3, 167, 0, 4, 4, 182, 1, 90, 42, 180, 0, 73, 21, 4, 46, 160, 0, 16, 16, 10, 42]
abbrev dktX1_heldOf_1 : List UInt8 := dkwX1_heldOf_1 ++ dktX1_heldOf_2
def dkwX1_heldOf_0 : List UInt8 := [10, 65, 3, 54, 4, 21, 4, 42, 180, 1, 71, 162, 0, 62, 32, 42, 27, 42, 180, 0, 70, 21, 4, 46]
abbrev dktX1_heldOf_0 : List UInt8 := dkwX1_heldOf_0 ++ dktX1_heldOf_1
theorem dksX1_heldOf_0 : cX1_heldOf.data.toList.drop 0 = dktX1_heldOf_0 := by decide +kernel
theorem dksX1_heldOf_1 : cX1_heldOf.data.toList.drop 24 = dktX1_heldOf_1 := dk_seg dksX1_heldOf_0 24 rfl rfl
theorem dksX1_heldOf_2 : cX1_heldOf.data.toList.drop 48 = dktX1_heldOf_2 := dk_seg dksX1_heldOf_1 24 rfl rfl
theorem dksX1_heldOf_3 : cX1_heldOf.data.toList.drop 70 = dktX1_heldOf_3 := dk_seg dksX1_heldOf_2 22 rfl rfl
theorem dX1_heldOf_0 : decode cX1_heldOf 0 = .ok (.lconst 1, 1) := dk_10 (dk_at dksX1_heldOf_0 0 rfl rfl)
theorem dX1_heldOf_1 : decode cX1_heldOf 1 = .ok (.lstore_n 2, 1) := dk_65 (dk_at dksX1_heldOf_0 1 rfl rfl)
theorem dX1_heldOf_2 : decode cX1_heldOf 2 = .ok (.iconst 0, 1) := dk_3 (dk_at dksX1_heldOf_0 2 rfl rfl)
theorem dX1_heldOf_3 : decode cX1_heldOf 3 = .ok (.istore 4, 2) := dk_54 4 (dk_at dksX1_heldOf_0 3 rfl rfl)
theorem dX1_heldOf_5 : decode cX1_heldOf 5 = .ok (.iload 4, 2) := dk_21 4 (dk_at dksX1_heldOf_0 5 rfl rfl)
theorem dX1_heldOf_7 : decode cX1_heldOf 7 = .ok (.aload_n 0, 1) := dk_42 (dk_at dksX1_heldOf_0 7 rfl rfl)
theorem dX1_heldOf_8 : decode cX1_heldOf 8 = .ok (.getfield 327, 3) := dk_180 1 71 (dk_at dksX1_heldOf_0 8 rfl rfl)
theorem dX1_heldOf_11 : decode cX1_heldOf 11 = .ok (.if_icmp .ge 62, 3) := dk_162 0 62 (dk_at dksX1_heldOf_0 11 rfl rfl)
theorem dX1_heldOf_14 : decode cX1_heldOf 14 = .ok (.lload_n 2, 1) := dk_32 (dk_at dksX1_heldOf_0 14 rfl rfl)
theorem dX1_heldOf_15 : decode cX1_heldOf 15 = .ok (.aload_n 0, 1) := dk_42 (dk_at dksX1_heldOf_0 15 rfl rfl)
theorem dX1_heldOf_16 : decode cX1_heldOf 16 = .ok (.iload_n 1, 1) := dk_27 (dk_at dksX1_heldOf_0 16 rfl rfl)
theorem dX1_heldOf_17 : decode cX1_heldOf 17 = .ok (.aload_n 0, 1) := dk_42 (dk_at dksX1_heldOf_0 17 rfl rfl)
theorem dX1_heldOf_18 : decode cX1_heldOf 18 = .ok (.getfield 70, 3) := dk_180 0 70 (dk_at dksX1_heldOf_0 18 rfl rfl)
theorem dX1_heldOf_21 : decode cX1_heldOf 21 = .ok (.iload 4, 2) := dk_21 4 (dk_at dksX1_heldOf_0 21 rfl rfl)
theorem dX1_heldOf_23 : decode cX1_heldOf 23 = .ok (.iaload, 1) := dk_46 (dk_at dksX1_heldOf_0 23 rfl rfl)
theorem dX1_heldOf_24 : decode cX1_heldOf 24 = .ok (.ifCond .ne 7, 3) := dk_154 0 7 (dk_at dksX1_heldOf_1 0 rfl rfl)
theorem dX1_heldOf_27 : decode cX1_heldOf 27 = .ok (.iconst 0, 1) := dk_3 (dk_at dksX1_heldOf_1 3 rfl rfl)
theorem dX1_heldOf_28 : decode cX1_heldOf 28 = .ok (.goto 4, 3) := dk_167 0 4 (dk_at dksX1_heldOf_1 4 rfl rfl)
theorem dX1_heldOf_31 : decode cX1_heldOf 31 = .ok (.iconst 1, 1) := dk_4 (dk_at dksX1_heldOf_1 7 rfl rfl)
theorem dX1_heldOf_32 : decode cX1_heldOf 32 = .ok (.invokevirtual 346, 3) := dk_182 1 90 (dk_at dksX1_heldOf_1 8 rfl rfl)
theorem dX1_heldOf_35 : decode cX1_heldOf 35 = .ok (.aload_n 0, 1) := dk_42 (dk_at dksX1_heldOf_1 11 rfl rfl)
theorem dX1_heldOf_36 : decode cX1_heldOf 36 = .ok (.getfield 73, 3) := dk_180 0 73 (dk_at dksX1_heldOf_1 12 rfl rfl)
theorem dX1_heldOf_39 : decode cX1_heldOf 39 = .ok (.iload 4, 2) := dk_21 4 (dk_at dksX1_heldOf_1 15 rfl rfl)
theorem dX1_heldOf_41 : decode cX1_heldOf 41 = .ok (.iaload, 1) := dk_46 (dk_at dksX1_heldOf_1 17 rfl rfl)
theorem dX1_heldOf_42 : decode cX1_heldOf 42 = .ok (.if_icmp .ne 16, 3) := dk_160 0 16 (dk_at dksX1_heldOf_1 18 rfl rfl)
theorem dX1_heldOf_45 : decode cX1_heldOf 45 = .ok (.bipush 10, 2) := dk_16 10 (dk_at dksX1_heldOf_1 21 rfl rfl)
theorem dX1_heldOf_47 : decode cX1_heldOf 47 = .ok (.aload_n 0, 1) := dk_42 (dk_at dksX1_heldOf_1 23 rfl rfl)
theorem dX1_heldOf_48 : decode cX1_heldOf 48 = .ok (.getfield 33, 3) := dk_180 0 33 (dk_at dksX1_heldOf_2 0 rfl rfl)
theorem dX1_heldOf_51 : decode cX1_heldOf 51 = .ok (.iconst 3, 1) := dk_6 (dk_at dksX1_heldOf_2 3 rfl rfl)
theorem dX1_heldOf_52 : decode cX1_heldOf 52 = .ok (.iaload, 1) := dk_46 (dk_at dksX1_heldOf_2 4 rfl rfl)
theorem dX1_heldOf_53 : decode cX1_heldOf 53 = .ok (.isub, 1) := dk_100 (dk_at dksX1_heldOf_2 5 rfl rfl)
theorem dX1_heldOf_54 : decode cX1_heldOf 54 = .ok (.i2l, 1) := dk_133 (dk_at dksX1_heldOf_2 6 rfl rfl)
theorem dX1_heldOf_55 : decode cX1_heldOf 55 = .ok (.goto 10, 3) := dk_167 0 10 (dk_at dksX1_heldOf_2 7 rfl rfl)
theorem dX1_heldOf_58 : decode cX1_heldOf 58 = .ok (.aload_n 0, 1) := dk_42 (dk_at dksX1_heldOf_2 10 rfl rfl)
theorem dX1_heldOf_59 : decode cX1_heldOf 59 = .ok (.getfield 33, 3) := dk_180 0 33 (dk_at dksX1_heldOf_2 11 rfl rfl)
theorem dX1_heldOf_62 : decode cX1_heldOf 62 = .ok (.iconst 3, 1) := dk_6 (dk_at dksX1_heldOf_2 14 rfl rfl)
theorem dX1_heldOf_63 : decode cX1_heldOf 63 = .ok (.iaload, 1) := dk_46 (dk_at dksX1_heldOf_2 15 rfl rfl)
theorem dX1_heldOf_64 : decode cX1_heldOf 64 = .ok (.i2l, 1) := dk_133 (dk_at dksX1_heldOf_2 16 rfl rfl)
theorem dX1_heldOf_65 : decode cX1_heldOf 65 = .ok (.lmul, 1) := dk_105 (dk_at dksX1_heldOf_2 17 rfl rfl)
theorem dX1_heldOf_66 : decode cX1_heldOf 66 = .ok (.lstore_n 2, 1) := dk_65 (dk_at dksX1_heldOf_2 18 rfl rfl)
theorem dX1_heldOf_67 : decode cX1_heldOf 67 = .ok (.iinc 4 1, 3) := dk_132 4 1 (dk_at dksX1_heldOf_2 19 rfl rfl)
theorem dX1_heldOf_70 : decode cX1_heldOf 70 = .ok (.goto (-65), 3) := dk_167 255 191 (dk_at dksX1_heldOf_3 0 rfl rfl)
theorem dX1_heldOf_73 : decode cX1_heldOf 73 = .ok (.lload_n 2, 1) := dk_32 (dk_at dksX1_heldOf_3 3 rfl rfl)
theorem dX1_heldOf_74 : decode cX1_heldOf 74 = .ok (.lreturn, 1) := dk_173 (dk_at dksX1_heldOf_3 4 rfl rfl)
abbrev cX1_found : ByteArray := prog_1_method_115_code
def yX1_found : MethodName := ⟨RX1, "found", "(IIZ)I"⟩
def dkwX1_found_3 : List UInt8 := [180, 1, 74, 172]
abbrev dktX1_found_3 : List UInt8 := dkwX1_found_3 ++ []
def dkwX1_found_2 : List UInt8 := [79, 42, 180, 0, 82, 42, 180, 1, 74, 29, 84, 42, 89, 180, 1, 74, 4, 96, 181, 1, 74, 42]
abbrev dktX1_found_2 : List UInt8 := dkwX1_found_2 ++ dktX1_found_3
def dkwX1_found_1 : List UInt8 := [160, 0, 5, 2, 172, 42, 180, 0, 76, 42, 180, 1, 74, 27, 79, 42, 180, 0, 79, 42, 180, 1, 74, 28]
abbrev dktX1_found_1 : List UInt8 := dkwX1_found_1 ++ dktX1_found_2
def dkwX1_found_0 : List UInt8 := [42, 28, 182, 1, 131, 153, 0, 21, 27, 3, 8, 184, 0, 246, 153, 0, 12, 42, 180, 1, 74, 16, 10]
abbrev dktX1_found_0 : List UInt8 := dkwX1_found_0 ++ dktX1_found_1
theorem dksX1_found_0 : cX1_found.data.toList.drop 0 = dktX1_found_0 := by decide +kernel
theorem dksX1_found_1 : cX1_found.data.toList.drop 23 = dktX1_found_1 := dk_seg dksX1_found_0 23 rfl rfl
theorem dksX1_found_2 : cX1_found.data.toList.drop 47 = dktX1_found_2 := dk_seg dksX1_found_1 24 rfl rfl
theorem dksX1_found_3 : cX1_found.data.toList.drop 69 = dktX1_found_3 := dk_seg dksX1_found_2 22 rfl rfl
theorem dX1_found_0 : decode cX1_found 0 = .ok (.aload_n 0, 1) := dk_42 (dk_at dksX1_found_0 0 rfl rfl)
theorem dX1_found_1 : decode cX1_found 1 = .ok (.iload_n 2, 1) := dk_28 (dk_at dksX1_found_0 1 rfl rfl)
theorem dX1_found_2 : decode cX1_found 2 = .ok (.invokevirtual 387, 3) := dk_182 1 131 (dk_at dksX1_found_0 2 rfl rfl)
theorem dX1_found_5 : decode cX1_found 5 = .ok (.ifCond .eq 21, 3) := dk_153 0 21 (dk_at dksX1_found_0 5 rfl rfl)
theorem dX1_found_8 : decode cX1_found 8 = .ok (.iload_n 1, 1) := dk_27 (dk_at dksX1_found_0 8 rfl rfl)
theorem dX1_found_9 : decode cX1_found 9 = .ok (.iconst 0, 1) := dk_3 (dk_at dksX1_found_0 9 rfl rfl)
theorem dX1_found_10 : decode cX1_found 10 = .ok (.iconst 5, 1) := dk_8 (dk_at dksX1_found_0 10 rfl rfl)
theorem dX1_found_11 : decode cX1_found 11 = .ok (.invokestatic 246, 3) := dk_184 0 246 (dk_at dksX1_found_0 11 rfl rfl)
theorem dX1_found_14 : decode cX1_found 14 = .ok (.ifCond .eq 12, 3) := dk_153 0 12 (dk_at dksX1_found_0 14 rfl rfl)
theorem dX1_found_17 : decode cX1_found 17 = .ok (.aload_n 0, 1) := dk_42 (dk_at dksX1_found_0 17 rfl rfl)
theorem dX1_found_18 : decode cX1_found 18 = .ok (.getfield 330, 3) := dk_180 1 74 (dk_at dksX1_found_0 18 rfl rfl)
theorem dX1_found_21 : decode cX1_found 21 = .ok (.bipush 10, 2) := dk_16 10 (dk_at dksX1_found_0 21 rfl rfl)
theorem dX1_found_23 : decode cX1_found 23 = .ok (.if_icmp .ne 5, 3) := dk_160 0 5 (dk_at dksX1_found_1 0 rfl rfl)
theorem dX1_found_26 : decode cX1_found 26 = .ok (.iconst (-1), 1) := dk_2 (dk_at dksX1_found_1 3 rfl rfl)
theorem dX1_found_27 : decode cX1_found 27 = .ok (.ireturn, 1) := dk_172 (dk_at dksX1_found_1 4 rfl rfl)
theorem dX1_found_28 : decode cX1_found 28 = .ok (.aload_n 0, 1) := dk_42 (dk_at dksX1_found_1 5 rfl rfl)
theorem dX1_found_29 : decode cX1_found 29 = .ok (.getfield 76, 3) := dk_180 0 76 (dk_at dksX1_found_1 6 rfl rfl)
theorem dX1_found_32 : decode cX1_found 32 = .ok (.aload_n 0, 1) := dk_42 (dk_at dksX1_found_1 9 rfl rfl)
theorem dX1_found_33 : decode cX1_found 33 = .ok (.getfield 330, 3) := dk_180 1 74 (dk_at dksX1_found_1 10 rfl rfl)
theorem dX1_found_36 : decode cX1_found 36 = .ok (.iload_n 1, 1) := dk_27 (dk_at dksX1_found_1 13 rfl rfl)
theorem dX1_found_37 : decode cX1_found 37 = .ok (.iastore, 1) := dk_79 (dk_at dksX1_found_1 14 rfl rfl)
theorem dX1_found_38 : decode cX1_found 38 = .ok (.aload_n 0, 1) := dk_42 (dk_at dksX1_found_1 15 rfl rfl)
theorem dX1_found_39 : decode cX1_found 39 = .ok (.getfield 79, 3) := dk_180 0 79 (dk_at dksX1_found_1 16 rfl rfl)
theorem dX1_found_42 : decode cX1_found 42 = .ok (.aload_n 0, 1) := dk_42 (dk_at dksX1_found_1 19 rfl rfl)
theorem dX1_found_43 : decode cX1_found 43 = .ok (.getfield 330, 3) := dk_180 1 74 (dk_at dksX1_found_1 20 rfl rfl)
theorem dX1_found_46 : decode cX1_found 46 = .ok (.iload_n 2, 1) := dk_28 (dk_at dksX1_found_1 23 rfl rfl)
theorem dX1_found_47 : decode cX1_found 47 = .ok (.iastore, 1) := dk_79 (dk_at dksX1_found_2 0 rfl rfl)
theorem dX1_found_48 : decode cX1_found 48 = .ok (.aload_n 0, 1) := dk_42 (dk_at dksX1_found_2 1 rfl rfl)
theorem dX1_found_49 : decode cX1_found 49 = .ok (.getfield 82, 3) := dk_180 0 82 (dk_at dksX1_found_2 2 rfl rfl)
theorem dX1_found_52 : decode cX1_found 52 = .ok (.aload_n 0, 1) := dk_42 (dk_at dksX1_found_2 5 rfl rfl)
theorem dX1_found_53 : decode cX1_found 53 = .ok (.getfield 330, 3) := dk_180 1 74 (dk_at dksX1_found_2 6 rfl rfl)
theorem dX1_found_56 : decode cX1_found 56 = .ok (.iload_n 3, 1) := dk_29 (dk_at dksX1_found_2 9 rfl rfl)
theorem dX1_found_57 : decode cX1_found 57 = .ok (.bastore, 1) := dk_84 (dk_at dksX1_found_2 10 rfl rfl)
theorem dX1_found_58 : decode cX1_found 58 = .ok (.aload_n 0, 1) := dk_42 (dk_at dksX1_found_2 11 rfl rfl)
theorem dX1_found_59 : decode cX1_found 59 = .ok (.dup, 1) := dk_89 (dk_at dksX1_found_2 12 rfl rfl)
theorem dX1_found_60 : decode cX1_found 60 = .ok (.getfield 330, 3) := dk_180 1 74 (dk_at dksX1_found_2 13 rfl rfl)
theorem dX1_found_63 : decode cX1_found 63 = .ok (.iconst 1, 1) := dk_4 (dk_at dksX1_found_2 16 rfl rfl)
theorem dX1_found_64 : decode cX1_found 64 = .ok (.iadd, 1) := dk_96 (dk_at dksX1_found_2 17 rfl rfl)
theorem dX1_found_65 : decode cX1_found 65 = .ok (.putfield 330, 3) := dk_181 1 74 (dk_at dksX1_found_2 18 rfl rfl)
theorem dX1_found_68 : decode cX1_found 68 = .ok (.aload_n 0, 1) := dk_42 (dk_at dksX1_found_2 21 rfl rfl)
theorem dX1_found_69 : decode cX1_found 69 = .ok (.getfield 330, 3) := dk_180 1 74 (dk_at dksX1_found_3 0 rfl rfl)
theorem dX1_found_72 : decode cX1_found 72 = .ok (.ireturn, 1) := dk_172 (dk_at dksX1_found_3 3 rfl rfl)
abbrev cX1_history : ByteArray := prog_1_method_119_code
def yX1_history : MethodName := ⟨RX1, "history", "(II)I"⟩
def dkwX1_history_1 : List UInt8 := [180, 2, 20, 167, 0, 7, 42, 180, 2, 26, 172]
abbrev dktX1_history_1 : List UInt8 := dkwX1_history_1 ++ []
def dkwX1_history_0 : List UInt8 := [28, 2, 161, 0, 12, 42, 27, 28, 182, 2, 37, 154, 0, 5, 2, 172, 28, 2, 160, 0, 10, 42]
abbrev dktX1_history_0 : List UInt8 := dkwX1_history_0 ++ dktX1_history_1
theorem dksX1_history_0 : cX1_history.data.toList.drop 0 = dktX1_history_0 := by decide +kernel
theorem dksX1_history_1 : cX1_history.data.toList.drop 22 = dktX1_history_1 := dk_seg dksX1_history_0 22 rfl rfl
theorem dX1_history_0 : decode cX1_history 0 = .ok (.iload_n 2, 1) := dk_28 (dk_at dksX1_history_0 0 rfl rfl)
theorem dX1_history_1 : decode cX1_history 1 = .ok (.iconst (-1), 1) := dk_2 (dk_at dksX1_history_0 1 rfl rfl)
theorem dX1_history_2 : decode cX1_history 2 = .ok (.if_icmp .lt 12, 3) := dk_161 0 12 (dk_at dksX1_history_0 2 rfl rfl)
theorem dX1_history_5 : decode cX1_history 5 = .ok (.aload_n 0, 1) := dk_42 (dk_at dksX1_history_0 5 rfl rfl)
theorem dX1_history_6 : decode cX1_history 6 = .ok (.iload_n 1, 1) := dk_27 (dk_at dksX1_history_0 6 rfl rfl)
theorem dX1_history_7 : decode cX1_history 7 = .ok (.iload_n 2, 1) := dk_28 (dk_at dksX1_history_0 7 rfl rfl)
theorem dX1_history_8 : decode cX1_history 8 = .ok (.invokevirtual 549, 3) := dk_182 2 37 (dk_at dksX1_history_0 8 rfl rfl)
theorem dX1_history_11 : decode cX1_history 11 = .ok (.ifCond .ne 5, 3) := dk_154 0 5 (dk_at dksX1_history_0 11 rfl rfl)
theorem dX1_history_14 : decode cX1_history 14 = .ok (.iconst (-1), 1) := dk_2 (dk_at dksX1_history_0 14 rfl rfl)
theorem dX1_history_15 : decode cX1_history 15 = .ok (.ireturn, 1) := dk_172 (dk_at dksX1_history_0 15 rfl rfl)
theorem dX1_history_16 : decode cX1_history 16 = .ok (.iload_n 2, 1) := dk_28 (dk_at dksX1_history_0 16 rfl rfl)
theorem dX1_history_17 : decode cX1_history 17 = .ok (.iconst (-1), 1) := dk_2 (dk_at dksX1_history_0 17 rfl rfl)
theorem dX1_history_18 : decode cX1_history 18 = .ok (.if_icmp .ne 10, 3) := dk_160 0 10 (dk_at dksX1_history_0 18 rfl rfl)
theorem dX1_history_21 : decode cX1_history 21 = .ok (.aload_n 0, 1) := dk_42 (dk_at dksX1_history_0 21 rfl rfl)
theorem dX1_history_22 : decode cX1_history 22 = .ok (.getfield 532, 3) := dk_180 2 20 (dk_at dksX1_history_1 0 rfl rfl)
theorem dX1_history_25 : decode cX1_history 25 = .ok (.goto 7, 3) := dk_167 0 7 (dk_at dksX1_history_1 3 rfl rfl)
theorem dX1_history_28 : decode cX1_history 28 = .ok (.aload_n 0, 1) := dk_42 (dk_at dksX1_history_1 6 rfl rfl)
theorem dX1_history_29 : decode cX1_history 29 = .ok (.getfield 538, 3) := dk_180 2 26 (dk_at dksX1_history_1 7 rfl rfl)
theorem dX1_history_32 : decode cX1_history 32 = .ok (.ireturn, 1) := dk_172 (dk_at dksX1_history_1 10 rfl rfl)
abbrev cX1_layRows : ByteArray := prog_1_method_118_code
def yX1_layRows : MethodName := ⟨RX1, "layRows", "(II)Z"⟩
def dkwX1_layRows_5 : List UInt8 := [42, 2, 181, 2, 26, 42, 3, 3, 182, 2, 32, 4, 172]
abbrev dktX1_layRows_5 : List UInt8 := dkwX1_layRows_5 ++ []
def dkwX1_layRows_4 : List UInt8 := [21, 5, 153, 0, 10, 21, 4, 16, 6, 159, 0, 5, 3, 172, 42, 3, 181, 2, 20, 42, 28, 181, 2, 23]
abbrev dktX1_layRows_4 : List UInt8 := dkwX1_layRows_4 ++ dktX1_layRows_5
def dkwX1_layRows_3 : List UInt8 := [16, 10, 112, 154, 0, 7, 4, 167, 0, 4, 3, 54, 5, 29, 16, 10, 108, 62, 132, 6, 255, 167, 255, 195]
abbrev dktX1_layRows_3 : List UInt8 := dkwX1_layRows_3 ++ dktX1_layRows_4
def dkwX1_layRows_2 : List UInt8 := [21, 4, 29, 16, 10, 112, 96, 54, 4, 21, 5, 153, 0, 23, 21, 6, 42, 180, 1, 68, 161, 0, 10, 29]
abbrev dktX1_layRows_2 : List UInt8 := dkwX1_layRows_2 ++ dktX1_layRows_3
def dkwX1_layRows_1 : List UInt8 := [54, 4, 4, 54, 5, 8, 54, 6, 21, 6, 155, 0, 62, 42, 180, 0, 86, 21, 6, 29, 16, 10, 112, 79]
abbrev dktX1_layRows_1 : List UInt8 := dkwX1_layRows_1 ++ dktX1_layRows_2
def dkwX1_layRows_0 : List UInt8 := [42, 182, 1, 128, 153, 0, 14, 27, 155, 0, 10, 27, 19, 2, 36, 164, 0, 5, 3, 172, 27, 62, 3]
abbrev dktX1_layRows_0 : List UInt8 := dkwX1_layRows_0 ++ dktX1_layRows_1
theorem dksX1_layRows_0 : cX1_layRows.data.toList.drop 0 = dktX1_layRows_0 := by decide +kernel
theorem dksX1_layRows_1 : cX1_layRows.data.toList.drop 23 = dktX1_layRows_1 := dk_seg dksX1_layRows_0 23 rfl rfl
theorem dksX1_layRows_2 : cX1_layRows.data.toList.drop 47 = dktX1_layRows_2 := dk_seg dksX1_layRows_1 24 rfl rfl
theorem dksX1_layRows_3 : cX1_layRows.data.toList.drop 71 = dktX1_layRows_3 := dk_seg dksX1_layRows_2 24 rfl rfl
theorem dksX1_layRows_4 : cX1_layRows.data.toList.drop 95 = dktX1_layRows_4 := dk_seg dksX1_layRows_3 24 rfl rfl
theorem dksX1_layRows_5 : cX1_layRows.data.toList.drop 119 = dktX1_layRows_5 := dk_seg dksX1_layRows_4 24 rfl rfl
theorem dX1_layRows_0 : decode cX1_layRows 0 = .ok (.aload_n 0, 1) := dk_42 (dk_at dksX1_layRows_0 0 rfl rfl)
theorem dX1_layRows_1 : decode cX1_layRows 1 = .ok (.invokevirtual 384, 3) := dk_182 1 128 (dk_at dksX1_layRows_0 1 rfl rfl)
theorem dX1_layRows_4 : decode cX1_layRows 4 = .ok (.ifCond .eq 14, 3) := dk_153 0 14 (dk_at dksX1_layRows_0 4 rfl rfl)
theorem dX1_layRows_7 : decode cX1_layRows 7 = .ok (.iload_n 1, 1) := dk_27 (dk_at dksX1_layRows_0 7 rfl rfl)
theorem dX1_layRows_8 : decode cX1_layRows 8 = .ok (.ifCond .lt 10, 3) := dk_155 0 10 (dk_at dksX1_layRows_0 8 rfl rfl)
theorem dX1_layRows_11 : decode cX1_layRows 11 = .ok (.iload_n 1, 1) := dk_27 (dk_at dksX1_layRows_0 11 rfl rfl)
theorem dX1_layRows_12 : decode cX1_layRows 12 = .ok (.ldc_w 548, 3) := dk_19 2 36 (dk_at dksX1_layRows_0 12 rfl rfl)
theorem dX1_layRows_15 : decode cX1_layRows 15 = .ok (.if_icmp .le 5, 3) := dk_164 0 5 (dk_at dksX1_layRows_0 15 rfl rfl)
theorem dX1_layRows_18 : decode cX1_layRows 18 = .ok (.iconst 0, 1) := dk_3 (dk_at dksX1_layRows_0 18 rfl rfl)
theorem dX1_layRows_19 : decode cX1_layRows 19 = .ok (.ireturn, 1) := dk_172 (dk_at dksX1_layRows_0 19 rfl rfl)
theorem dX1_layRows_20 : decode cX1_layRows 20 = .ok (.iload_n 1, 1) := dk_27 (dk_at dksX1_layRows_0 20 rfl rfl)
theorem dX1_layRows_21 : decode cX1_layRows 21 = .ok (.istore_n 3, 1) := dk_62 (dk_at dksX1_layRows_0 21 rfl rfl)
theorem dX1_layRows_22 : decode cX1_layRows 22 = .ok (.iconst 0, 1) := dk_3 (dk_at dksX1_layRows_0 22 rfl rfl)
theorem dX1_layRows_23 : decode cX1_layRows 23 = .ok (.istore 4, 2) := dk_54 4 (dk_at dksX1_layRows_1 0 rfl rfl)
theorem dX1_layRows_25 : decode cX1_layRows 25 = .ok (.iconst 1, 1) := dk_4 (dk_at dksX1_layRows_1 2 rfl rfl)
theorem dX1_layRows_26 : decode cX1_layRows 26 = .ok (.istore 5, 2) := dk_54 5 (dk_at dksX1_layRows_1 3 rfl rfl)
theorem dX1_layRows_28 : decode cX1_layRows 28 = .ok (.iconst 5, 1) := dk_8 (dk_at dksX1_layRows_1 5 rfl rfl)
theorem dX1_layRows_29 : decode cX1_layRows 29 = .ok (.istore 6, 2) := dk_54 6 (dk_at dksX1_layRows_1 6 rfl rfl)
theorem dX1_layRows_31 : decode cX1_layRows 31 = .ok (.iload 6, 2) := dk_21 6 (dk_at dksX1_layRows_1 8 rfl rfl)
theorem dX1_layRows_33 : decode cX1_layRows 33 = .ok (.ifCond .lt 62, 3) := dk_155 0 62 (dk_at dksX1_layRows_1 10 rfl rfl)
theorem dX1_layRows_36 : decode cX1_layRows 36 = .ok (.aload_n 0, 1) := dk_42 (dk_at dksX1_layRows_1 13 rfl rfl)
theorem dX1_layRows_37 : decode cX1_layRows 37 = .ok (.getfield 86, 3) := dk_180 0 86 (dk_at dksX1_layRows_1 14 rfl rfl)
theorem dX1_layRows_40 : decode cX1_layRows 40 = .ok (.iload 6, 2) := dk_21 6 (dk_at dksX1_layRows_1 17 rfl rfl)
theorem dX1_layRows_42 : decode cX1_layRows 42 = .ok (.iload_n 3, 1) := dk_29 (dk_at dksX1_layRows_1 19 rfl rfl)
theorem dX1_layRows_43 : decode cX1_layRows 43 = .ok (.bipush 10, 2) := dk_16 10 (dk_at dksX1_layRows_1 20 rfl rfl)
theorem dX1_layRows_45 : decode cX1_layRows 45 = .ok (.irem, 1) := dk_112 (dk_at dksX1_layRows_1 22 rfl rfl)
theorem dX1_layRows_46 : decode cX1_layRows 46 = .ok (.iastore, 1) := dk_79 (dk_at dksX1_layRows_1 23 rfl rfl)
theorem dX1_layRows_47 : decode cX1_layRows 47 = .ok (.iload 4, 2) := dk_21 4 (dk_at dksX1_layRows_2 0 rfl rfl)
theorem dX1_layRows_49 : decode cX1_layRows 49 = .ok (.iload_n 3, 1) := dk_29 (dk_at dksX1_layRows_2 2 rfl rfl)
theorem dX1_layRows_50 : decode cX1_layRows 50 = .ok (.bipush 10, 2) := dk_16 10 (dk_at dksX1_layRows_2 3 rfl rfl)
theorem dX1_layRows_52 : decode cX1_layRows 52 = .ok (.irem, 1) := dk_112 (dk_at dksX1_layRows_2 5 rfl rfl)
theorem dX1_layRows_53 : decode cX1_layRows 53 = .ok (.iadd, 1) := dk_96 (dk_at dksX1_layRows_2 6 rfl rfl)
theorem dX1_layRows_54 : decode cX1_layRows 54 = .ok (.istore 4, 2) := dk_54 4 (dk_at dksX1_layRows_2 7 rfl rfl)
theorem dX1_layRows_56 : decode cX1_layRows 56 = .ok (.iload 5, 2) := dk_21 5 (dk_at dksX1_layRows_2 9 rfl rfl)
theorem dX1_layRows_58 : decode cX1_layRows 58 = .ok (.ifCond .eq 23, 3) := dk_153 0 23 (dk_at dksX1_layRows_2 11 rfl rfl)
theorem dX1_layRows_61 : decode cX1_layRows 61 = .ok (.iload 6, 2) := dk_21 6 (dk_at dksX1_layRows_2 14 rfl rfl)
theorem dX1_layRows_63 : decode cX1_layRows 63 = .ok (.aload_n 0, 1) := dk_42 (dk_at dksX1_layRows_2 16 rfl rfl)
theorem dX1_layRows_64 : decode cX1_layRows 64 = .ok (.getfield 324, 3) := dk_180 1 68 (dk_at dksX1_layRows_2 17 rfl rfl)
theorem dX1_layRows_67 : decode cX1_layRows 67 = .ok (.if_icmp .lt 10, 3) := dk_161 0 10 (dk_at dksX1_layRows_2 20 rfl rfl)
theorem dX1_layRows_70 : decode cX1_layRows 70 = .ok (.iload_n 3, 1) := dk_29 (dk_at dksX1_layRows_2 23 rfl rfl)
theorem dX1_layRows_71 : decode cX1_layRows 71 = .ok (.bipush 10, 2) := dk_16 10 (dk_at dksX1_layRows_3 0 rfl rfl)
theorem dX1_layRows_73 : decode cX1_layRows 73 = .ok (.irem, 1) := dk_112 (dk_at dksX1_layRows_3 2 rfl rfl)
theorem dX1_layRows_74 : decode cX1_layRows 74 = .ok (.ifCond .ne 7, 3) := dk_154 0 7 (dk_at dksX1_layRows_3 3 rfl rfl)
theorem dX1_layRows_77 : decode cX1_layRows 77 = .ok (.iconst 1, 1) := dk_4 (dk_at dksX1_layRows_3 6 rfl rfl)
theorem dX1_layRows_78 : decode cX1_layRows 78 = .ok (.goto 4, 3) := dk_167 0 4 (dk_at dksX1_layRows_3 7 rfl rfl)
theorem dX1_layRows_81 : decode cX1_layRows 81 = .ok (.iconst 0, 1) := dk_3 (dk_at dksX1_layRows_3 10 rfl rfl)
theorem dX1_layRows_82 : decode cX1_layRows 82 = .ok (.istore 5, 2) := dk_54 5 (dk_at dksX1_layRows_3 11 rfl rfl)
theorem dX1_layRows_84 : decode cX1_layRows 84 = .ok (.iload_n 3, 1) := dk_29 (dk_at dksX1_layRows_3 13 rfl rfl)
theorem dX1_layRows_85 : decode cX1_layRows 85 = .ok (.bipush 10, 2) := dk_16 10 (dk_at dksX1_layRows_3 14 rfl rfl)
theorem dX1_layRows_87 : decode cX1_layRows 87 = .ok (.idiv, 1) := dk_108 (dk_at dksX1_layRows_3 16 rfl rfl)
theorem dX1_layRows_88 : decode cX1_layRows 88 = .ok (.istore_n 3, 1) := dk_62 (dk_at dksX1_layRows_3 17 rfl rfl)
theorem dX1_layRows_89 : decode cX1_layRows 89 = .ok (.iinc 6 (-1), 3) := dk_132 6 255 (dk_at dksX1_layRows_3 18 rfl rfl)
theorem dX1_layRows_92 : decode cX1_layRows 92 = .ok (.goto (-61), 3) := dk_167 255 195 (dk_at dksX1_layRows_3 21 rfl rfl)
theorem dX1_layRows_95 : decode cX1_layRows 95 = .ok (.iload 5, 2) := dk_21 5 (dk_at dksX1_layRows_4 0 rfl rfl)
theorem dX1_layRows_97 : decode cX1_layRows 97 = .ok (.ifCond .eq 10, 3) := dk_153 0 10 (dk_at dksX1_layRows_4 2 rfl rfl)
theorem dX1_layRows_100 : decode cX1_layRows 100 = .ok (.iload 4, 2) := dk_21 4 (dk_at dksX1_layRows_4 5 rfl rfl)
theorem dX1_layRows_102 : decode cX1_layRows 102 = .ok (.bipush 6, 2) := dk_16 6 (dk_at dksX1_layRows_4 7 rfl rfl)
theorem dX1_layRows_104 : decode cX1_layRows 104 = .ok (.if_icmp .eq 5, 3) := dk_159 0 5 (dk_at dksX1_layRows_4 9 rfl rfl)
theorem dX1_layRows_107 : decode cX1_layRows 107 = .ok (.iconst 0, 1) := dk_3 (dk_at dksX1_layRows_4 12 rfl rfl)
theorem dX1_layRows_108 : decode cX1_layRows 108 = .ok (.ireturn, 1) := dk_172 (dk_at dksX1_layRows_4 13 rfl rfl)
theorem dX1_layRows_109 : decode cX1_layRows 109 = .ok (.aload_n 0, 1) := dk_42 (dk_at dksX1_layRows_4 14 rfl rfl)
theorem dX1_layRows_110 : decode cX1_layRows 110 = .ok (.iconst 0, 1) := dk_3 (dk_at dksX1_layRows_4 15 rfl rfl)
theorem dX1_layRows_111 : decode cX1_layRows 111 = .ok (.putfield 532, 3) := dk_181 2 20 (dk_at dksX1_layRows_4 16 rfl rfl)
theorem dX1_layRows_114 : decode cX1_layRows 114 = .ok (.aload_n 0, 1) := dk_42 (dk_at dksX1_layRows_4 19 rfl rfl)
theorem dX1_layRows_115 : decode cX1_layRows 115 = .ok (.iload_n 2, 1) := dk_28 (dk_at dksX1_layRows_4 20 rfl rfl)
theorem dX1_layRows_116 : decode cX1_layRows 116 = .ok (.putfield 535, 3) := dk_181 2 23 (dk_at dksX1_layRows_4 21 rfl rfl)
theorem dX1_layRows_119 : decode cX1_layRows 119 = .ok (.aload_n 0, 1) := dk_42 (dk_at dksX1_layRows_5 0 rfl rfl)
theorem dX1_layRows_120 : decode cX1_layRows 120 = .ok (.iconst (-1), 1) := dk_2 (dk_at dksX1_layRows_5 1 rfl rfl)
theorem dX1_layRows_121 : decode cX1_layRows 121 = .ok (.putfield 538, 3) := dk_181 2 26 (dk_at dksX1_layRows_5 2 rfl rfl)
theorem dX1_layRows_124 : decode cX1_layRows 124 = .ok (.aload_n 0, 1) := dk_42 (dk_at dksX1_layRows_5 5 rfl rfl)
theorem dX1_layRows_125 : decode cX1_layRows 125 = .ok (.iconst 0, 1) := dk_3 (dk_at dksX1_layRows_5 6 rfl rfl)
theorem dX1_layRows_126 : decode cX1_layRows 126 = .ok (.iconst 0, 1) := dk_3 (dk_at dksX1_layRows_5 7 rfl rfl)
theorem dX1_layRows_127 : decode cX1_layRows 127 = .ok (.invokevirtual 544, 3) := dk_182 2 32 (dk_at dksX1_layRows_5 8 rfl rfl)
theorem dX1_layRows_130 : decode cX1_layRows 130 = .ok (.iconst 1, 1) := dk_4 (dk_at dksX1_layRows_5 11 rfl rfl)
theorem dX1_layRows_131 : decode cX1_layRows 131 = .ok (.ireturn, 1) := dk_172 (dk_at dksX1_layRows_5 12 rfl rfl)
abbrev cX1_tryRows : ByteArray := prog_1_method_117_code
def yX1_tryRows : MethodName := ⟨RX1, "tryRows", "(II)V"⟩
def dkwX1_tryRows_6 : List UInt8 := [29, 96, 182, 2, 32, 42, 180, 0, 86, 29, 92, 46, 4, 96, 79, 132, 3, 1, 167, 255, 184, 177]
abbrev dktX1_tryRows_6 : List UInt8 := dkwX1_tryRows_6 ++ []
def dkwX1_tryRows_5 : List UInt8 := [180, 0, 86, 29, 92, 46, 4, 100, 79, 42, 180, 0, 89, 27, 29, 79, 42, 27, 4, 96, 16, 10, 28, 104]
abbrev dktX1_tryRows_5 : List UInt8 := dkwX1_tryRows_5 ++ dktX1_tryRows_6
def dkwX1_tryRows_4 : List UInt8 := [42, 180, 0, 86, 29, 46, 153, 0, 55, 42, 27, 29, 182, 2, 29, 154, 0, 6, 167, 0, 43, 42]
abbrev dktX1_tryRows_4 : List UInt8 := dkwX1_tryRows_4 ++ dktX1_tryRows_5
def dkwX1_tryRows_3 : List UInt8 := [167, 255, 209, 42, 89, 180, 2, 20, 4, 96, 181, 2, 20, 177, 3, 62, 29, 42, 180, 1, 68, 162, 0, 70]
abbrev dktX1_tryRows_3 : List UInt8 := dkwX1_tryRows_3 ++ dktX1_tryRows_4
def dkwX1_tryRows_2 : List UInt8 := [42, 180, 0, 89, 29, 46, 160, 0, 12, 42, 180, 0, 89, 29, 46, 167, 0, 4, 2, 79, 132, 3, 1]
abbrev dktX1_tryRows_2 : List UInt8 := dkwX1_tryRows_2 ++ dktX1_tryRows_3
def dkwX1_tryRows_1 : List UInt8 := [29, 16, 6, 162, 0, 47, 42, 180, 0, 92, 29, 42, 180, 2, 20, 153, 0, 18, 42, 180, 0, 92, 29, 46]
abbrev dktX1_tryRows_1 : List UInt8 := dkwX1_tryRows_1 ++ dktX1_tryRows_2
def dkwX1_tryRows_0 : List UInt8 := [27, 16, 6, 160, 0, 82, 42, 180, 2, 20, 42, 180, 2, 23, 160, 0, 8, 42, 28, 181, 2, 26, 3, 62]
abbrev dktX1_tryRows_0 : List UInt8 := dkwX1_tryRows_0 ++ dktX1_tryRows_1
theorem dksX1_tryRows_0 : cX1_tryRows.data.toList.drop 0 = dktX1_tryRows_0 := by decide +kernel
theorem dksX1_tryRows_1 : cX1_tryRows.data.toList.drop 24 = dktX1_tryRows_1 := dk_seg dksX1_tryRows_0 24 rfl rfl
theorem dksX1_tryRows_2 : cX1_tryRows.data.toList.drop 48 = dktX1_tryRows_2 := dk_seg dksX1_tryRows_1 24 rfl rfl
theorem dksX1_tryRows_3 : cX1_tryRows.data.toList.drop 71 = dktX1_tryRows_3 := dk_seg dksX1_tryRows_2 23 rfl rfl
theorem dksX1_tryRows_4 : cX1_tryRows.data.toList.drop 95 = dktX1_tryRows_4 := dk_seg dksX1_tryRows_3 24 rfl rfl
theorem dksX1_tryRows_5 : cX1_tryRows.data.toList.drop 117 = dktX1_tryRows_5 := dk_seg dksX1_tryRows_4 22 rfl rfl
theorem dksX1_tryRows_6 : cX1_tryRows.data.toList.drop 141 = dktX1_tryRows_6 := dk_seg dksX1_tryRows_5 24 rfl rfl
theorem dX1_tryRows_0 : decode cX1_tryRows 0 = .ok (.iload_n 1, 1) := dk_27 (dk_at dksX1_tryRows_0 0 rfl rfl)
theorem dX1_tryRows_1 : decode cX1_tryRows 1 = .ok (.bipush 6, 2) := dk_16 6 (dk_at dksX1_tryRows_0 1 rfl rfl)
theorem dX1_tryRows_3 : decode cX1_tryRows 3 = .ok (.if_icmp .ne 82, 3) := dk_160 0 82 (dk_at dksX1_tryRows_0 3 rfl rfl)
theorem dX1_tryRows_6 : decode cX1_tryRows 6 = .ok (.aload_n 0, 1) := dk_42 (dk_at dksX1_tryRows_0 6 rfl rfl)
theorem dX1_tryRows_7 : decode cX1_tryRows 7 = .ok (.getfield 532, 3) := dk_180 2 20 (dk_at dksX1_tryRows_0 7 rfl rfl)
theorem dX1_tryRows_10 : decode cX1_tryRows 10 = .ok (.aload_n 0, 1) := dk_42 (dk_at dksX1_tryRows_0 10 rfl rfl)
theorem dX1_tryRows_11 : decode cX1_tryRows 11 = .ok (.getfield 535, 3) := dk_180 2 23 (dk_at dksX1_tryRows_0 11 rfl rfl)
theorem dX1_tryRows_14 : decode cX1_tryRows 14 = .ok (.if_icmp .ne 8, 3) := dk_160 0 8 (dk_at dksX1_tryRows_0 14 rfl rfl)
theorem dX1_tryRows_17 : decode cX1_tryRows 17 = .ok (.aload_n 0, 1) := dk_42 (dk_at dksX1_tryRows_0 17 rfl rfl)
theorem dX1_tryRows_18 : decode cX1_tryRows 18 = .ok (.iload_n 2, 1) := dk_28 (dk_at dksX1_tryRows_0 18 rfl rfl)
theorem dX1_tryRows_19 : decode cX1_tryRows 19 = .ok (.putfield 538, 3) := dk_181 2 26 (dk_at dksX1_tryRows_0 19 rfl rfl)
theorem dX1_tryRows_22 : decode cX1_tryRows 22 = .ok (.iconst 0, 1) := dk_3 (dk_at dksX1_tryRows_0 22 rfl rfl)
theorem dX1_tryRows_23 : decode cX1_tryRows 23 = .ok (.istore_n 3, 1) := dk_62 (dk_at dksX1_tryRows_0 23 rfl rfl)
theorem dX1_tryRows_24 : decode cX1_tryRows 24 = .ok (.iload_n 3, 1) := dk_29 (dk_at dksX1_tryRows_1 0 rfl rfl)
theorem dX1_tryRows_25 : decode cX1_tryRows 25 = .ok (.bipush 6, 2) := dk_16 6 (dk_at dksX1_tryRows_1 1 rfl rfl)
theorem dX1_tryRows_27 : decode cX1_tryRows 27 = .ok (.if_icmp .ge 47, 3) := dk_162 0 47 (dk_at dksX1_tryRows_1 3 rfl rfl)
theorem dX1_tryRows_30 : decode cX1_tryRows 30 = .ok (.aload_n 0, 1) := dk_42 (dk_at dksX1_tryRows_1 6 rfl rfl)
theorem dX1_tryRows_31 : decode cX1_tryRows 31 = .ok (.getfield 92, 3) := dk_180 0 92 (dk_at dksX1_tryRows_1 7 rfl rfl)
theorem dX1_tryRows_34 : decode cX1_tryRows 34 = .ok (.iload_n 3, 1) := dk_29 (dk_at dksX1_tryRows_1 10 rfl rfl)
theorem dX1_tryRows_35 : decode cX1_tryRows 35 = .ok (.aload_n 0, 1) := dk_42 (dk_at dksX1_tryRows_1 11 rfl rfl)
theorem dX1_tryRows_36 : decode cX1_tryRows 36 = .ok (.getfield 532, 3) := dk_180 2 20 (dk_at dksX1_tryRows_1 12 rfl rfl)
theorem dX1_tryRows_39 : decode cX1_tryRows 39 = .ok (.ifCond .eq 18, 3) := dk_153 0 18 (dk_at dksX1_tryRows_1 15 rfl rfl)
theorem dX1_tryRows_42 : decode cX1_tryRows 42 = .ok (.aload_n 0, 1) := dk_42 (dk_at dksX1_tryRows_1 18 rfl rfl)
theorem dX1_tryRows_43 : decode cX1_tryRows 43 = .ok (.getfield 92, 3) := dk_180 0 92 (dk_at dksX1_tryRows_1 19 rfl rfl)
theorem dX1_tryRows_46 : decode cX1_tryRows 46 = .ok (.iload_n 3, 1) := dk_29 (dk_at dksX1_tryRows_1 22 rfl rfl)
theorem dX1_tryRows_47 : decode cX1_tryRows 47 = .ok (.iaload, 1) := dk_46 (dk_at dksX1_tryRows_1 23 rfl rfl)
theorem dX1_tryRows_48 : decode cX1_tryRows 48 = .ok (.aload_n 0, 1) := dk_42 (dk_at dksX1_tryRows_2 0 rfl rfl)
theorem dX1_tryRows_49 : decode cX1_tryRows 49 = .ok (.getfield 89, 3) := dk_180 0 89 (dk_at dksX1_tryRows_2 1 rfl rfl)
theorem dX1_tryRows_52 : decode cX1_tryRows 52 = .ok (.iload_n 3, 1) := dk_29 (dk_at dksX1_tryRows_2 4 rfl rfl)
theorem dX1_tryRows_53 : decode cX1_tryRows 53 = .ok (.iaload, 1) := dk_46 (dk_at dksX1_tryRows_2 5 rfl rfl)
theorem dX1_tryRows_54 : decode cX1_tryRows 54 = .ok (.if_icmp .ne 12, 3) := dk_160 0 12 (dk_at dksX1_tryRows_2 6 rfl rfl)
theorem dX1_tryRows_57 : decode cX1_tryRows 57 = .ok (.aload_n 0, 1) := dk_42 (dk_at dksX1_tryRows_2 9 rfl rfl)
theorem dX1_tryRows_58 : decode cX1_tryRows 58 = .ok (.getfield 89, 3) := dk_180 0 89 (dk_at dksX1_tryRows_2 10 rfl rfl)
theorem dX1_tryRows_61 : decode cX1_tryRows 61 = .ok (.iload_n 3, 1) := dk_29 (dk_at dksX1_tryRows_2 13 rfl rfl)
theorem dX1_tryRows_62 : decode cX1_tryRows 62 = .ok (.iaload, 1) := dk_46 (dk_at dksX1_tryRows_2 14 rfl rfl)
theorem dX1_tryRows_63 : decode cX1_tryRows 63 = .ok (.goto 4, 3) := dk_167 0 4 (dk_at dksX1_tryRows_2 15 rfl rfl)
theorem dX1_tryRows_66 : decode cX1_tryRows 66 = .ok (.iconst (-1), 1) := dk_2 (dk_at dksX1_tryRows_2 18 rfl rfl)
theorem dX1_tryRows_67 : decode cX1_tryRows 67 = .ok (.iastore, 1) := dk_79 (dk_at dksX1_tryRows_2 19 rfl rfl)
theorem dX1_tryRows_68 : decode cX1_tryRows 68 = .ok (.iinc 3 1, 3) := dk_132 3 1 (dk_at dksX1_tryRows_2 20 rfl rfl)
theorem dX1_tryRows_71 : decode cX1_tryRows 71 = .ok (.goto (-47), 3) := dk_167 255 209 (dk_at dksX1_tryRows_3 0 rfl rfl)
theorem dX1_tryRows_74 : decode cX1_tryRows 74 = .ok (.aload_n 0, 1) := dk_42 (dk_at dksX1_tryRows_3 3 rfl rfl)
theorem dX1_tryRows_75 : decode cX1_tryRows 75 = .ok (.dup, 1) := dk_89 (dk_at dksX1_tryRows_3 4 rfl rfl)
theorem dX1_tryRows_76 : decode cX1_tryRows 76 = .ok (.getfield 532, 3) := dk_180 2 20 (dk_at dksX1_tryRows_3 5 rfl rfl)
theorem dX1_tryRows_79 : decode cX1_tryRows 79 = .ok (.iconst 1, 1) := dk_4 (dk_at dksX1_tryRows_3 8 rfl rfl)
theorem dX1_tryRows_80 : decode cX1_tryRows 80 = .ok (.iadd, 1) := dk_96 (dk_at dksX1_tryRows_3 9 rfl rfl)
theorem dX1_tryRows_81 : decode cX1_tryRows 81 = .ok (.putfield 532, 3) := dk_181 2 20 (dk_at dksX1_tryRows_3 10 rfl rfl)
theorem dX1_tryRows_84 : decode cX1_tryRows 84 = .ok (.return_, 1) := dk_177 (dk_at dksX1_tryRows_3 13 rfl rfl)
theorem dX1_tryRows_85 : decode cX1_tryRows 85 = .ok (.iconst 0, 1) := dk_3 (dk_at dksX1_tryRows_3 14 rfl rfl)
theorem dX1_tryRows_86 : decode cX1_tryRows 86 = .ok (.istore_n 3, 1) := dk_62 (dk_at dksX1_tryRows_3 15 rfl rfl)
theorem dX1_tryRows_87 : decode cX1_tryRows 87 = .ok (.iload_n 3, 1) := dk_29 (dk_at dksX1_tryRows_3 16 rfl rfl)
theorem dX1_tryRows_88 : decode cX1_tryRows 88 = .ok (.aload_n 0, 1) := dk_42 (dk_at dksX1_tryRows_3 17 rfl rfl)
theorem dX1_tryRows_89 : decode cX1_tryRows 89 = .ok (.getfield 324, 3) := dk_180 1 68 (dk_at dksX1_tryRows_3 18 rfl rfl)
theorem dX1_tryRows_92 : decode cX1_tryRows 92 = .ok (.if_icmp .ge 70, 3) := dk_162 0 70 (dk_at dksX1_tryRows_3 21 rfl rfl)
theorem dX1_tryRows_95 : decode cX1_tryRows 95 = .ok (.aload_n 0, 1) := dk_42 (dk_at dksX1_tryRows_4 0 rfl rfl)
theorem dX1_tryRows_96 : decode cX1_tryRows 96 = .ok (.getfield 86, 3) := dk_180 0 86 (dk_at dksX1_tryRows_4 1 rfl rfl)
theorem dX1_tryRows_99 : decode cX1_tryRows 99 = .ok (.iload_n 3, 1) := dk_29 (dk_at dksX1_tryRows_4 4 rfl rfl)
theorem dX1_tryRows_100 : decode cX1_tryRows 100 = .ok (.iaload, 1) := dk_46 (dk_at dksX1_tryRows_4 5 rfl rfl)
theorem dX1_tryRows_101 : decode cX1_tryRows 101 = .ok (.ifCond .eq 55, 3) := dk_153 0 55 (dk_at dksX1_tryRows_4 6 rfl rfl)
theorem dX1_tryRows_104 : decode cX1_tryRows 104 = .ok (.aload_n 0, 1) := dk_42 (dk_at dksX1_tryRows_4 9 rfl rfl)
theorem dX1_tryRows_105 : decode cX1_tryRows 105 = .ok (.iload_n 1, 1) := dk_27 (dk_at dksX1_tryRows_4 10 rfl rfl)
theorem dX1_tryRows_106 : decode cX1_tryRows 106 = .ok (.iload_n 3, 1) := dk_29 (dk_at dksX1_tryRows_4 11 rfl rfl)
theorem dX1_tryRows_107 : decode cX1_tryRows 107 = .ok (.invokevirtual 541, 3) := dk_182 2 29 (dk_at dksX1_tryRows_4 12 rfl rfl)
theorem dX1_tryRows_110 : decode cX1_tryRows 110 = .ok (.ifCond .ne 6, 3) := dk_154 0 6 (dk_at dksX1_tryRows_4 15 rfl rfl)
theorem dX1_tryRows_113 : decode cX1_tryRows 113 = .ok (.goto 43, 3) := dk_167 0 43 (dk_at dksX1_tryRows_4 18 rfl rfl)
theorem dX1_tryRows_116 : decode cX1_tryRows 116 = .ok (.aload_n 0, 1) := dk_42 (dk_at dksX1_tryRows_4 21 rfl rfl)
theorem dX1_tryRows_117 : decode cX1_tryRows 117 = .ok (.getfield 86, 3) := dk_180 0 86 (dk_at dksX1_tryRows_5 0 rfl rfl)
theorem dX1_tryRows_120 : decode cX1_tryRows 120 = .ok (.iload_n 3, 1) := dk_29 (dk_at dksX1_tryRows_5 3 rfl rfl)
theorem dX1_tryRows_121 : decode cX1_tryRows 121 = .ok (.dup2, 1) := dk_92 (dk_at dksX1_tryRows_5 4 rfl rfl)
theorem dX1_tryRows_122 : decode cX1_tryRows 122 = .ok (.iaload, 1) := dk_46 (dk_at dksX1_tryRows_5 5 rfl rfl)
theorem dX1_tryRows_123 : decode cX1_tryRows 123 = .ok (.iconst 1, 1) := dk_4 (dk_at dksX1_tryRows_5 6 rfl rfl)
theorem dX1_tryRows_124 : decode cX1_tryRows 124 = .ok (.isub, 1) := dk_100 (dk_at dksX1_tryRows_5 7 rfl rfl)
theorem dX1_tryRows_125 : decode cX1_tryRows 125 = .ok (.iastore, 1) := dk_79 (dk_at dksX1_tryRows_5 8 rfl rfl)
theorem dX1_tryRows_126 : decode cX1_tryRows 126 = .ok (.aload_n 0, 1) := dk_42 (dk_at dksX1_tryRows_5 9 rfl rfl)
theorem dX1_tryRows_127 : decode cX1_tryRows 127 = .ok (.getfield 89, 3) := dk_180 0 89 (dk_at dksX1_tryRows_5 10 rfl rfl)
theorem dX1_tryRows_130 : decode cX1_tryRows 130 = .ok (.iload_n 1, 1) := dk_27 (dk_at dksX1_tryRows_5 13 rfl rfl)
theorem dX1_tryRows_131 : decode cX1_tryRows 131 = .ok (.iload_n 3, 1) := dk_29 (dk_at dksX1_tryRows_5 14 rfl rfl)
theorem dX1_tryRows_132 : decode cX1_tryRows 132 = .ok (.iastore, 1) := dk_79 (dk_at dksX1_tryRows_5 15 rfl rfl)
theorem dX1_tryRows_133 : decode cX1_tryRows 133 = .ok (.aload_n 0, 1) := dk_42 (dk_at dksX1_tryRows_5 16 rfl rfl)
theorem dX1_tryRows_134 : decode cX1_tryRows 134 = .ok (.iload_n 1, 1) := dk_27 (dk_at dksX1_tryRows_5 17 rfl rfl)
theorem dX1_tryRows_135 : decode cX1_tryRows 135 = .ok (.iconst 1, 1) := dk_4 (dk_at dksX1_tryRows_5 18 rfl rfl)
theorem dX1_tryRows_136 : decode cX1_tryRows 136 = .ok (.iadd, 1) := dk_96 (dk_at dksX1_tryRows_5 19 rfl rfl)
theorem dX1_tryRows_137 : decode cX1_tryRows 137 = .ok (.bipush 10, 2) := dk_16 10 (dk_at dksX1_tryRows_5 20 rfl rfl)
theorem dX1_tryRows_139 : decode cX1_tryRows 139 = .ok (.iload_n 2, 1) := dk_28 (dk_at dksX1_tryRows_5 22 rfl rfl)
theorem dX1_tryRows_140 : decode cX1_tryRows 140 = .ok (.imul, 1) := dk_104 (dk_at dksX1_tryRows_5 23 rfl rfl)
theorem dX1_tryRows_141 : decode cX1_tryRows 141 = .ok (.iload_n 3, 1) := dk_29 (dk_at dksX1_tryRows_6 0 rfl rfl)
theorem dX1_tryRows_142 : decode cX1_tryRows 142 = .ok (.iadd, 1) := dk_96 (dk_at dksX1_tryRows_6 1 rfl rfl)
theorem dX1_tryRows_143 : decode cX1_tryRows 143 = .ok (.invokevirtual 544, 3) := dk_182 2 32 (dk_at dksX1_tryRows_6 2 rfl rfl)
theorem dX1_tryRows_146 : decode cX1_tryRows 146 = .ok (.aload_n 0, 1) := dk_42 (dk_at dksX1_tryRows_6 5 rfl rfl)
theorem dX1_tryRows_147 : decode cX1_tryRows 147 = .ok (.getfield 86, 3) := dk_180 0 86 (dk_at dksX1_tryRows_6 6 rfl rfl)
theorem dX1_tryRows_150 : decode cX1_tryRows 150 = .ok (.iload_n 3, 1) := dk_29 (dk_at dksX1_tryRows_6 9 rfl rfl)
theorem dX1_tryRows_151 : decode cX1_tryRows 151 = .ok (.dup2, 1) := dk_92 (dk_at dksX1_tryRows_6 10 rfl rfl)
theorem dX1_tryRows_152 : decode cX1_tryRows 152 = .ok (.iaload, 1) := dk_46 (dk_at dksX1_tryRows_6 11 rfl rfl)
theorem dX1_tryRows_153 : decode cX1_tryRows 153 = .ok (.iconst 1, 1) := dk_4 (dk_at dksX1_tryRows_6 12 rfl rfl)
theorem dX1_tryRows_154 : decode cX1_tryRows 154 = .ok (.iadd, 1) := dk_96 (dk_at dksX1_tryRows_6 13 rfl rfl)
theorem dX1_tryRows_155 : decode cX1_tryRows 155 = .ok (.iastore, 1) := dk_79 (dk_at dksX1_tryRows_6 14 rfl rfl)
theorem dX1_tryRows_156 : decode cX1_tryRows 156 = .ok (.iinc 3 1, 3) := dk_132 3 1 (dk_at dksX1_tryRows_6 15 rfl rfl)
theorem dX1_tryRows_159 : decode cX1_tryRows 159 = .ok (.goto (-72), 3) := dk_167 255 184 (dk_at dksX1_tryRows_6 18 rfl rfl)
theorem dX1_tryRows_162 : decode cX1_tryRows 162 = .ok (.return_, 1) := dk_177 (dk_at dksX1_tryRows_6 21 rfl rfl)
abbrev cX1_mayBe : ByteArray := prog_1_method_116_code
def yX1_mayBe : MethodName := ⟨RX1, "mayBe", "(II)Z"⟩
def dkwX1_mayBe_2 : List UInt8 := [132, 3, 1, 167, 255, 209, 4, 172]
abbrev dktX1_mayBe_2 : List UInt8 := dkwX1_mayBe_2 ++ []
def dkwX1_mayBe_1 : List UInt8 := [29, 46, 28, 160, 0, 7, 4, 167, 0, 4, 3, 42, 180, 0, 82, 29, 51, 159, 0, 5, 3, 172]
abbrev dktX1_mayBe_1 : List UInt8 := dkwX1_mayBe_1 ++ dktX1_mayBe_2
def dkwX1_mayBe_0 : List UInt8 := [3, 62, 29, 42, 180, 1, 74, 162, 0, 45, 42, 180, 0, 76, 29, 46, 27, 160, 0, 29, 42, 180, 0, 79]
abbrev dktX1_mayBe_0 : List UInt8 := dkwX1_mayBe_0 ++ dktX1_mayBe_1
theorem dksX1_mayBe_0 : cX1_mayBe.data.toList.drop 0 = dktX1_mayBe_0 := by decide +kernel
theorem dksX1_mayBe_1 : cX1_mayBe.data.toList.drop 24 = dktX1_mayBe_1 := dk_seg dksX1_mayBe_0 24 rfl rfl
theorem dksX1_mayBe_2 : cX1_mayBe.data.toList.drop 46 = dktX1_mayBe_2 := dk_seg dksX1_mayBe_1 22 rfl rfl
theorem dX1_mayBe_0 : decode cX1_mayBe 0 = .ok (.iconst 0, 1) := dk_3 (dk_at dksX1_mayBe_0 0 rfl rfl)
theorem dX1_mayBe_1 : decode cX1_mayBe 1 = .ok (.istore_n 3, 1) := dk_62 (dk_at dksX1_mayBe_0 1 rfl rfl)
theorem dX1_mayBe_2 : decode cX1_mayBe 2 = .ok (.iload_n 3, 1) := dk_29 (dk_at dksX1_mayBe_0 2 rfl rfl)
theorem dX1_mayBe_3 : decode cX1_mayBe 3 = .ok (.aload_n 0, 1) := dk_42 (dk_at dksX1_mayBe_0 3 rfl rfl)
theorem dX1_mayBe_4 : decode cX1_mayBe 4 = .ok (.getfield 330, 3) := dk_180 1 74 (dk_at dksX1_mayBe_0 4 rfl rfl)
theorem dX1_mayBe_7 : decode cX1_mayBe 7 = .ok (.if_icmp .ge 45, 3) := dk_162 0 45 (dk_at dksX1_mayBe_0 7 rfl rfl)
theorem dX1_mayBe_10 : decode cX1_mayBe 10 = .ok (.aload_n 0, 1) := dk_42 (dk_at dksX1_mayBe_0 10 rfl rfl)
theorem dX1_mayBe_11 : decode cX1_mayBe 11 = .ok (.getfield 76, 3) := dk_180 0 76 (dk_at dksX1_mayBe_0 11 rfl rfl)
theorem dX1_mayBe_14 : decode cX1_mayBe 14 = .ok (.iload_n 3, 1) := dk_29 (dk_at dksX1_mayBe_0 14 rfl rfl)
theorem dX1_mayBe_15 : decode cX1_mayBe 15 = .ok (.iaload, 1) := dk_46 (dk_at dksX1_mayBe_0 15 rfl rfl)
theorem dX1_mayBe_16 : decode cX1_mayBe 16 = .ok (.iload_n 1, 1) := dk_27 (dk_at dksX1_mayBe_0 16 rfl rfl)
theorem dX1_mayBe_17 : decode cX1_mayBe 17 = .ok (.if_icmp .ne 29, 3) := dk_160 0 29 (dk_at dksX1_mayBe_0 17 rfl rfl)
theorem dX1_mayBe_20 : decode cX1_mayBe 20 = .ok (.aload_n 0, 1) := dk_42 (dk_at dksX1_mayBe_0 20 rfl rfl)
theorem dX1_mayBe_21 : decode cX1_mayBe 21 = .ok (.getfield 79, 3) := dk_180 0 79 (dk_at dksX1_mayBe_0 21 rfl rfl)
theorem dX1_mayBe_24 : decode cX1_mayBe 24 = .ok (.iload_n 3, 1) := dk_29 (dk_at dksX1_mayBe_1 0 rfl rfl)
theorem dX1_mayBe_25 : decode cX1_mayBe 25 = .ok (.iaload, 1) := dk_46 (dk_at dksX1_mayBe_1 1 rfl rfl)
theorem dX1_mayBe_26 : decode cX1_mayBe 26 = .ok (.iload_n 2, 1) := dk_28 (dk_at dksX1_mayBe_1 2 rfl rfl)
theorem dX1_mayBe_27 : decode cX1_mayBe 27 = .ok (.if_icmp .ne 7, 3) := dk_160 0 7 (dk_at dksX1_mayBe_1 3 rfl rfl)
theorem dX1_mayBe_30 : decode cX1_mayBe 30 = .ok (.iconst 1, 1) := dk_4 (dk_at dksX1_mayBe_1 6 rfl rfl)
theorem dX1_mayBe_31 : decode cX1_mayBe 31 = .ok (.goto 4, 3) := dk_167 0 4 (dk_at dksX1_mayBe_1 7 rfl rfl)
theorem dX1_mayBe_34 : decode cX1_mayBe 34 = .ok (.iconst 0, 1) := dk_3 (dk_at dksX1_mayBe_1 10 rfl rfl)
theorem dX1_mayBe_35 : decode cX1_mayBe 35 = .ok (.aload_n 0, 1) := dk_42 (dk_at dksX1_mayBe_1 11 rfl rfl)
theorem dX1_mayBe_36 : decode cX1_mayBe 36 = .ok (.getfield 82, 3) := dk_180 0 82 (dk_at dksX1_mayBe_1 12 rfl rfl)
theorem dX1_mayBe_39 : decode cX1_mayBe 39 = .ok (.iload_n 3, 1) := dk_29 (dk_at dksX1_mayBe_1 15 rfl rfl)
theorem dX1_mayBe_40 : decode cX1_mayBe 40 = .ok (.baload, 1) := dk_51 (dk_at dksX1_mayBe_1 16 rfl rfl)
theorem dX1_mayBe_41 : decode cX1_mayBe 41 = .ok (.if_icmp .eq 5, 3) := dk_159 0 5 (dk_at dksX1_mayBe_1 17 rfl rfl)
theorem dX1_mayBe_44 : decode cX1_mayBe 44 = .ok (.iconst 0, 1) := dk_3 (dk_at dksX1_mayBe_1 20 rfl rfl)
theorem dX1_mayBe_45 : decode cX1_mayBe 45 = .ok (.ireturn, 1) := dk_172 (dk_at dksX1_mayBe_1 21 rfl rfl)
theorem dX1_mayBe_46 : decode cX1_mayBe 46 = .ok (.iinc 3 1, 3) := dk_132 3 1 (dk_at dksX1_mayBe_2 0 rfl rfl)
theorem dX1_mayBe_49 : decode cX1_mayBe 49 = .ok (.goto (-47), 3) := dk_167 255 209 (dk_at dksX1_mayBe_2 3 rfl rfl)
theorem dX1_mayBe_52 : decode cX1_mayBe 52 = .ok (.iconst 1, 1) := dk_4 (dk_at dksX1_mayBe_2 6 rfl rfl)
theorem dX1_mayBe_53 : decode cX1_mayBe 53 = .ok (.ireturn, 1) := dk_172 (dk_at dksX1_mayBe_2 7 rfl rfl)
abbrev cX1_share : ByteArray := prog_1_method_120_code
def yX1_share : MethodName := ⟨RX1, "share", "(I)I"⟩
def dkwX1_share_2 : List UInt8 := [167, 255, 231, 28, 172]
abbrev dktX1_share_2 : List UInt8 := dkwX1_share_2 ++ []
def dkwX1_share_1 : List UInt8 := [16, 6, 162, 0, 25, 42, 180, 0, 92, 29, 46, 2, 159, 0, 9, 28, 4, 29, 120, 128, 61, 132, 3, 1]
abbrev dktX1_share_1 : List UInt8 := dkwX1_share_1 ++ dktX1_share_2
def dkwX1_share_0 : List UInt8 := [42, 27, 2, 182, 2, 37, 153, 0, 10, 42, 180, 2, 20, 154, 0, 5, 2, 172, 3, 61, 3, 62, 29]
abbrev dktX1_share_0 : List UInt8 := dkwX1_share_0 ++ dktX1_share_1
theorem dksX1_share_0 : cX1_share.data.toList.drop 0 = dktX1_share_0 := by decide +kernel
theorem dksX1_share_1 : cX1_share.data.toList.drop 23 = dktX1_share_1 := dk_seg dksX1_share_0 23 rfl rfl
theorem dksX1_share_2 : cX1_share.data.toList.drop 47 = dktX1_share_2 := dk_seg dksX1_share_1 24 rfl rfl
theorem dX1_share_0 : decode cX1_share 0 = .ok (.aload_n 0, 1) := dk_42 (dk_at dksX1_share_0 0 rfl rfl)
theorem dX1_share_1 : decode cX1_share 1 = .ok (.iload_n 1, 1) := dk_27 (dk_at dksX1_share_0 1 rfl rfl)
theorem dX1_share_2 : decode cX1_share 2 = .ok (.iconst (-1), 1) := dk_2 (dk_at dksX1_share_0 2 rfl rfl)
theorem dX1_share_3 : decode cX1_share 3 = .ok (.invokevirtual 549, 3) := dk_182 2 37 (dk_at dksX1_share_0 3 rfl rfl)
theorem dX1_share_6 : decode cX1_share 6 = .ok (.ifCond .eq 10, 3) := dk_153 0 10 (dk_at dksX1_share_0 6 rfl rfl)
theorem dX1_share_9 : decode cX1_share 9 = .ok (.aload_n 0, 1) := dk_42 (dk_at dksX1_share_0 9 rfl rfl)
theorem dX1_share_10 : decode cX1_share 10 = .ok (.getfield 532, 3) := dk_180 2 20 (dk_at dksX1_share_0 10 rfl rfl)
theorem dX1_share_13 : decode cX1_share 13 = .ok (.ifCond .ne 5, 3) := dk_154 0 5 (dk_at dksX1_share_0 13 rfl rfl)
theorem dX1_share_16 : decode cX1_share 16 = .ok (.iconst (-1), 1) := dk_2 (dk_at dksX1_share_0 16 rfl rfl)
theorem dX1_share_17 : decode cX1_share 17 = .ok (.ireturn, 1) := dk_172 (dk_at dksX1_share_0 17 rfl rfl)
theorem dX1_share_18 : decode cX1_share 18 = .ok (.iconst 0, 1) := dk_3 (dk_at dksX1_share_0 18 rfl rfl)
theorem dX1_share_19 : decode cX1_share 19 = .ok (.istore_n 2, 1) := dk_61 (dk_at dksX1_share_0 19 rfl rfl)
theorem dX1_share_20 : decode cX1_share 20 = .ok (.iconst 0, 1) := dk_3 (dk_at dksX1_share_0 20 rfl rfl)
theorem dX1_share_21 : decode cX1_share 21 = .ok (.istore_n 3, 1) := dk_62 (dk_at dksX1_share_0 21 rfl rfl)
theorem dX1_share_22 : decode cX1_share 22 = .ok (.iload_n 3, 1) := dk_29 (dk_at dksX1_share_0 22 rfl rfl)
theorem dX1_share_23 : decode cX1_share 23 = .ok (.bipush 6, 2) := dk_16 6 (dk_at dksX1_share_1 0 rfl rfl)
theorem dX1_share_25 : decode cX1_share 25 = .ok (.if_icmp .ge 25, 3) := dk_162 0 25 (dk_at dksX1_share_1 2 rfl rfl)
theorem dX1_share_28 : decode cX1_share 28 = .ok (.aload_n 0, 1) := dk_42 (dk_at dksX1_share_1 5 rfl rfl)
theorem dX1_share_29 : decode cX1_share 29 = .ok (.getfield 92, 3) := dk_180 0 92 (dk_at dksX1_share_1 6 rfl rfl)
theorem dX1_share_32 : decode cX1_share 32 = .ok (.iload_n 3, 1) := dk_29 (dk_at dksX1_share_1 9 rfl rfl)
theorem dX1_share_33 : decode cX1_share 33 = .ok (.iaload, 1) := dk_46 (dk_at dksX1_share_1 10 rfl rfl)
theorem dX1_share_34 : decode cX1_share 34 = .ok (.iconst (-1), 1) := dk_2 (dk_at dksX1_share_1 11 rfl rfl)
theorem dX1_share_35 : decode cX1_share 35 = .ok (.if_icmp .eq 9, 3) := dk_159 0 9 (dk_at dksX1_share_1 12 rfl rfl)
theorem dX1_share_38 : decode cX1_share 38 = .ok (.iload_n 2, 1) := dk_28 (dk_at dksX1_share_1 15 rfl rfl)
theorem dX1_share_39 : decode cX1_share 39 = .ok (.iconst 1, 1) := dk_4 (dk_at dksX1_share_1 16 rfl rfl)
theorem dX1_share_40 : decode cX1_share 40 = .ok (.iload_n 3, 1) := dk_29 (dk_at dksX1_share_1 17 rfl rfl)
theorem dX1_share_41 : decode cX1_share 41 = .ok (.ishl, 1) := dk_120 (dk_at dksX1_share_1 18 rfl rfl)
theorem dX1_share_42 : decode cX1_share 42 = .ok (.ior, 1) := dk_128 (dk_at dksX1_share_1 19 rfl rfl)
theorem dX1_share_43 : decode cX1_share 43 = .ok (.istore_n 2, 1) := dk_61 (dk_at dksX1_share_1 20 rfl rfl)
theorem dX1_share_44 : decode cX1_share 44 = .ok (.iinc 3 1, 3) := dk_132 3 1 (dk_at dksX1_share_1 21 rfl rfl)
theorem dX1_share_47 : decode cX1_share 47 = .ok (.goto (-25), 3) := dk_167 255 231 (dk_at dksX1_share_2 0 rfl rfl)
theorem dX1_share_50 : decode cX1_share 50 = .ok (.iload_n 2, 1) := dk_28 (dk_at dksX1_share_2 3 rfl rfl)
theorem dX1_share_51 : decode cX1_share 51 = .ok (.ireturn, 1) := dk_172 (dk_at dksX1_share_2 4 rfl rfl)
abbrev cX1_lot : ByteArray := prog_1_method_121_code
def yX1_lot : MethodName := ⟨RX1, "lot", "(I)I"⟩
def dkwX1_lot_5 : List UInt8 := [167, 0, 4, 29, 172]
abbrev dktX1_lot_5 : List UInt8 := dkwX1_lot_5 ++ []
def dkwX1_lot_4 : List UInt8 := [167, 255, 221, 28, 21, 5, 96, 61, 132, 3, 1, 132, 4, 1, 167, 255, 178, 27, 154, 0, 7, 28]
abbrev dktX1_lot_4 : List UInt8 := dkwX1_lot_4 ++ dktX1_lot_5
def dkwX1_lot_3 : List UInt8 := [184, 1, 7, 153, 0, 16, 21, 5, 42, 21, 6, 182, 1, 125, 184, 1, 104, 54, 5, 132, 6, 1]
abbrev dktX1_lot_3 : List UInt8 := dkwX1_lot_3 ++ dktX1_lot_4
def dkwX1_lot_2 : List UInt8 := [167, 0, 55, 3, 54, 5, 3, 54, 6, 21, 6, 42, 182, 1, 84, 162, 0, 32, 21, 4, 21, 6]
abbrev dktX1_lot_2 : List UInt8 := dkwX1_lot_2 ++ dktX1_lot_3
def dkwX1_lot_1 : List UInt8 := [54, 4, 21, 4, 4, 42, 182, 1, 84, 120, 162, 0, 73, 21, 4, 184, 1, 225, 6, 159, 0, 6]
abbrev dktX1_lot_1 : List UInt8 := dkwX1_lot_1 ++ dktX1_lot_2
def dkwX1_lot_0 : List UInt8 := [42, 182, 1, 128, 153, 0, 12, 27, 3, 4, 184, 0, 246, 154, 0, 5, 2, 172, 3, 61, 3, 62, 3]
abbrev dktX1_lot_0 : List UInt8 := dkwX1_lot_0 ++ dktX1_lot_1
theorem dksX1_lot_0 : cX1_lot.data.toList.drop 0 = dktX1_lot_0 := by decide +kernel
theorem dksX1_lot_1 : cX1_lot.data.toList.drop 23 = dktX1_lot_1 := dk_seg dksX1_lot_0 23 rfl rfl
theorem dksX1_lot_2 : cX1_lot.data.toList.drop 45 = dktX1_lot_2 := dk_seg dksX1_lot_1 22 rfl rfl
theorem dksX1_lot_3 : cX1_lot.data.toList.drop 67 = dktX1_lot_3 := dk_seg dksX1_lot_2 22 rfl rfl
theorem dksX1_lot_4 : cX1_lot.data.toList.drop 89 = dktX1_lot_4 := dk_seg dksX1_lot_3 22 rfl rfl
theorem dksX1_lot_5 : cX1_lot.data.toList.drop 111 = dktX1_lot_5 := dk_seg dksX1_lot_4 22 rfl rfl
theorem dX1_lot_0 : decode cX1_lot 0 = .ok (.aload_n 0, 1) := dk_42 (dk_at dksX1_lot_0 0 rfl rfl)
theorem dX1_lot_1 : decode cX1_lot 1 = .ok (.invokevirtual 384, 3) := dk_182 1 128 (dk_at dksX1_lot_0 1 rfl rfl)
theorem dX1_lot_4 : decode cX1_lot 4 = .ok (.ifCond .eq 12, 3) := dk_153 0 12 (dk_at dksX1_lot_0 4 rfl rfl)
theorem dX1_lot_7 : decode cX1_lot 7 = .ok (.iload_n 1, 1) := dk_27 (dk_at dksX1_lot_0 7 rfl rfl)
theorem dX1_lot_8 : decode cX1_lot 8 = .ok (.iconst 0, 1) := dk_3 (dk_at dksX1_lot_0 8 rfl rfl)
theorem dX1_lot_9 : decode cX1_lot 9 = .ok (.iconst 1, 1) := dk_4 (dk_at dksX1_lot_0 9 rfl rfl)
theorem dX1_lot_10 : decode cX1_lot 10 = .ok (.invokestatic 246, 3) := dk_184 0 246 (dk_at dksX1_lot_0 10 rfl rfl)
theorem dX1_lot_13 : decode cX1_lot 13 = .ok (.ifCond .ne 5, 3) := dk_154 0 5 (dk_at dksX1_lot_0 13 rfl rfl)
theorem dX1_lot_16 : decode cX1_lot 16 = .ok (.iconst (-1), 1) := dk_2 (dk_at dksX1_lot_0 16 rfl rfl)
theorem dX1_lot_17 : decode cX1_lot 17 = .ok (.ireturn, 1) := dk_172 (dk_at dksX1_lot_0 17 rfl rfl)
theorem dX1_lot_18 : decode cX1_lot 18 = .ok (.iconst 0, 1) := dk_3 (dk_at dksX1_lot_0 18 rfl rfl)
theorem dX1_lot_19 : decode cX1_lot 19 = .ok (.istore_n 2, 1) := dk_61 (dk_at dksX1_lot_0 19 rfl rfl)
theorem dX1_lot_20 : decode cX1_lot 20 = .ok (.iconst 0, 1) := dk_3 (dk_at dksX1_lot_0 20 rfl rfl)
theorem dX1_lot_21 : decode cX1_lot 21 = .ok (.istore_n 3, 1) := dk_62 (dk_at dksX1_lot_0 21 rfl rfl)
theorem dX1_lot_22 : decode cX1_lot 22 = .ok (.iconst 0, 1) := dk_3 (dk_at dksX1_lot_0 22 rfl rfl)
theorem dX1_lot_23 : decode cX1_lot 23 = .ok (.istore 4, 2) := dk_54 4 (dk_at dksX1_lot_1 0 rfl rfl)
theorem dX1_lot_25 : decode cX1_lot 25 = .ok (.iload 4, 2) := dk_21 4 (dk_at dksX1_lot_1 2 rfl rfl)
theorem dX1_lot_27 : decode cX1_lot 27 = .ok (.iconst 1, 1) := dk_4 (dk_at dksX1_lot_1 4 rfl rfl)
theorem dX1_lot_28 : decode cX1_lot 28 = .ok (.aload_n 0, 1) := dk_42 (dk_at dksX1_lot_1 5 rfl rfl)
theorem dX1_lot_29 : decode cX1_lot 29 = .ok (.invokevirtual 340, 3) := dk_182 1 84 (dk_at dksX1_lot_1 6 rfl rfl)
theorem dX1_lot_32 : decode cX1_lot 32 = .ok (.ishl, 1) := dk_120 (dk_at dksX1_lot_1 9 rfl rfl)
theorem dX1_lot_33 : decode cX1_lot 33 = .ok (.if_icmp .ge 73, 3) := dk_162 0 73 (dk_at dksX1_lot_1 10 rfl rfl)
theorem dX1_lot_36 : decode cX1_lot 36 = .ok (.iload 4, 2) := dk_21 4 (dk_at dksX1_lot_1 13 rfl rfl)
theorem dX1_lot_38 : decode cX1_lot 38 = .ok (.invokestatic 481, 3) := dk_184 1 225 (dk_at dksX1_lot_1 15 rfl rfl)
theorem dX1_lot_41 : decode cX1_lot 41 = .ok (.iconst 3, 1) := dk_6 (dk_at dksX1_lot_1 18 rfl rfl)
theorem dX1_lot_42 : decode cX1_lot 42 = .ok (.if_icmp .eq 6, 3) := dk_159 0 6 (dk_at dksX1_lot_1 19 rfl rfl)
theorem dX1_lot_45 : decode cX1_lot 45 = .ok (.goto 55, 3) := dk_167 0 55 (dk_at dksX1_lot_2 0 rfl rfl)
theorem dX1_lot_48 : decode cX1_lot 48 = .ok (.iconst 0, 1) := dk_3 (dk_at dksX1_lot_2 3 rfl rfl)
theorem dX1_lot_49 : decode cX1_lot 49 = .ok (.istore 5, 2) := dk_54 5 (dk_at dksX1_lot_2 4 rfl rfl)
theorem dX1_lot_51 : decode cX1_lot 51 = .ok (.iconst 0, 1) := dk_3 (dk_at dksX1_lot_2 6 rfl rfl)
theorem dX1_lot_52 : decode cX1_lot 52 = .ok (.istore 6, 2) := dk_54 6 (dk_at dksX1_lot_2 7 rfl rfl)
theorem dX1_lot_54 : decode cX1_lot 54 = .ok (.iload 6, 2) := dk_21 6 (dk_at dksX1_lot_2 9 rfl rfl)
theorem dX1_lot_56 : decode cX1_lot 56 = .ok (.aload_n 0, 1) := dk_42 (dk_at dksX1_lot_2 11 rfl rfl)
theorem dX1_lot_57 : decode cX1_lot 57 = .ok (.invokevirtual 340, 3) := dk_182 1 84 (dk_at dksX1_lot_2 12 rfl rfl)
theorem dX1_lot_60 : decode cX1_lot 60 = .ok (.if_icmp .ge 32, 3) := dk_162 0 32 (dk_at dksX1_lot_2 15 rfl rfl)
theorem dX1_lot_63 : decode cX1_lot 63 = .ok (.iload 4, 2) := dk_21 4 (dk_at dksX1_lot_2 18 rfl rfl)
theorem dX1_lot_65 : decode cX1_lot 65 = .ok (.iload 6, 2) := dk_21 6 (dk_at dksX1_lot_2 20 rfl rfl)
theorem dX1_lot_67 : decode cX1_lot 67 = .ok (.invokestatic 263, 3) := dk_184 1 7 (dk_at dksX1_lot_3 0 rfl rfl)
theorem dX1_lot_70 : decode cX1_lot 70 = .ok (.ifCond .eq 16, 3) := dk_153 0 16 (dk_at dksX1_lot_3 3 rfl rfl)
theorem dX1_lot_73 : decode cX1_lot 73 = .ok (.iload 5, 2) := dk_21 5 (dk_at dksX1_lot_3 6 rfl rfl)
theorem dX1_lot_75 : decode cX1_lot 75 = .ok (.aload_n 0, 1) := dk_42 (dk_at dksX1_lot_3 8 rfl rfl)
theorem dX1_lot_76 : decode cX1_lot 76 = .ok (.iload 6, 2) := dk_21 6 (dk_at dksX1_lot_3 9 rfl rfl)
theorem dX1_lot_78 : decode cX1_lot 78 = .ok (.invokevirtual 381, 3) := dk_182 1 125 (dk_at dksX1_lot_3 11 rfl rfl)
theorem dX1_lot_81 : decode cX1_lot 81 = .ok (.invokestatic 360, 3) := dk_184 1 104 (dk_at dksX1_lot_3 14 rfl rfl)
theorem dX1_lot_84 : decode cX1_lot 84 = .ok (.istore 5, 2) := dk_54 5 (dk_at dksX1_lot_3 17 rfl rfl)
theorem dX1_lot_86 : decode cX1_lot 86 = .ok (.iinc 6 1, 3) := dk_132 6 1 (dk_at dksX1_lot_3 19 rfl rfl)
theorem dX1_lot_89 : decode cX1_lot 89 = .ok (.goto (-35), 3) := dk_167 255 221 (dk_at dksX1_lot_4 0 rfl rfl)
theorem dX1_lot_92 : decode cX1_lot 92 = .ok (.iload_n 2, 1) := dk_28 (dk_at dksX1_lot_4 3 rfl rfl)
theorem dX1_lot_93 : decode cX1_lot 93 = .ok (.iload 5, 2) := dk_21 5 (dk_at dksX1_lot_4 4 rfl rfl)
theorem dX1_lot_95 : decode cX1_lot 95 = .ok (.iadd, 1) := dk_96 (dk_at dksX1_lot_4 6 rfl rfl)
theorem dX1_lot_96 : decode cX1_lot 96 = .ok (.istore_n 2, 1) := dk_61 (dk_at dksX1_lot_4 7 rfl rfl)
theorem dX1_lot_97 : decode cX1_lot 97 = .ok (.iinc 3 1, 3) := dk_132 3 1 (dk_at dksX1_lot_4 8 rfl rfl)
theorem dX1_lot_100 : decode cX1_lot 100 = .ok (.iinc 4 1, 3) := dk_132 4 1 (dk_at dksX1_lot_4 11 rfl rfl)
theorem dX1_lot_103 : decode cX1_lot 103 = .ok (.goto (-78), 3) := dk_167 255 178 (dk_at dksX1_lot_4 14 rfl rfl)
theorem dX1_lot_106 : decode cX1_lot 106 = .ok (.iload_n 1, 1) := dk_27 (dk_at dksX1_lot_4 17 rfl rfl)
theorem dX1_lot_107 : decode cX1_lot 107 = .ok (.ifCond .ne 7, 3) := dk_154 0 7 (dk_at dksX1_lot_4 18 rfl rfl)
theorem dX1_lot_110 : decode cX1_lot 110 = .ok (.iload_n 2, 1) := dk_28 (dk_at dksX1_lot_4 21 rfl rfl)
theorem dX1_lot_111 : decode cX1_lot 111 = .ok (.goto 4, 3) := dk_167 0 4 (dk_at dksX1_lot_5 0 rfl rfl)
theorem dX1_lot_114 : decode cX1_lot 114 = .ok (.iload_n 3, 1) := dk_29 (dk_at dksX1_lot_5 3 rfl rfl)
theorem dX1_lot_115 : decode cX1_lot 115 = .ok (.ireturn, 1) := dk_172 (dk_at dksX1_lot_5 4 rfl rfl)
abbrev cX1_labels : ByteArray := prog_1_method_123_code
def yX1_labels : MethodName := ⟨RX1, "labels", "(II)I"⟩
def dkwX1_labels_1 : List UInt8 := [153, 0, 12, 42, 27, 28, 182, 2, 40, 167, 0, 6, 19, 1, 200, 172]
abbrev dktX1_labels_1 : List UInt8 := dkwX1_labels_1 ++ []
def dkwX1_labels_0 : List UInt8 := [42, 182, 1, 128, 153, 0, 30, 27, 3, 4, 184, 0, 246, 153, 0, 21, 28, 3, 4, 184, 0, 246]
abbrev dktX1_labels_0 : List UInt8 := dkwX1_labels_0 ++ dktX1_labels_1
theorem dksX1_labels_0 : cX1_labels.data.toList.drop 0 = dktX1_labels_0 := by decide +kernel
theorem dksX1_labels_1 : cX1_labels.data.toList.drop 22 = dktX1_labels_1 := dk_seg dksX1_labels_0 22 rfl rfl
theorem dX1_labels_0 : decode cX1_labels 0 = .ok (.aload_n 0, 1) := dk_42 (dk_at dksX1_labels_0 0 rfl rfl)
theorem dX1_labels_1 : decode cX1_labels 1 = .ok (.invokevirtual 384, 3) := dk_182 1 128 (dk_at dksX1_labels_0 1 rfl rfl)
theorem dX1_labels_4 : decode cX1_labels 4 = .ok (.ifCond .eq 30, 3) := dk_153 0 30 (dk_at dksX1_labels_0 4 rfl rfl)
theorem dX1_labels_7 : decode cX1_labels 7 = .ok (.iload_n 1, 1) := dk_27 (dk_at dksX1_labels_0 7 rfl rfl)
theorem dX1_labels_8 : decode cX1_labels 8 = .ok (.iconst 0, 1) := dk_3 (dk_at dksX1_labels_0 8 rfl rfl)
theorem dX1_labels_9 : decode cX1_labels 9 = .ok (.iconst 1, 1) := dk_4 (dk_at dksX1_labels_0 9 rfl rfl)
theorem dX1_labels_10 : decode cX1_labels 10 = .ok (.invokestatic 246, 3) := dk_184 0 246 (dk_at dksX1_labels_0 10 rfl rfl)
theorem dX1_labels_13 : decode cX1_labels 13 = .ok (.ifCond .eq 21, 3) := dk_153 0 21 (dk_at dksX1_labels_0 13 rfl rfl)
theorem dX1_labels_16 : decode cX1_labels 16 = .ok (.iload_n 2, 1) := dk_28 (dk_at dksX1_labels_0 16 rfl rfl)
theorem dX1_labels_17 : decode cX1_labels 17 = .ok (.iconst 0, 1) := dk_3 (dk_at dksX1_labels_0 17 rfl rfl)
theorem dX1_labels_18 : decode cX1_labels 18 = .ok (.iconst 1, 1) := dk_4 (dk_at dksX1_labels_0 18 rfl rfl)
theorem dX1_labels_19 : decode cX1_labels 19 = .ok (.invokestatic 246, 3) := dk_184 0 246 (dk_at dksX1_labels_0 19 rfl rfl)
theorem dX1_labels_22 : decode cX1_labels 22 = .ok (.ifCond .eq 12, 3) := dk_153 0 12 (dk_at dksX1_labels_1 0 rfl rfl)
theorem dX1_labels_25 : decode cX1_labels 25 = .ok (.aload_n 0, 1) := dk_42 (dk_at dksX1_labels_1 3 rfl rfl)
theorem dX1_labels_26 : decode cX1_labels 26 = .ok (.iload_n 1, 1) := dk_27 (dk_at dksX1_labels_1 4 rfl rfl)
theorem dX1_labels_27 : decode cX1_labels 27 = .ok (.iload_n 2, 1) := dk_28 (dk_at dksX1_labels_1 5 rfl rfl)
theorem dX1_labels_28 : decode cX1_labels 28 = .ok (.invokevirtual 552, 3) := dk_182 2 40 (dk_at dksX1_labels_1 6 rfl rfl)
theorem dX1_labels_31 : decode cX1_labels 31 = .ok (.goto 6, 3) := dk_167 0 6 (dk_at dksX1_labels_1 9 rfl rfl)
theorem dX1_labels_34 : decode cX1_labels 34 = .ok (.ldc_w 456, 3) := dk_19 1 200 (dk_at dksX1_labels_1 12 rfl rfl)
theorem dX1_labels_37 : decode cX1_labels 37 = .ok (.ireturn, 1) := dk_172 (dk_at dksX1_labels_1 15 rfl rfl)
abbrev cX1_labelsOf : ByteArray := prog_1_method_122_code
def yX1_labelsOf : MethodName := ⟨RX1, "labelsOf", "(II)I"⟩
def dkwX1_labelsOf_1 : List UInt8 := [27, 104, 100, 172]
abbrev dktX1_labelsOf_1 : List UInt8 := dkwX1_labelsOf_1 ++ []
def dkwX1_labelsOf_0 : List UInt8 := [27, 4, 159, 0, 8, 28, 4, 160, 0, 15, 5, 42, 182, 2, 2, 184, 1, 225, 104, 167, 0, 4, 3, 6]
abbrev dktX1_labelsOf_0 : List UInt8 := dkwX1_labelsOf_0 ++ dktX1_labelsOf_1
theorem dksX1_labelsOf_0 : cX1_labelsOf.data.toList.drop 0 = dktX1_labelsOf_0 := by decide +kernel
theorem dksX1_labelsOf_1 : cX1_labelsOf.data.toList.drop 24 = dktX1_labelsOf_1 := dk_seg dksX1_labelsOf_0 24 rfl rfl
theorem dX1_labelsOf_0 : decode cX1_labelsOf 0 = .ok (.iload_n 1, 1) := dk_27 (dk_at dksX1_labelsOf_0 0 rfl rfl)
theorem dX1_labelsOf_1 : decode cX1_labelsOf 1 = .ok (.iconst 1, 1) := dk_4 (dk_at dksX1_labelsOf_0 1 rfl rfl)
theorem dX1_labelsOf_2 : decode cX1_labelsOf 2 = .ok (.if_icmp .eq 8, 3) := dk_159 0 8 (dk_at dksX1_labelsOf_0 2 rfl rfl)
theorem dX1_labelsOf_5 : decode cX1_labelsOf 5 = .ok (.iload_n 2, 1) := dk_28 (dk_at dksX1_labelsOf_0 5 rfl rfl)
theorem dX1_labelsOf_6 : decode cX1_labelsOf 6 = .ok (.iconst 1, 1) := dk_4 (dk_at dksX1_labelsOf_0 6 rfl rfl)
theorem dX1_labelsOf_7 : decode cX1_labelsOf 7 = .ok (.if_icmp .ne 15, 3) := dk_160 0 15 (dk_at dksX1_labelsOf_0 7 rfl rfl)
theorem dX1_labelsOf_10 : decode cX1_labelsOf 10 = .ok (.iconst 2, 1) := dk_5 (dk_at dksX1_labelsOf_0 10 rfl rfl)
theorem dX1_labelsOf_11 : decode cX1_labelsOf 11 = .ok (.aload_n 0, 1) := dk_42 (dk_at dksX1_labelsOf_0 11 rfl rfl)
theorem dX1_labelsOf_12 : decode cX1_labelsOf 12 = .ok (.invokevirtual 514, 3) := dk_182 2 2 (dk_at dksX1_labelsOf_0 12 rfl rfl)
theorem dX1_labelsOf_15 : decode cX1_labelsOf 15 = .ok (.invokestatic 481, 3) := dk_184 1 225 (dk_at dksX1_labelsOf_0 15 rfl rfl)
theorem dX1_labelsOf_18 : decode cX1_labelsOf 18 = .ok (.imul, 1) := dk_104 (dk_at dksX1_labelsOf_0 18 rfl rfl)
theorem dX1_labelsOf_19 : decode cX1_labelsOf 19 = .ok (.goto 4, 3) := dk_167 0 4 (dk_at dksX1_labelsOf_0 19 rfl rfl)
theorem dX1_labelsOf_22 : decode cX1_labelsOf 22 = .ok (.iconst 0, 1) := dk_3 (dk_at dksX1_labelsOf_0 22 rfl rfl)
theorem dX1_labelsOf_23 : decode cX1_labelsOf 23 = .ok (.iconst 3, 1) := dk_6 (dk_at dksX1_labelsOf_0 23 rfl rfl)
theorem dX1_labelsOf_24 : decode cX1_labelsOf 24 = .ok (.iload_n 1, 1) := dk_27 (dk_at dksX1_labelsOf_1 0 rfl rfl)
theorem dX1_labelsOf_25 : decode cX1_labelsOf 25 = .ok (.imul, 1) := dk_104 (dk_at dksX1_labelsOf_1 1 rfl rfl)
theorem dX1_labelsOf_26 : decode cX1_labelsOf 26 = .ok (.isub, 1) := dk_100 (dk_at dksX1_labelsOf_1 2 rfl rfl)
theorem dX1_labelsOf_27 : decode cX1_labelsOf 27 = .ok (.ireturn, 1) := dk_172 (dk_at dksX1_labelsOf_1 3 rfl rfl)
abbrev cX1_rests : ByteArray := prog_1_method_124_code
def yX1_rests : MethodName := ⟨RX1, "rests", "(I)I"⟩
def dkwX1_rests_4 : List UInt8 := [167, 255, 190, 132, 3, 1, 167, 255, 176, 27, 2, 160, 0, 7, 28, 167, 0, 4, 2, 172]
abbrev dktX1_rests_4 : List UInt8 := dkwX1_rests_4 ++ []
def dkwX1_rests_3 : List UInt8 := [167, 0, 19, 28, 27, 160, 0, 11, 16, 10, 29, 104, 21, 4, 96, 172, 132, 2, 1, 132, 4, 1]
abbrev dktX1_rests_3 : List UInt8 := dkwX1_rests_3 ++ dktX1_rests_4
def dkwX1_rests_2 : List UInt8 := [163, 0, 41, 42, 4, 21, 4, 100, 29, 182, 2, 40, 42, 21, 4, 29, 182, 2, 40, 164, 0, 6]
abbrev dktX1_rests_2 : List UInt8 := dkwX1_rests_2 ++ dktX1_rests_3
def dkwX1_rests_1 : List UInt8 := [54, 4, 21, 4, 5, 162, 0, 66, 42, 4, 29, 100, 21, 4, 182, 2, 40, 42, 29, 21, 4, 182, 2, 40]
abbrev dktX1_rests_1 : List UInt8 := dkwX1_rests_1 ++ dktX1_rests_2
def dkwX1_rests_0 : List UInt8 := [42, 182, 1, 128, 153, 0, 8, 27, 2, 162, 0, 5, 2, 172, 3, 61, 3, 62, 29, 5, 162, 0, 81, 3]
abbrev dktX1_rests_0 : List UInt8 := dkwX1_rests_0 ++ dktX1_rests_1
theorem dksX1_rests_0 : cX1_rests.data.toList.drop 0 = dktX1_rests_0 := by decide +kernel
theorem dksX1_rests_1 : cX1_rests.data.toList.drop 24 = dktX1_rests_1 := dk_seg dksX1_rests_0 24 rfl rfl
theorem dksX1_rests_2 : cX1_rests.data.toList.drop 48 = dktX1_rests_2 := dk_seg dksX1_rests_1 24 rfl rfl
theorem dksX1_rests_3 : cX1_rests.data.toList.drop 70 = dktX1_rests_3 := dk_seg dksX1_rests_2 22 rfl rfl
theorem dksX1_rests_4 : cX1_rests.data.toList.drop 92 = dktX1_rests_4 := dk_seg dksX1_rests_3 22 rfl rfl
theorem dX1_rests_0 : decode cX1_rests 0 = .ok (.aload_n 0, 1) := dk_42 (dk_at dksX1_rests_0 0 rfl rfl)
theorem dX1_rests_1 : decode cX1_rests 1 = .ok (.invokevirtual 384, 3) := dk_182 1 128 (dk_at dksX1_rests_0 1 rfl rfl)
theorem dX1_rests_4 : decode cX1_rests 4 = .ok (.ifCond .eq 8, 3) := dk_153 0 8 (dk_at dksX1_rests_0 4 rfl rfl)
theorem dX1_rests_7 : decode cX1_rests 7 = .ok (.iload_n 1, 1) := dk_27 (dk_at dksX1_rests_0 7 rfl rfl)
theorem dX1_rests_8 : decode cX1_rests 8 = .ok (.iconst (-1), 1) := dk_2 (dk_at dksX1_rests_0 8 rfl rfl)
theorem dX1_rests_9 : decode cX1_rests 9 = .ok (.if_icmp .ge 5, 3) := dk_162 0 5 (dk_at dksX1_rests_0 9 rfl rfl)
theorem dX1_rests_12 : decode cX1_rests 12 = .ok (.iconst (-1), 1) := dk_2 (dk_at dksX1_rests_0 12 rfl rfl)
theorem dX1_rests_13 : decode cX1_rests 13 = .ok (.ireturn, 1) := dk_172 (dk_at dksX1_rests_0 13 rfl rfl)
theorem dX1_rests_14 : decode cX1_rests 14 = .ok (.iconst 0, 1) := dk_3 (dk_at dksX1_rests_0 14 rfl rfl)
theorem dX1_rests_15 : decode cX1_rests 15 = .ok (.istore_n 2, 1) := dk_61 (dk_at dksX1_rests_0 15 rfl rfl)
theorem dX1_rests_16 : decode cX1_rests 16 = .ok (.iconst 0, 1) := dk_3 (dk_at dksX1_rests_0 16 rfl rfl)
theorem dX1_rests_17 : decode cX1_rests 17 = .ok (.istore_n 3, 1) := dk_62 (dk_at dksX1_rests_0 17 rfl rfl)
theorem dX1_rests_18 : decode cX1_rests 18 = .ok (.iload_n 3, 1) := dk_29 (dk_at dksX1_rests_0 18 rfl rfl)
theorem dX1_rests_19 : decode cX1_rests 19 = .ok (.iconst 2, 1) := dk_5 (dk_at dksX1_rests_0 19 rfl rfl)
theorem dX1_rests_20 : decode cX1_rests 20 = .ok (.if_icmp .ge 81, 3) := dk_162 0 81 (dk_at dksX1_rests_0 20 rfl rfl)
theorem dX1_rests_23 : decode cX1_rests 23 = .ok (.iconst 0, 1) := dk_3 (dk_at dksX1_rests_0 23 rfl rfl)
theorem dX1_rests_24 : decode cX1_rests 24 = .ok (.istore 4, 2) := dk_54 4 (dk_at dksX1_rests_1 0 rfl rfl)
theorem dX1_rests_26 : decode cX1_rests 26 = .ok (.iload 4, 2) := dk_21 4 (dk_at dksX1_rests_1 2 rfl rfl)
theorem dX1_rests_28 : decode cX1_rests 28 = .ok (.iconst 2, 1) := dk_5 (dk_at dksX1_rests_1 4 rfl rfl)
theorem dX1_rests_29 : decode cX1_rests 29 = .ok (.if_icmp .ge 66, 3) := dk_162 0 66 (dk_at dksX1_rests_1 5 rfl rfl)
theorem dX1_rests_32 : decode cX1_rests 32 = .ok (.aload_n 0, 1) := dk_42 (dk_at dksX1_rests_1 8 rfl rfl)
theorem dX1_rests_33 : decode cX1_rests 33 = .ok (.iconst 1, 1) := dk_4 (dk_at dksX1_rests_1 9 rfl rfl)
theorem dX1_rests_34 : decode cX1_rests 34 = .ok (.iload_n 3, 1) := dk_29 (dk_at dksX1_rests_1 10 rfl rfl)
theorem dX1_rests_35 : decode cX1_rests 35 = .ok (.isub, 1) := dk_100 (dk_at dksX1_rests_1 11 rfl rfl)
theorem dX1_rests_36 : decode cX1_rests 36 = .ok (.iload 4, 2) := dk_21 4 (dk_at dksX1_rests_1 12 rfl rfl)
theorem dX1_rests_38 : decode cX1_rests 38 = .ok (.invokevirtual 552, 3) := dk_182 2 40 (dk_at dksX1_rests_1 14 rfl rfl)
theorem dX1_rests_41 : decode cX1_rests 41 = .ok (.aload_n 0, 1) := dk_42 (dk_at dksX1_rests_1 17 rfl rfl)
theorem dX1_rests_42 : decode cX1_rests 42 = .ok (.iload_n 3, 1) := dk_29 (dk_at dksX1_rests_1 18 rfl rfl)
theorem dX1_rests_43 : decode cX1_rests 43 = .ok (.iload 4, 2) := dk_21 4 (dk_at dksX1_rests_1 19 rfl rfl)
theorem dX1_rests_45 : decode cX1_rests 45 = .ok (.invokevirtual 552, 3) := dk_182 2 40 (dk_at dksX1_rests_1 21 rfl rfl)
theorem dX1_rests_48 : decode cX1_rests 48 = .ok (.if_icmp .gt 41, 3) := dk_163 0 41 (dk_at dksX1_rests_2 0 rfl rfl)
theorem dX1_rests_51 : decode cX1_rests 51 = .ok (.aload_n 0, 1) := dk_42 (dk_at dksX1_rests_2 3 rfl rfl)
theorem dX1_rests_52 : decode cX1_rests 52 = .ok (.iconst 1, 1) := dk_4 (dk_at dksX1_rests_2 4 rfl rfl)
theorem dX1_rests_53 : decode cX1_rests 53 = .ok (.iload 4, 2) := dk_21 4 (dk_at dksX1_rests_2 5 rfl rfl)
theorem dX1_rests_55 : decode cX1_rests 55 = .ok (.isub, 1) := dk_100 (dk_at dksX1_rests_2 7 rfl rfl)
theorem dX1_rests_56 : decode cX1_rests 56 = .ok (.iload_n 3, 1) := dk_29 (dk_at dksX1_rests_2 8 rfl rfl)
theorem dX1_rests_57 : decode cX1_rests 57 = .ok (.invokevirtual 552, 3) := dk_182 2 40 (dk_at dksX1_rests_2 9 rfl rfl)
theorem dX1_rests_60 : decode cX1_rests 60 = .ok (.aload_n 0, 1) := dk_42 (dk_at dksX1_rests_2 12 rfl rfl)
theorem dX1_rests_61 : decode cX1_rests 61 = .ok (.iload 4, 2) := dk_21 4 (dk_at dksX1_rests_2 13 rfl rfl)
theorem dX1_rests_63 : decode cX1_rests 63 = .ok (.iload_n 3, 1) := dk_29 (dk_at dksX1_rests_2 15 rfl rfl)
theorem dX1_rests_64 : decode cX1_rests 64 = .ok (.invokevirtual 552, 3) := dk_182 2 40 (dk_at dksX1_rests_2 16 rfl rfl)
theorem dX1_rests_67 : decode cX1_rests 67 = .ok (.if_icmp .le 6, 3) := dk_164 0 6 (dk_at dksX1_rests_2 19 rfl rfl)
theorem dX1_rests_70 : decode cX1_rests 70 = .ok (.goto 19, 3) := dk_167 0 19 (dk_at dksX1_rests_3 0 rfl rfl)
theorem dX1_rests_73 : decode cX1_rests 73 = .ok (.iload_n 2, 1) := dk_28 (dk_at dksX1_rests_3 3 rfl rfl)
theorem dX1_rests_74 : decode cX1_rests 74 = .ok (.iload_n 1, 1) := dk_27 (dk_at dksX1_rests_3 4 rfl rfl)
theorem dX1_rests_75 : decode cX1_rests 75 = .ok (.if_icmp .ne 11, 3) := dk_160 0 11 (dk_at dksX1_rests_3 5 rfl rfl)
theorem dX1_rests_78 : decode cX1_rests 78 = .ok (.bipush 10, 2) := dk_16 10 (dk_at dksX1_rests_3 8 rfl rfl)
theorem dX1_rests_80 : decode cX1_rests 80 = .ok (.iload_n 3, 1) := dk_29 (dk_at dksX1_rests_3 10 rfl rfl)
theorem dX1_rests_81 : decode cX1_rests 81 = .ok (.imul, 1) := dk_104 (dk_at dksX1_rests_3 11 rfl rfl)
theorem dX1_rests_82 : decode cX1_rests 82 = .ok (.iload 4, 2) := dk_21 4 (dk_at dksX1_rests_3 12 rfl rfl)
theorem dX1_rests_84 : decode cX1_rests 84 = .ok (.iadd, 1) := dk_96 (dk_at dksX1_rests_3 14 rfl rfl)
theorem dX1_rests_85 : decode cX1_rests 85 = .ok (.ireturn, 1) := dk_172 (dk_at dksX1_rests_3 15 rfl rfl)
theorem dX1_rests_86 : decode cX1_rests 86 = .ok (.iinc 2 1, 3) := dk_132 2 1 (dk_at dksX1_rests_3 16 rfl rfl)
theorem dX1_rests_89 : decode cX1_rests 89 = .ok (.iinc 4 1, 3) := dk_132 4 1 (dk_at dksX1_rests_3 19 rfl rfl)
theorem dX1_rests_92 : decode cX1_rests 92 = .ok (.goto (-66), 3) := dk_167 255 190 (dk_at dksX1_rests_4 0 rfl rfl)
theorem dX1_rests_95 : decode cX1_rests 95 = .ok (.iinc 3 1, 3) := dk_132 3 1 (dk_at dksX1_rests_4 3 rfl rfl)
theorem dX1_rests_98 : decode cX1_rests 98 = .ok (.goto (-80), 3) := dk_167 255 176 (dk_at dksX1_rests_4 6 rfl rfl)
theorem dX1_rests_101 : decode cX1_rests 101 = .ok (.iload_n 1, 1) := dk_27 (dk_at dksX1_rests_4 9 rfl rfl)
theorem dX1_rests_102 : decode cX1_rests 102 = .ok (.iconst (-1), 1) := dk_2 (dk_at dksX1_rests_4 10 rfl rfl)
theorem dX1_rests_103 : decode cX1_rests 103 = .ok (.if_icmp .ne 7, 3) := dk_160 0 7 (dk_at dksX1_rests_4 11 rfl rfl)
theorem dX1_rests_106 : decode cX1_rests 106 = .ok (.iload_n 2, 1) := dk_28 (dk_at dksX1_rests_4 14 rfl rfl)
theorem dX1_rests_107 : decode cX1_rests 107 = .ok (.goto 4, 3) := dk_167 0 4 (dk_at dksX1_rests_4 15 rfl rfl)
theorem dX1_rests_110 : decode cX1_rests 110 = .ok (.iconst (-1), 1) := dk_2 (dk_at dksX1_rests_4 18 rfl rfl)
theorem dX1_rests_111 : decode cX1_rests 111 = .ok (.ireturn, 1) := dk_172 (dk_at dksX1_rests_4 19 rfl rfl)
abbrev cX1_most : ByteArray := prog_1_method_125_code
def yX1_most : MethodName := ⟨RX1, "most", "(I)I"⟩
def dkwX1_most_3 : List UInt8 := [61, 132, 3, 1, 167, 255, 195, 28, 172]
abbrev dktX1_most_3 : List UInt8 := dkwX1_most_3 ++ []
def dkwX1_most_2 : List UInt8 := [21, 4, 27, 154, 0, 12, 42, 28, 5, 182, 1, 93, 167, 0, 8, 42, 28, 182, 1, 125, 164, 0, 5, 29]
abbrev dktX1_most_2 : List UInt8 := dkwX1_most_2 ++ dktX1_most_3
def dkwX1_most_1 : List UInt8 := [154, 0, 12, 42, 29, 5, 182, 1, 93, 167, 0, 8, 42, 29, 182, 1, 125, 54, 4, 28, 2, 159, 0, 26]
abbrev dktX1_most_1 : List UInt8 := dkwX1_most_1 ++ dktX1_most_2
def dkwX1_most_0 : List UInt8 := [27, 3, 4, 184, 0, 246, 154, 0, 5, 2, 172, 2, 61, 3, 62, 29, 42, 182, 1, 84, 162, 0, 59, 27]
abbrev dktX1_most_0 : List UInt8 := dkwX1_most_0 ++ dktX1_most_1
theorem dksX1_most_0 : cX1_most.data.toList.drop 0 = dktX1_most_0 := by decide +kernel
theorem dksX1_most_1 : cX1_most.data.toList.drop 24 = dktX1_most_1 := dk_seg dksX1_most_0 24 rfl rfl
theorem dksX1_most_2 : cX1_most.data.toList.drop 48 = dktX1_most_2 := dk_seg dksX1_most_1 24 rfl rfl
theorem dksX1_most_3 : cX1_most.data.toList.drop 72 = dktX1_most_3 := dk_seg dksX1_most_2 24 rfl rfl
theorem dX1_most_0 : decode cX1_most 0 = .ok (.iload_n 1, 1) := dk_27 (dk_at dksX1_most_0 0 rfl rfl)
theorem dX1_most_1 : decode cX1_most 1 = .ok (.iconst 0, 1) := dk_3 (dk_at dksX1_most_0 1 rfl rfl)
theorem dX1_most_2 : decode cX1_most 2 = .ok (.iconst 1, 1) := dk_4 (dk_at dksX1_most_0 2 rfl rfl)
theorem dX1_most_3 : decode cX1_most 3 = .ok (.invokestatic 246, 3) := dk_184 0 246 (dk_at dksX1_most_0 3 rfl rfl)
theorem dX1_most_6 : decode cX1_most 6 = .ok (.ifCond .ne 5, 3) := dk_154 0 5 (dk_at dksX1_most_0 6 rfl rfl)
theorem dX1_most_9 : decode cX1_most 9 = .ok (.iconst (-1), 1) := dk_2 (dk_at dksX1_most_0 9 rfl rfl)
theorem dX1_most_10 : decode cX1_most 10 = .ok (.ireturn, 1) := dk_172 (dk_at dksX1_most_0 10 rfl rfl)
theorem dX1_most_11 : decode cX1_most 11 = .ok (.iconst (-1), 1) := dk_2 (dk_at dksX1_most_0 11 rfl rfl)
theorem dX1_most_12 : decode cX1_most 12 = .ok (.istore_n 2, 1) := dk_61 (dk_at dksX1_most_0 12 rfl rfl)
theorem dX1_most_13 : decode cX1_most 13 = .ok (.iconst 0, 1) := dk_3 (dk_at dksX1_most_0 13 rfl rfl)
theorem dX1_most_14 : decode cX1_most 14 = .ok (.istore_n 3, 1) := dk_62 (dk_at dksX1_most_0 14 rfl rfl)
theorem dX1_most_15 : decode cX1_most 15 = .ok (.iload_n 3, 1) := dk_29 (dk_at dksX1_most_0 15 rfl rfl)
theorem dX1_most_16 : decode cX1_most 16 = .ok (.aload_n 0, 1) := dk_42 (dk_at dksX1_most_0 16 rfl rfl)
theorem dX1_most_17 : decode cX1_most 17 = .ok (.invokevirtual 340, 3) := dk_182 1 84 (dk_at dksX1_most_0 17 rfl rfl)
theorem dX1_most_20 : decode cX1_most 20 = .ok (.if_icmp .ge 59, 3) := dk_162 0 59 (dk_at dksX1_most_0 20 rfl rfl)
theorem dX1_most_23 : decode cX1_most 23 = .ok (.iload_n 1, 1) := dk_27 (dk_at dksX1_most_0 23 rfl rfl)
theorem dX1_most_24 : decode cX1_most 24 = .ok (.ifCond .ne 12, 3) := dk_154 0 12 (dk_at dksX1_most_1 0 rfl rfl)
theorem dX1_most_27 : decode cX1_most 27 = .ok (.aload_n 0, 1) := dk_42 (dk_at dksX1_most_1 3 rfl rfl)
theorem dX1_most_28 : decode cX1_most 28 = .ok (.iload_n 3, 1) := dk_29 (dk_at dksX1_most_1 4 rfl rfl)
theorem dX1_most_29 : decode cX1_most 29 = .ok (.iconst 2, 1) := dk_5 (dk_at dksX1_most_1 5 rfl rfl)
theorem dX1_most_30 : decode cX1_most 30 = .ok (.invokevirtual 349, 3) := dk_182 1 93 (dk_at dksX1_most_1 6 rfl rfl)
theorem dX1_most_33 : decode cX1_most 33 = .ok (.goto 8, 3) := dk_167 0 8 (dk_at dksX1_most_1 9 rfl rfl)
theorem dX1_most_36 : decode cX1_most 36 = .ok (.aload_n 0, 1) := dk_42 (dk_at dksX1_most_1 12 rfl rfl)
theorem dX1_most_37 : decode cX1_most 37 = .ok (.iload_n 3, 1) := dk_29 (dk_at dksX1_most_1 13 rfl rfl)
theorem dX1_most_38 : decode cX1_most 38 = .ok (.invokevirtual 381, 3) := dk_182 1 125 (dk_at dksX1_most_1 14 rfl rfl)
theorem dX1_most_41 : decode cX1_most 41 = .ok (.istore 4, 2) := dk_54 4 (dk_at dksX1_most_1 17 rfl rfl)
theorem dX1_most_43 : decode cX1_most 43 = .ok (.iload_n 2, 1) := dk_28 (dk_at dksX1_most_1 19 rfl rfl)
theorem dX1_most_44 : decode cX1_most 44 = .ok (.iconst (-1), 1) := dk_2 (dk_at dksX1_most_1 20 rfl rfl)
theorem dX1_most_45 : decode cX1_most 45 = .ok (.if_icmp .eq 26, 3) := dk_159 0 26 (dk_at dksX1_most_1 21 rfl rfl)
theorem dX1_most_48 : decode cX1_most 48 = .ok (.iload 4, 2) := dk_21 4 (dk_at dksX1_most_2 0 rfl rfl)
theorem dX1_most_50 : decode cX1_most 50 = .ok (.iload_n 1, 1) := dk_27 (dk_at dksX1_most_2 2 rfl rfl)
theorem dX1_most_51 : decode cX1_most 51 = .ok (.ifCond .ne 12, 3) := dk_154 0 12 (dk_at dksX1_most_2 3 rfl rfl)
theorem dX1_most_54 : decode cX1_most 54 = .ok (.aload_n 0, 1) := dk_42 (dk_at dksX1_most_2 6 rfl rfl)
theorem dX1_most_55 : decode cX1_most 55 = .ok (.iload_n 2, 1) := dk_28 (dk_at dksX1_most_2 7 rfl rfl)
theorem dX1_most_56 : decode cX1_most 56 = .ok (.iconst 2, 1) := dk_5 (dk_at dksX1_most_2 8 rfl rfl)
theorem dX1_most_57 : decode cX1_most 57 = .ok (.invokevirtual 349, 3) := dk_182 1 93 (dk_at dksX1_most_2 9 rfl rfl)
theorem dX1_most_60 : decode cX1_most 60 = .ok (.goto 8, 3) := dk_167 0 8 (dk_at dksX1_most_2 12 rfl rfl)
theorem dX1_most_63 : decode cX1_most 63 = .ok (.aload_n 0, 1) := dk_42 (dk_at dksX1_most_2 15 rfl rfl)
theorem dX1_most_64 : decode cX1_most 64 = .ok (.iload_n 2, 1) := dk_28 (dk_at dksX1_most_2 16 rfl rfl)
theorem dX1_most_65 : decode cX1_most 65 = .ok (.invokevirtual 381, 3) := dk_182 1 125 (dk_at dksX1_most_2 17 rfl rfl)
theorem dX1_most_68 : decode cX1_most 68 = .ok (.if_icmp .le 5, 3) := dk_164 0 5 (dk_at dksX1_most_2 20 rfl rfl)
theorem dX1_most_71 : decode cX1_most 71 = .ok (.iload_n 3, 1) := dk_29 (dk_at dksX1_most_2 23 rfl rfl)
theorem dX1_most_72 : decode cX1_most 72 = .ok (.istore_n 2, 1) := dk_61 (dk_at dksX1_most_3 0 rfl rfl)
theorem dX1_most_73 : decode cX1_most 73 = .ok (.iinc 3 1, 3) := dk_132 3 1 (dk_at dksX1_most_3 1 rfl rfl)
theorem dX1_most_76 : decode cX1_most 76 = .ok (.goto (-61), 3) := dk_167 255 195 (dk_at dksX1_most_3 4 rfl rfl)
theorem dX1_most_79 : decode cX1_most 79 = .ok (.iload_n 2, 1) := dk_28 (dk_at dksX1_most_3 7 rfl rfl)
theorem dX1_most_80 : decode cX1_most 80 = .ok (.ireturn, 1) := dk_172 (dk_at dksX1_most_3 8 rfl rfl)
abbrev cX1_spoilt : ByteArray := prog_1_method_126_code
def yX1_spoilt : MethodName := ⟨RX1, "spoilt", "()I"⟩
def dkwX1_spoilt_1 : List UInt8 := [182, 1, 125, 154, 0, 9, 27, 4, 28, 120, 128, 60, 132, 2, 1, 167, 255, 231, 27, 172]
abbrev dktX1_spoilt_1 : List UInt8 := dkwX1_spoilt_1 ++ []
def dkwX1_spoilt_0 : List UInt8 := [42, 182, 1, 128, 154, 0, 5, 2, 172, 3, 60, 3, 61, 28, 42, 182, 1, 84, 162, 0, 23, 42, 28]
abbrev dktX1_spoilt_0 : List UInt8 := dkwX1_spoilt_0 ++ dktX1_spoilt_1
theorem dksX1_spoilt_0 : cX1_spoilt.data.toList.drop 0 = dktX1_spoilt_0 := by decide +kernel
theorem dksX1_spoilt_1 : cX1_spoilt.data.toList.drop 23 = dktX1_spoilt_1 := dk_seg dksX1_spoilt_0 23 rfl rfl
theorem dX1_spoilt_0 : decode cX1_spoilt 0 = .ok (.aload_n 0, 1) := dk_42 (dk_at dksX1_spoilt_0 0 rfl rfl)
theorem dX1_spoilt_1 : decode cX1_spoilt 1 = .ok (.invokevirtual 384, 3) := dk_182 1 128 (dk_at dksX1_spoilt_0 1 rfl rfl)
theorem dX1_spoilt_4 : decode cX1_spoilt 4 = .ok (.ifCond .ne 5, 3) := dk_154 0 5 (dk_at dksX1_spoilt_0 4 rfl rfl)
theorem dX1_spoilt_7 : decode cX1_spoilt 7 = .ok (.iconst (-1), 1) := dk_2 (dk_at dksX1_spoilt_0 7 rfl rfl)
theorem dX1_spoilt_8 : decode cX1_spoilt 8 = .ok (.ireturn, 1) := dk_172 (dk_at dksX1_spoilt_0 8 rfl rfl)
theorem dX1_spoilt_9 : decode cX1_spoilt 9 = .ok (.iconst 0, 1) := dk_3 (dk_at dksX1_spoilt_0 9 rfl rfl)
theorem dX1_spoilt_10 : decode cX1_spoilt 10 = .ok (.istore_n 1, 1) := dk_60 (dk_at dksX1_spoilt_0 10 rfl rfl)
theorem dX1_spoilt_11 : decode cX1_spoilt 11 = .ok (.iconst 0, 1) := dk_3 (dk_at dksX1_spoilt_0 11 rfl rfl)
theorem dX1_spoilt_12 : decode cX1_spoilt 12 = .ok (.istore_n 2, 1) := dk_61 (dk_at dksX1_spoilt_0 12 rfl rfl)
theorem dX1_spoilt_13 : decode cX1_spoilt 13 = .ok (.iload_n 2, 1) := dk_28 (dk_at dksX1_spoilt_0 13 rfl rfl)
theorem dX1_spoilt_14 : decode cX1_spoilt 14 = .ok (.aload_n 0, 1) := dk_42 (dk_at dksX1_spoilt_0 14 rfl rfl)
theorem dX1_spoilt_15 : decode cX1_spoilt 15 = .ok (.invokevirtual 340, 3) := dk_182 1 84 (dk_at dksX1_spoilt_0 15 rfl rfl)
theorem dX1_spoilt_18 : decode cX1_spoilt 18 = .ok (.if_icmp .ge 23, 3) := dk_162 0 23 (dk_at dksX1_spoilt_0 18 rfl rfl)
theorem dX1_spoilt_21 : decode cX1_spoilt 21 = .ok (.aload_n 0, 1) := dk_42 (dk_at dksX1_spoilt_0 21 rfl rfl)
theorem dX1_spoilt_22 : decode cX1_spoilt 22 = .ok (.iload_n 2, 1) := dk_28 (dk_at dksX1_spoilt_0 22 rfl rfl)
theorem dX1_spoilt_23 : decode cX1_spoilt 23 = .ok (.invokevirtual 381, 3) := dk_182 1 125 (dk_at dksX1_spoilt_1 0 rfl rfl)
theorem dX1_spoilt_26 : decode cX1_spoilt 26 = .ok (.ifCond .ne 9, 3) := dk_154 0 9 (dk_at dksX1_spoilt_1 3 rfl rfl)
theorem dX1_spoilt_29 : decode cX1_spoilt 29 = .ok (.iload_n 1, 1) := dk_27 (dk_at dksX1_spoilt_1 6 rfl rfl)
theorem dX1_spoilt_30 : decode cX1_spoilt 30 = .ok (.iconst 1, 1) := dk_4 (dk_at dksX1_spoilt_1 7 rfl rfl)
theorem dX1_spoilt_31 : decode cX1_spoilt 31 = .ok (.iload_n 2, 1) := dk_28 (dk_at dksX1_spoilt_1 8 rfl rfl)
theorem dX1_spoilt_32 : decode cX1_spoilt 32 = .ok (.ishl, 1) := dk_120 (dk_at dksX1_spoilt_1 9 rfl rfl)
theorem dX1_spoilt_33 : decode cX1_spoilt 33 = .ok (.ior, 1) := dk_128 (dk_at dksX1_spoilt_1 10 rfl rfl)
theorem dX1_spoilt_34 : decode cX1_spoilt 34 = .ok (.istore_n 1, 1) := dk_60 (dk_at dksX1_spoilt_1 11 rfl rfl)
theorem dX1_spoilt_35 : decode cX1_spoilt 35 = .ok (.iinc 2 1, 3) := dk_132 2 1 (dk_at dksX1_spoilt_1 12 rfl rfl)
theorem dX1_spoilt_38 : decode cX1_spoilt 38 = .ok (.goto (-25), 3) := dk_167 255 231 (dk_at dksX1_spoilt_1 15 rfl rfl)
theorem dX1_spoilt_41 : decode cX1_spoilt 41 = .ok (.iload_n 1, 1) := dk_27 (dk_at dksX1_spoilt_1 18 rfl rfl)
theorem dX1_spoilt_42 : decode cX1_spoilt 42 = .ok (.ireturn, 1) := dk_172 (dk_at dksX1_spoilt_1 19 rfl rfl)
abbrev cX1_buried : ByteArray := prog_1_method_127_code
def yX1_buried : MethodName := ⟨RX1, "buried", "(I)I"⟩
def dkwX1_buried_0 : List UInt8 := [42, 27, 182, 1, 137, 153, 0, 15, 42, 4, 27, 120, 4, 100, 182, 1, 96, 167, 0, 4, 2, 172]
abbrev dktX1_buried_0 : List UInt8 := dkwX1_buried_0 ++ []
theorem dksX1_buried_0 : cX1_buried.data.toList.drop 0 = dktX1_buried_0 := by decide +kernel
theorem dX1_buried_0 : decode cX1_buried 0 = .ok (.aload_n 0, 1) := dk_42 (dk_at dksX1_buried_0 0 rfl rfl)
theorem dX1_buried_1 : decode cX1_buried 1 = .ok (.iload_n 1, 1) := dk_27 (dk_at dksX1_buried_0 1 rfl rfl)
theorem dX1_buried_2 : decode cX1_buried 2 = .ok (.invokevirtual 393, 3) := dk_182 1 137 (dk_at dksX1_buried_0 2 rfl rfl)
theorem dX1_buried_5 : decode cX1_buried 5 = .ok (.ifCond .eq 15, 3) := dk_153 0 15 (dk_at dksX1_buried_0 5 rfl rfl)
theorem dX1_buried_8 : decode cX1_buried 8 = .ok (.aload_n 0, 1) := dk_42 (dk_at dksX1_buried_0 8 rfl rfl)
theorem dX1_buried_9 : decode cX1_buried 9 = .ok (.iconst 1, 1) := dk_4 (dk_at dksX1_buried_0 9 rfl rfl)
theorem dX1_buried_10 : decode cX1_buried 10 = .ok (.iload_n 1, 1) := dk_27 (dk_at dksX1_buried_0 10 rfl rfl)
theorem dX1_buried_11 : decode cX1_buried 11 = .ok (.ishl, 1) := dk_120 (dk_at dksX1_buried_0 11 rfl rfl)
theorem dX1_buried_12 : decode cX1_buried 12 = .ok (.iconst 1, 1) := dk_4 (dk_at dksX1_buried_0 12 rfl rfl)
theorem dX1_buried_13 : decode cX1_buried 13 = .ok (.isub, 1) := dk_100 (dk_at dksX1_buried_0 13 rfl rfl)
theorem dX1_buried_14 : decode cX1_buried 14 = .ok (.invokevirtual 352, 3) := dk_182 1 96 (dk_at dksX1_buried_0 14 rfl rfl)
theorem dX1_buried_17 : decode cX1_buried 17 = .ok (.goto 4, 3) := dk_167 0 4 (dk_at dksX1_buried_0 17 rfl rfl)
theorem dX1_buried_20 : decode cX1_buried 20 = .ok (.iconst (-1), 1) := dk_2 (dk_at dksX1_buried_0 20 rfl rfl)
theorem dX1_buried_21 : decode cX1_buried 21 = .ok (.ireturn, 1) := dk_172 (dk_at dksX1_buried_0 21 rfl rfl)
abbrev cX1_goes : ByteArray := prog_1_method_128_code
def yX1_goes : MethodName := ⟨RX1, "goes", "(I)I"⟩
def dkwX1_goes_1 : List UInt8 := [29, 182, 1, 216, 153, 0, 9, 28, 4, 29, 120, 128, 61, 132, 3, 1, 167, 255, 230, 28, 172]
abbrev dktX1_goes_1 : List UInt8 := dkwX1_goes_1 ++ []
def dkwX1_goes_0 : List UInt8 := [42, 27, 182, 1, 131, 154, 0, 5, 2, 172, 3, 61, 3, 62, 29, 42, 180, 1, 68, 162, 0, 24, 42, 27]
abbrev dktX1_goes_0 : List UInt8 := dkwX1_goes_0 ++ dktX1_goes_1
theorem dksX1_goes_0 : cX1_goes.data.toList.drop 0 = dktX1_goes_0 := by decide +kernel
theorem dksX1_goes_1 : cX1_goes.data.toList.drop 24 = dktX1_goes_1 := dk_seg dksX1_goes_0 24 rfl rfl
theorem dX1_goes_0 : decode cX1_goes 0 = .ok (.aload_n 0, 1) := dk_42 (dk_at dksX1_goes_0 0 rfl rfl)
theorem dX1_goes_1 : decode cX1_goes 1 = .ok (.iload_n 1, 1) := dk_27 (dk_at dksX1_goes_0 1 rfl rfl)
theorem dX1_goes_2 : decode cX1_goes 2 = .ok (.invokevirtual 387, 3) := dk_182 1 131 (dk_at dksX1_goes_0 2 rfl rfl)
theorem dX1_goes_5 : decode cX1_goes 5 = .ok (.ifCond .ne 5, 3) := dk_154 0 5 (dk_at dksX1_goes_0 5 rfl rfl)
theorem dX1_goes_8 : decode cX1_goes 8 = .ok (.iconst (-1), 1) := dk_2 (dk_at dksX1_goes_0 8 rfl rfl)
theorem dX1_goes_9 : decode cX1_goes 9 = .ok (.ireturn, 1) := dk_172 (dk_at dksX1_goes_0 9 rfl rfl)
theorem dX1_goes_10 : decode cX1_goes 10 = .ok (.iconst 0, 1) := dk_3 (dk_at dksX1_goes_0 10 rfl rfl)
theorem dX1_goes_11 : decode cX1_goes 11 = .ok (.istore_n 2, 1) := dk_61 (dk_at dksX1_goes_0 11 rfl rfl)
theorem dX1_goes_12 : decode cX1_goes 12 = .ok (.iconst 0, 1) := dk_3 (dk_at dksX1_goes_0 12 rfl rfl)
theorem dX1_goes_13 : decode cX1_goes 13 = .ok (.istore_n 3, 1) := dk_62 (dk_at dksX1_goes_0 13 rfl rfl)
theorem dX1_goes_14 : decode cX1_goes 14 = .ok (.iload_n 3, 1) := dk_29 (dk_at dksX1_goes_0 14 rfl rfl)
theorem dX1_goes_15 : decode cX1_goes 15 = .ok (.aload_n 0, 1) := dk_42 (dk_at dksX1_goes_0 15 rfl rfl)
theorem dX1_goes_16 : decode cX1_goes 16 = .ok (.getfield 324, 3) := dk_180 1 68 (dk_at dksX1_goes_0 16 rfl rfl)
theorem dX1_goes_19 : decode cX1_goes 19 = .ok (.if_icmp .ge 24, 3) := dk_162 0 24 (dk_at dksX1_goes_0 19 rfl rfl)
theorem dX1_goes_22 : decode cX1_goes 22 = .ok (.aload_n 0, 1) := dk_42 (dk_at dksX1_goes_0 22 rfl rfl)
theorem dX1_goes_23 : decode cX1_goes 23 = .ok (.iload_n 1, 1) := dk_27 (dk_at dksX1_goes_0 23 rfl rfl)
theorem dX1_goes_24 : decode cX1_goes 24 = .ok (.iload_n 3, 1) := dk_29 (dk_at dksX1_goes_1 0 rfl rfl)
theorem dX1_goes_25 : decode cX1_goes 25 = .ok (.invokevirtual 472, 3) := dk_182 1 216 (dk_at dksX1_goes_1 1 rfl rfl)
theorem dX1_goes_28 : decode cX1_goes 28 = .ok (.ifCond .eq 9, 3) := dk_153 0 9 (dk_at dksX1_goes_1 4 rfl rfl)
theorem dX1_goes_31 : decode cX1_goes 31 = .ok (.iload_n 2, 1) := dk_28 (dk_at dksX1_goes_1 7 rfl rfl)
theorem dX1_goes_32 : decode cX1_goes 32 = .ok (.iconst 1, 1) := dk_4 (dk_at dksX1_goes_1 8 rfl rfl)
theorem dX1_goes_33 : decode cX1_goes 33 = .ok (.iload_n 3, 1) := dk_29 (dk_at dksX1_goes_1 9 rfl rfl)
theorem dX1_goes_34 : decode cX1_goes 34 = .ok (.ishl, 1) := dk_120 (dk_at dksX1_goes_1 10 rfl rfl)
theorem dX1_goes_35 : decode cX1_goes 35 = .ok (.ior, 1) := dk_128 (dk_at dksX1_goes_1 11 rfl rfl)
theorem dX1_goes_36 : decode cX1_goes 36 = .ok (.istore_n 2, 1) := dk_61 (dk_at dksX1_goes_1 12 rfl rfl)
theorem dX1_goes_37 : decode cX1_goes 37 = .ok (.iinc 3 1, 3) := dk_132 3 1 (dk_at dksX1_goes_1 13 rfl rfl)
theorem dX1_goes_40 : decode cX1_goes 40 = .ok (.goto (-26), 3) := dk_167 255 230 (dk_at dksX1_goes_1 16 rfl rfl)
theorem dX1_goes_43 : decode cX1_goes 43 = .ok (.iload_n 2, 1) := dk_28 (dk_at dksX1_goes_1 19 rfl rfl)
theorem dX1_goes_44 : decode cX1_goes 44 = .ok (.ireturn, 1) := dk_172 (dk_at dksX1_goes_1 20 rfl rfl)
abbrev cX1_soonest : ByteArray := prog_1_method_129_code
def yX1_soonest : MethodName := ⟨RX1, "soonest", "(I)I"⟩
def dkwX1_soonest_1 : List UInt8 := [182, 1, 87, 182, 1, 121, 154, 0, 5, 28, 172, 132, 2, 1, 167, 255, 231, 2, 172]
abbrev dktX1_soonest_1 : List UInt8 := dkwX1_soonest_1 ++ []
def dkwX1_soonest_0 : List UInt8 := [42, 27, 182, 1, 137, 154, 0, 5, 2, 172, 3, 61, 28, 16, 99, 163, 0, 25, 42, 27, 28, 42, 27]
abbrev dktX1_soonest_0 : List UInt8 := dkwX1_soonest_0 ++ dktX1_soonest_1
theorem dksX1_soonest_0 : cX1_soonest.data.toList.drop 0 = dktX1_soonest_0 := by decide +kernel
theorem dksX1_soonest_1 : cX1_soonest.data.toList.drop 23 = dktX1_soonest_1 := dk_seg dksX1_soonest_0 23 rfl rfl
theorem dX1_soonest_0 : decode cX1_soonest 0 = .ok (.aload_n 0, 1) := dk_42 (dk_at dksX1_soonest_0 0 rfl rfl)
theorem dX1_soonest_1 : decode cX1_soonest 1 = .ok (.iload_n 1, 1) := dk_27 (dk_at dksX1_soonest_0 1 rfl rfl)
theorem dX1_soonest_2 : decode cX1_soonest 2 = .ok (.invokevirtual 393, 3) := dk_182 1 137 (dk_at dksX1_soonest_0 2 rfl rfl)
theorem dX1_soonest_5 : decode cX1_soonest 5 = .ok (.ifCond .ne 5, 3) := dk_154 0 5 (dk_at dksX1_soonest_0 5 rfl rfl)
theorem dX1_soonest_8 : decode cX1_soonest 8 = .ok (.iconst (-1), 1) := dk_2 (dk_at dksX1_soonest_0 8 rfl rfl)
theorem dX1_soonest_9 : decode cX1_soonest 9 = .ok (.ireturn, 1) := dk_172 (dk_at dksX1_soonest_0 9 rfl rfl)
theorem dX1_soonest_10 : decode cX1_soonest 10 = .ok (.iconst 0, 1) := dk_3 (dk_at dksX1_soonest_0 10 rfl rfl)
theorem dX1_soonest_11 : decode cX1_soonest 11 = .ok (.istore_n 2, 1) := dk_61 (dk_at dksX1_soonest_0 11 rfl rfl)
theorem dX1_soonest_12 : decode cX1_soonest 12 = .ok (.iload_n 2, 1) := dk_28 (dk_at dksX1_soonest_0 12 rfl rfl)
theorem dX1_soonest_13 : decode cX1_soonest 13 = .ok (.bipush 99, 2) := dk_16 99 (dk_at dksX1_soonest_0 13 rfl rfl)
theorem dX1_soonest_15 : decode cX1_soonest 15 = .ok (.if_icmp .gt 25, 3) := dk_163 0 25 (dk_at dksX1_soonest_0 15 rfl rfl)
theorem dX1_soonest_18 : decode cX1_soonest 18 = .ok (.aload_n 0, 1) := dk_42 (dk_at dksX1_soonest_0 18 rfl rfl)
theorem dX1_soonest_19 : decode cX1_soonest 19 = .ok (.iload_n 1, 1) := dk_27 (dk_at dksX1_soonest_0 19 rfl rfl)
theorem dX1_soonest_20 : decode cX1_soonest 20 = .ok (.iload_n 2, 1) := dk_28 (dk_at dksX1_soonest_0 20 rfl rfl)
theorem dX1_soonest_21 : decode cX1_soonest 21 = .ok (.aload_n 0, 1) := dk_42 (dk_at dksX1_soonest_0 21 rfl rfl)
theorem dX1_soonest_22 : decode cX1_soonest 22 = .ok (.iload_n 1, 1) := dk_27 (dk_at dksX1_soonest_0 22 rfl rfl)
theorem dX1_soonest_23 : decode cX1_soonest 23 = .ok (.invokevirtual 343, 3) := dk_182 1 87 (dk_at dksX1_soonest_1 0 rfl rfl)
theorem dX1_soonest_26 : decode cX1_soonest 26 = .ok (.invokevirtual 377, 3) := dk_182 1 121 (dk_at dksX1_soonest_1 3 rfl rfl)
theorem dX1_soonest_29 : decode cX1_soonest 29 = .ok (.ifCond .ne 5, 3) := dk_154 0 5 (dk_at dksX1_soonest_1 6 rfl rfl)
theorem dX1_soonest_32 : decode cX1_soonest 32 = .ok (.iload_n 2, 1) := dk_28 (dk_at dksX1_soonest_1 9 rfl rfl)
theorem dX1_soonest_33 : decode cX1_soonest 33 = .ok (.ireturn, 1) := dk_172 (dk_at dksX1_soonest_1 10 rfl rfl)
theorem dX1_soonest_34 : decode cX1_soonest 34 = .ok (.iinc 2 1, 3) := dk_132 2 1 (dk_at dksX1_soonest_1 11 rfl rfl)
theorem dX1_soonest_37 : decode cX1_soonest 37 = .ok (.goto (-25), 3) := dk_167 255 231 (dk_at dksX1_soonest_1 14 rfl rfl)
theorem dX1_soonest_40 : decode cX1_soonest 40 = .ok (.iconst (-1), 1) := dk_2 (dk_at dksX1_soonest_1 17 rfl rfl)
theorem dX1_soonest_41 : decode cX1_soonest 41 = .ok (.ireturn, 1) := dk_172 (dk_at dksX1_soonest_1 18 rfl rfl)
abbrev cX1_monthly : ByteArray := prog_1_method_130_code
def yX1_monthly : MethodName := ⟨RX1, "monthly", "(I)I"⟩
def dkwX1_monthly_2 : List UInt8 := [167, 255, 231, 28, 172]
abbrev dktX1_monthly_2 : List UInt8 := dkwX1_monthly_2 ++ []
def dkwX1_monthly_1 : List UInt8 := [42, 182, 1, 84, 162, 0, 23, 28, 42, 29, 27, 42, 29, 182, 1, 87, 182, 1, 121, 96, 61, 132, 3, 1]
abbrev dktX1_monthly_1 : List UInt8 := dkwX1_monthly_1 ++ dktX1_monthly_2
def dkwX1_monthly_0 : List UInt8 := [42, 182, 1, 128, 153, 0, 13, 27, 3, 16, 60, 184, 0, 246, 154, 0, 5, 2, 172, 3, 61, 3, 62, 29]
abbrev dktX1_monthly_0 : List UInt8 := dkwX1_monthly_0 ++ dktX1_monthly_1
theorem dksX1_monthly_0 : cX1_monthly.data.toList.drop 0 = dktX1_monthly_0 := by decide +kernel
theorem dksX1_monthly_1 : cX1_monthly.data.toList.drop 24 = dktX1_monthly_1 := dk_seg dksX1_monthly_0 24 rfl rfl
theorem dksX1_monthly_2 : cX1_monthly.data.toList.drop 48 = dktX1_monthly_2 := dk_seg dksX1_monthly_1 24 rfl rfl
theorem dX1_monthly_0 : decode cX1_monthly 0 = .ok (.aload_n 0, 1) := dk_42 (dk_at dksX1_monthly_0 0 rfl rfl)
theorem dX1_monthly_1 : decode cX1_monthly 1 = .ok (.invokevirtual 384, 3) := dk_182 1 128 (dk_at dksX1_monthly_0 1 rfl rfl)
theorem dX1_monthly_4 : decode cX1_monthly 4 = .ok (.ifCond .eq 13, 3) := dk_153 0 13 (dk_at dksX1_monthly_0 4 rfl rfl)
theorem dX1_monthly_7 : decode cX1_monthly 7 = .ok (.iload_n 1, 1) := dk_27 (dk_at dksX1_monthly_0 7 rfl rfl)
theorem dX1_monthly_8 : decode cX1_monthly 8 = .ok (.iconst 0, 1) := dk_3 (dk_at dksX1_monthly_0 8 rfl rfl)
theorem dX1_monthly_9 : decode cX1_monthly 9 = .ok (.bipush 60, 2) := dk_16 60 (dk_at dksX1_monthly_0 9 rfl rfl)
theorem dX1_monthly_11 : decode cX1_monthly 11 = .ok (.invokestatic 246, 3) := dk_184 0 246 (dk_at dksX1_monthly_0 11 rfl rfl)
theorem dX1_monthly_14 : decode cX1_monthly 14 = .ok (.ifCond .ne 5, 3) := dk_154 0 5 (dk_at dksX1_monthly_0 14 rfl rfl)
theorem dX1_monthly_17 : decode cX1_monthly 17 = .ok (.iconst (-1), 1) := dk_2 (dk_at dksX1_monthly_0 17 rfl rfl)
theorem dX1_monthly_18 : decode cX1_monthly 18 = .ok (.ireturn, 1) := dk_172 (dk_at dksX1_monthly_0 18 rfl rfl)
theorem dX1_monthly_19 : decode cX1_monthly 19 = .ok (.iconst 0, 1) := dk_3 (dk_at dksX1_monthly_0 19 rfl rfl)
theorem dX1_monthly_20 : decode cX1_monthly 20 = .ok (.istore_n 2, 1) := dk_61 (dk_at dksX1_monthly_0 20 rfl rfl)
theorem dX1_monthly_21 : decode cX1_monthly 21 = .ok (.iconst 0, 1) := dk_3 (dk_at dksX1_monthly_0 21 rfl rfl)
theorem dX1_monthly_22 : decode cX1_monthly 22 = .ok (.istore_n 3, 1) := dk_62 (dk_at dksX1_monthly_0 22 rfl rfl)
theorem dX1_monthly_23 : decode cX1_monthly 23 = .ok (.iload_n 3, 1) := dk_29 (dk_at dksX1_monthly_0 23 rfl rfl)
theorem dX1_monthly_24 : decode cX1_monthly 24 = .ok (.aload_n 0, 1) := dk_42 (dk_at dksX1_monthly_1 0 rfl rfl)
theorem dX1_monthly_25 : decode cX1_monthly 25 = .ok (.invokevirtual 340, 3) := dk_182 1 84 (dk_at dksX1_monthly_1 1 rfl rfl)
theorem dX1_monthly_28 : decode cX1_monthly 28 = .ok (.if_icmp .ge 23, 3) := dk_162 0 23 (dk_at dksX1_monthly_1 4 rfl rfl)
theorem dX1_monthly_31 : decode cX1_monthly 31 = .ok (.iload_n 2, 1) := dk_28 (dk_at dksX1_monthly_1 7 rfl rfl)
theorem dX1_monthly_32 : decode cX1_monthly 32 = .ok (.aload_n 0, 1) := dk_42 (dk_at dksX1_monthly_1 8 rfl rfl)
theorem dX1_monthly_33 : decode cX1_monthly 33 = .ok (.iload_n 3, 1) := dk_29 (dk_at dksX1_monthly_1 9 rfl rfl)
theorem dX1_monthly_34 : decode cX1_monthly 34 = .ok (.iload_n 1, 1) := dk_27 (dk_at dksX1_monthly_1 10 rfl rfl)
theorem dX1_monthly_35 : decode cX1_monthly 35 = .ok (.aload_n 0, 1) := dk_42 (dk_at dksX1_monthly_1 11 rfl rfl)
theorem dX1_monthly_36 : decode cX1_monthly 36 = .ok (.iload_n 3, 1) := dk_29 (dk_at dksX1_monthly_1 12 rfl rfl)
theorem dX1_monthly_37 : decode cX1_monthly 37 = .ok (.invokevirtual 343, 3) := dk_182 1 87 (dk_at dksX1_monthly_1 13 rfl rfl)
theorem dX1_monthly_40 : decode cX1_monthly 40 = .ok (.invokevirtual 377, 3) := dk_182 1 121 (dk_at dksX1_monthly_1 16 rfl rfl)
theorem dX1_monthly_43 : decode cX1_monthly 43 = .ok (.iadd, 1) := dk_96 (dk_at dksX1_monthly_1 19 rfl rfl)
theorem dX1_monthly_44 : decode cX1_monthly 44 = .ok (.istore_n 2, 1) := dk_61 (dk_at dksX1_monthly_1 20 rfl rfl)
theorem dX1_monthly_45 : decode cX1_monthly 45 = .ok (.iinc 3 1, 3) := dk_132 3 1 (dk_at dksX1_monthly_1 21 rfl rfl)
theorem dX1_monthly_48 : decode cX1_monthly 48 = .ok (.goto (-25), 3) := dk_167 255 231 (dk_at dksX1_monthly_2 0 rfl rfl)
theorem dX1_monthly_51 : decode cX1_monthly 51 = .ok (.iload_n 2, 1) := dk_28 (dk_at dksX1_monthly_2 3 rfl rfl)
theorem dX1_monthly_52 : decode cX1_monthly 52 = .ok (.ireturn, 1) := dk_172 (dk_at dksX1_monthly_2 4 rfl rfl)
abbrev cX1_make : ByteArray := prog_1_method_131_code
def yX1_make : MethodName := ⟨RX1, "make", "(II)I"⟩
def dkwX1_make_2 : List UInt8 := [27, 4, 182, 1, 90, 108, 172]
abbrev dktX1_make_2 : List UInt8 := dkwX1_make_2 ++ []
def dkwX1_make_1 : List UInt8 := [182, 1, 90, 112, 154, 0, 16, 28, 42, 27, 4, 182, 1, 90, 108, 16, 9, 164, 0, 5, 2, 172, 28, 42]
abbrev dktX1_make_1 : List UInt8 := dkwX1_make_1 ++ dktX1_make_2
def dkwX1_make_0 : List UInt8 := [42, 27, 182, 1, 131, 153, 0, 37, 28, 4, 16, 81, 184, 0, 246, 153, 0, 27, 28, 42, 27, 4]
abbrev dktX1_make_0 : List UInt8 := dkwX1_make_0 ++ dktX1_make_1
theorem dksX1_make_0 : cX1_make.data.toList.drop 0 = dktX1_make_0 := by decide +kernel
theorem dksX1_make_1 : cX1_make.data.toList.drop 22 = dktX1_make_1 := dk_seg dksX1_make_0 22 rfl rfl
theorem dksX1_make_2 : cX1_make.data.toList.drop 46 = dktX1_make_2 := dk_seg dksX1_make_1 24 rfl rfl
theorem dX1_make_0 : decode cX1_make 0 = .ok (.aload_n 0, 1) := dk_42 (dk_at dksX1_make_0 0 rfl rfl)
theorem dX1_make_1 : decode cX1_make 1 = .ok (.iload_n 1, 1) := dk_27 (dk_at dksX1_make_0 1 rfl rfl)
theorem dX1_make_2 : decode cX1_make 2 = .ok (.invokevirtual 387, 3) := dk_182 1 131 (dk_at dksX1_make_0 2 rfl rfl)
theorem dX1_make_5 : decode cX1_make 5 = .ok (.ifCond .eq 37, 3) := dk_153 0 37 (dk_at dksX1_make_0 5 rfl rfl)
theorem dX1_make_8 : decode cX1_make 8 = .ok (.iload_n 2, 1) := dk_28 (dk_at dksX1_make_0 8 rfl rfl)
theorem dX1_make_9 : decode cX1_make 9 = .ok (.iconst 1, 1) := dk_4 (dk_at dksX1_make_0 9 rfl rfl)
theorem dX1_make_10 : decode cX1_make 10 = .ok (.bipush 81, 2) := dk_16 81 (dk_at dksX1_make_0 10 rfl rfl)
theorem dX1_make_12 : decode cX1_make 12 = .ok (.invokestatic 246, 3) := dk_184 0 246 (dk_at dksX1_make_0 12 rfl rfl)
theorem dX1_make_15 : decode cX1_make 15 = .ok (.ifCond .eq 27, 3) := dk_153 0 27 (dk_at dksX1_make_0 15 rfl rfl)
theorem dX1_make_18 : decode cX1_make 18 = .ok (.iload_n 2, 1) := dk_28 (dk_at dksX1_make_0 18 rfl rfl)
theorem dX1_make_19 : decode cX1_make 19 = .ok (.aload_n 0, 1) := dk_42 (dk_at dksX1_make_0 19 rfl rfl)
theorem dX1_make_20 : decode cX1_make 20 = .ok (.iload_n 1, 1) := dk_27 (dk_at dksX1_make_0 20 rfl rfl)
theorem dX1_make_21 : decode cX1_make 21 = .ok (.iconst 1, 1) := dk_4 (dk_at dksX1_make_0 21 rfl rfl)
theorem dX1_make_22 : decode cX1_make 22 = .ok (.invokevirtual 346, 3) := dk_182 1 90 (dk_at dksX1_make_1 0 rfl rfl)
theorem dX1_make_25 : decode cX1_make 25 = .ok (.irem, 1) := dk_112 (dk_at dksX1_make_1 3 rfl rfl)
theorem dX1_make_26 : decode cX1_make 26 = .ok (.ifCond .ne 16, 3) := dk_154 0 16 (dk_at dksX1_make_1 4 rfl rfl)
theorem dX1_make_29 : decode cX1_make 29 = .ok (.iload_n 2, 1) := dk_28 (dk_at dksX1_make_1 7 rfl rfl)
theorem dX1_make_30 : decode cX1_make 30 = .ok (.aload_n 0, 1) := dk_42 (dk_at dksX1_make_1 8 rfl rfl)
theorem dX1_make_31 : decode cX1_make 31 = .ok (.iload_n 1, 1) := dk_27 (dk_at dksX1_make_1 9 rfl rfl)
theorem dX1_make_32 : decode cX1_make 32 = .ok (.iconst 1, 1) := dk_4 (dk_at dksX1_make_1 10 rfl rfl)
theorem dX1_make_33 : decode cX1_make 33 = .ok (.invokevirtual 346, 3) := dk_182 1 90 (dk_at dksX1_make_1 11 rfl rfl)
theorem dX1_make_36 : decode cX1_make 36 = .ok (.idiv, 1) := dk_108 (dk_at dksX1_make_1 14 rfl rfl)
theorem dX1_make_37 : decode cX1_make 37 = .ok (.bipush 9, 2) := dk_16 9 (dk_at dksX1_make_1 15 rfl rfl)
theorem dX1_make_39 : decode cX1_make 39 = .ok (.if_icmp .le 5, 3) := dk_164 0 5 (dk_at dksX1_make_1 17 rfl rfl)
theorem dX1_make_42 : decode cX1_make 42 = .ok (.iconst (-1), 1) := dk_2 (dk_at dksX1_make_1 20 rfl rfl)
theorem dX1_make_43 : decode cX1_make 43 = .ok (.ireturn, 1) := dk_172 (dk_at dksX1_make_1 21 rfl rfl)
theorem dX1_make_44 : decode cX1_make 44 = .ok (.iload_n 2, 1) := dk_28 (dk_at dksX1_make_1 22 rfl rfl)
theorem dX1_make_45 : decode cX1_make 45 = .ok (.aload_n 0, 1) := dk_42 (dk_at dksX1_make_1 23 rfl rfl)
theorem dX1_make_46 : decode cX1_make 46 = .ok (.iload_n 1, 1) := dk_27 (dk_at dksX1_make_2 0 rfl rfl)
theorem dX1_make_47 : decode cX1_make 47 = .ok (.iconst 1, 1) := dk_4 (dk_at dksX1_make_2 1 rfl rfl)
theorem dX1_make_48 : decode cX1_make 48 = .ok (.invokevirtual 346, 3) := dk_182 1 90 (dk_at dksX1_make_2 2 rfl rfl)
theorem dX1_make_51 : decode cX1_make 51 = .ok (.idiv, 1) := dk_108 (dk_at dksX1_make_2 5 rfl rfl)
theorem dX1_make_52 : decode cX1_make 52 = .ok (.ireturn, 1) := dk_172 (dk_at dksX1_make_2 6 rfl rfl)
abbrev cX1_image : ByteArray := prog_1_method_132_code
def yX1_image : MethodName := ⟨RX1, "image", "()I"⟩
def dkwX1_image_2 : List UInt8 := [172]
abbrev dktX1_image_2 : List UInt8 := dkwX1_image_2 ++ []
def dkwX1_image_1 : List UInt8 := [180, 0, 58, 27, 46, 79, 132, 1, 1, 167, 255, 234, 42, 4, 181, 1, 80, 42, 180, 0, 58, 16, 33, 46]
abbrev dktX1_image_1 : List UInt8 := dkwX1_image_1 ++ dktX1_image_2
def dkwX1_image_0 : List UInt8 := [42, 182, 1, 128, 154, 0, 5, 2, 172, 3, 60, 27, 17, 1, 19, 162, 0, 21, 42, 180, 0, 95, 27, 42]
abbrev dktX1_image_0 : List UInt8 := dkwX1_image_0 ++ dktX1_image_1
theorem dksX1_image_0 : cX1_image.data.toList.drop 0 = dktX1_image_0 := by decide +kernel
theorem dksX1_image_1 : cX1_image.data.toList.drop 24 = dktX1_image_1 := dk_seg dksX1_image_0 24 rfl rfl
theorem dksX1_image_2 : cX1_image.data.toList.drop 48 = dktX1_image_2 := dk_seg dksX1_image_1 24 rfl rfl
theorem dX1_image_0 : decode cX1_image 0 = .ok (.aload_n 0, 1) := dk_42 (dk_at dksX1_image_0 0 rfl rfl)
theorem dX1_image_1 : decode cX1_image 1 = .ok (.invokevirtual 384, 3) := dk_182 1 128 (dk_at dksX1_image_0 1 rfl rfl)
theorem dX1_image_4 : decode cX1_image 4 = .ok (.ifCond .ne 5, 3) := dk_154 0 5 (dk_at dksX1_image_0 4 rfl rfl)
theorem dX1_image_7 : decode cX1_image 7 = .ok (.iconst (-1), 1) := dk_2 (dk_at dksX1_image_0 7 rfl rfl)
theorem dX1_image_8 : decode cX1_image 8 = .ok (.ireturn, 1) := dk_172 (dk_at dksX1_image_0 8 rfl rfl)
theorem dX1_image_9 : decode cX1_image 9 = .ok (.iconst 0, 1) := dk_3 (dk_at dksX1_image_0 9 rfl rfl)
theorem dX1_image_10 : decode cX1_image 10 = .ok (.istore_n 1, 1) := dk_60 (dk_at dksX1_image_0 10 rfl rfl)
theorem dX1_image_11 : decode cX1_image 11 = .ok (.iload_n 1, 1) := dk_27 (dk_at dksX1_image_0 11 rfl rfl)
theorem dX1_image_12 : decode cX1_image 12 = .ok (.sipush 275, 3) := dk_17 1 19 (dk_at dksX1_image_0 12 rfl rfl)
theorem dX1_image_15 : decode cX1_image 15 = .ok (.if_icmp .ge 21, 3) := dk_162 0 21 (dk_at dksX1_image_0 15 rfl rfl)
theorem dX1_image_18 : decode cX1_image 18 = .ok (.aload_n 0, 1) := dk_42 (dk_at dksX1_image_0 18 rfl rfl)
theorem dX1_image_19 : decode cX1_image 19 = .ok (.getfield 95, 3) := dk_180 0 95 (dk_at dksX1_image_0 19 rfl rfl)
theorem dX1_image_22 : decode cX1_image 22 = .ok (.iload_n 1, 1) := dk_27 (dk_at dksX1_image_0 22 rfl rfl)
theorem dX1_image_23 : decode cX1_image 23 = .ok (.aload_n 0, 1) := dk_42 (dk_at dksX1_image_0 23 rfl rfl)
theorem dX1_image_24 : decode cX1_image 24 = .ok (.getfield 58, 3) := dk_180 0 58 (dk_at dksX1_image_1 0 rfl rfl)
theorem dX1_image_27 : decode cX1_image 27 = .ok (.iload_n 1, 1) := dk_27 (dk_at dksX1_image_1 3 rfl rfl)
theorem dX1_image_28 : decode cX1_image 28 = .ok (.iaload, 1) := dk_46 (dk_at dksX1_image_1 4 rfl rfl)
theorem dX1_image_29 : decode cX1_image 29 = .ok (.iastore, 1) := dk_79 (dk_at dksX1_image_1 5 rfl rfl)
theorem dX1_image_30 : decode cX1_image 30 = .ok (.iinc 1 1, 3) := dk_132 1 1 (dk_at dksX1_image_1 6 rfl rfl)
theorem dX1_image_33 : decode cX1_image 33 = .ok (.goto (-22), 3) := dk_167 255 234 (dk_at dksX1_image_1 9 rfl rfl)
theorem dX1_image_36 : decode cX1_image 36 = .ok (.aload_n 0, 1) := dk_42 (dk_at dksX1_image_1 12 rfl rfl)
theorem dX1_image_37 : decode cX1_image 37 = .ok (.iconst 1, 1) := dk_4 (dk_at dksX1_image_1 13 rfl rfl)
theorem dX1_image_38 : decode cX1_image 38 = .ok (.putfield 336, 3) := dk_181 1 80 (dk_at dksX1_image_1 14 rfl rfl)
theorem dX1_image_41 : decode cX1_image 41 = .ok (.aload_n 0, 1) := dk_42 (dk_at dksX1_image_1 17 rfl rfl)
theorem dX1_image_42 : decode cX1_image 42 = .ok (.getfield 58, 3) := dk_180 0 58 (dk_at dksX1_image_1 18 rfl rfl)
theorem dX1_image_45 : decode cX1_image 45 = .ok (.bipush 33, 2) := dk_16 33 (dk_at dksX1_image_1 21 rfl rfl)
theorem dX1_image_47 : decode cX1_image 47 = .ok (.iaload, 1) := dk_46 (dk_at dksX1_image_1 23 rfl rfl)
theorem dX1_image_48 : decode cX1_image 48 = .ok (.ireturn, 1) := dk_172 (dk_at dksX1_image_2 0 rfl rfl)
abbrev cX1_back : ByteArray := prog_1_method_133_code
def yX1_back : MethodName := ⟨RX1, "back", "()I"⟩
def dkwX1_back_2 : List UInt8 := [172]
abbrev dktX1_back_2 : List UInt8 := dkwX1_back_2 ++ []
def dkwX1_back_1 : List UInt8 := [180, 0, 95, 27, 46, 79, 132, 1, 1, 167, 255, 234, 42, 3, 181, 1, 77, 42, 180, 0, 58, 16, 33, 46]
abbrev dktX1_back_1 : List UInt8 := dkwX1_back_1 ++ dktX1_back_2
def dkwX1_back_0 : List UInt8 := [42, 180, 1, 80, 154, 0, 5, 2, 172, 3, 60, 27, 17, 1, 19, 162, 0, 21, 42, 180, 0, 58, 27, 42]
abbrev dktX1_back_0 : List UInt8 := dkwX1_back_0 ++ dktX1_back_1
theorem dksX1_back_0 : cX1_back.data.toList.drop 0 = dktX1_back_0 := by decide +kernel
theorem dksX1_back_1 : cX1_back.data.toList.drop 24 = dktX1_back_1 := dk_seg dksX1_back_0 24 rfl rfl
theorem dksX1_back_2 : cX1_back.data.toList.drop 48 = dktX1_back_2 := dk_seg dksX1_back_1 24 rfl rfl
theorem dX1_back_0 : decode cX1_back 0 = .ok (.aload_n 0, 1) := dk_42 (dk_at dksX1_back_0 0 rfl rfl)
theorem dX1_back_1 : decode cX1_back 1 = .ok (.getfield 336, 3) := dk_180 1 80 (dk_at dksX1_back_0 1 rfl rfl)
theorem dX1_back_4 : decode cX1_back 4 = .ok (.ifCond .ne 5, 3) := dk_154 0 5 (dk_at dksX1_back_0 4 rfl rfl)
theorem dX1_back_7 : decode cX1_back 7 = .ok (.iconst (-1), 1) := dk_2 (dk_at dksX1_back_0 7 rfl rfl)
theorem dX1_back_8 : decode cX1_back 8 = .ok (.ireturn, 1) := dk_172 (dk_at dksX1_back_0 8 rfl rfl)
theorem dX1_back_9 : decode cX1_back 9 = .ok (.iconst 0, 1) := dk_3 (dk_at dksX1_back_0 9 rfl rfl)
theorem dX1_back_10 : decode cX1_back 10 = .ok (.istore_n 1, 1) := dk_60 (dk_at dksX1_back_0 10 rfl rfl)
theorem dX1_back_11 : decode cX1_back 11 = .ok (.iload_n 1, 1) := dk_27 (dk_at dksX1_back_0 11 rfl rfl)
theorem dX1_back_12 : decode cX1_back 12 = .ok (.sipush 275, 3) := dk_17 1 19 (dk_at dksX1_back_0 12 rfl rfl)
theorem dX1_back_15 : decode cX1_back 15 = .ok (.if_icmp .ge 21, 3) := dk_162 0 21 (dk_at dksX1_back_0 15 rfl rfl)
theorem dX1_back_18 : decode cX1_back 18 = .ok (.aload_n 0, 1) := dk_42 (dk_at dksX1_back_0 18 rfl rfl)
theorem dX1_back_19 : decode cX1_back 19 = .ok (.getfield 58, 3) := dk_180 0 58 (dk_at dksX1_back_0 19 rfl rfl)
theorem dX1_back_22 : decode cX1_back 22 = .ok (.iload_n 1, 1) := dk_27 (dk_at dksX1_back_0 22 rfl rfl)
theorem dX1_back_23 : decode cX1_back 23 = .ok (.aload_n 0, 1) := dk_42 (dk_at dksX1_back_0 23 rfl rfl)
theorem dX1_back_24 : decode cX1_back 24 = .ok (.getfield 95, 3) := dk_180 0 95 (dk_at dksX1_back_1 0 rfl rfl)
theorem dX1_back_27 : decode cX1_back 27 = .ok (.iload_n 1, 1) := dk_27 (dk_at dksX1_back_1 3 rfl rfl)
theorem dX1_back_28 : decode cX1_back 28 = .ok (.iaload, 1) := dk_46 (dk_at dksX1_back_1 4 rfl rfl)
theorem dX1_back_29 : decode cX1_back 29 = .ok (.iastore, 1) := dk_79 (dk_at dksX1_back_1 5 rfl rfl)
theorem dX1_back_30 : decode cX1_back 30 = .ok (.iinc 1 1, 3) := dk_132 1 1 (dk_at dksX1_back_1 6 rfl rfl)
theorem dX1_back_33 : decode cX1_back 33 = .ok (.goto (-22), 3) := dk_167 255 234 (dk_at dksX1_back_1 9 rfl rfl)
theorem dX1_back_36 : decode cX1_back 36 = .ok (.aload_n 0, 1) := dk_42 (dk_at dksX1_back_1 12 rfl rfl)
theorem dX1_back_37 : decode cX1_back 37 = .ok (.iconst 0, 1) := dk_3 (dk_at dksX1_back_1 13 rfl rfl)
theorem dX1_back_38 : decode cX1_back 38 = .ok (.putfield 333, 3) := dk_181 1 77 (dk_at dksX1_back_1 14 rfl rfl)
theorem dX1_back_41 : decode cX1_back 41 = .ok (.aload_n 0, 1) := dk_42 (dk_at dksX1_back_1 17 rfl rfl)
theorem dX1_back_42 : decode cX1_back 42 = .ok (.getfield 58, 3) := dk_180 0 58 (dk_at dksX1_back_1 18 rfl rfl)
theorem dX1_back_45 : decode cX1_back 45 = .ok (.bipush 33, 2) := dk_16 33 (dk_at dksX1_back_1 21 rfl rfl)
theorem dX1_back_47 : decode cX1_back 47 = .ok (.iaload, 1) := dk_46 (dk_at dksX1_back_1 23 rfl rfl)
theorem dX1_back_48 : decode cX1_back 48 = .ok (.ireturn, 1) := dk_172 (dk_at dksX1_back_2 0 rfl rfl)
abbrev cX1_count : ByteArray := prog_1_method_135_code
def yX1_count : MethodName := ⟨RX1, "count", "(I)I"⟩
def dkwX1_count_5 : List UInt8 := [16, 34, 46, 172, 42, 180, 1, 77, 172, 19, 1, 200, 172]
abbrev dktX1_count_5 : List UInt8 := dkwX1_count_5 ++ []
def dkwX1_count_4 : List UInt8 := [42, 180, 0, 55, 172, 42, 180, 1, 71, 172, 42, 180, 1, 74, 172, 42, 182, 2, 43, 172, 42, 180, 0, 58]
abbrev dktX1_count_4 : List UInt8 := dkwX1_count_4 ++ dktX1_count_5
def dkwX1_count_3 : List UInt8 := [172, 42, 180, 0, 51, 172, 42, 180, 0, 58, 16, 33, 46, 172, 42, 182, 1, 149, 172, 42, 182, 1, 252, 172]
abbrev dktX1_count_3 : List UInt8 := dkwX1_count_3 ++ dktX1_count_4
def dkwX1_count_2 : List UInt8 := [42, 180, 1, 68, 172, 42, 182, 1, 84, 172, 42, 180, 1, 54, 172, 42, 180, 1, 57, 172, 42, 180, 0, 102]
abbrev dktX1_count_2 : List UInt8 := dkwX1_count_2 ++ dktX1_count_3
def dkwX1_count_1 : List UInt8 := [170, 0, 0, 0, 0, 0, 156, 0, 0, 0, 0, 0, 0, 0, 14, 0, 0, 0, 75, 0, 0, 0, 80, 0, 0, 0, 85, 0, 0, 0, 90, 0, 0, 0, 95, 0, 0, 0, 100, 0, 0, 0, 105, 0, 0, 0, 113, 0, 0, 0, 118, 0, 0, 0, 123, 0, 0, 0, 128, 0, 0, 0, 133, 0, 0, 0, 138, 0, 0, 0, 143, 0, 0, 0, 151]
abbrev dktX1_count_1 : List UInt8 := dkwX1_count_1 ++ dktX1_count_2
def dkwX1_count_0 : List UInt8 := [27]
abbrev dktX1_count_0 : List UInt8 := dkwX1_count_0 ++ dktX1_count_1
theorem dksX1_count_0 : cX1_count.data.toList.drop 0 = dktX1_count_0 := by decide +kernel
theorem dksX1_count_1 : cX1_count.data.toList.drop 1 = dktX1_count_1 := dk_seg dksX1_count_0 1 rfl rfl
theorem dksX1_count_2 : cX1_count.data.toList.drop 76 = dktX1_count_2 := dk_seg dksX1_count_1 75 rfl rfl
theorem dksX1_count_3 : cX1_count.data.toList.drop 100 = dktX1_count_3 := dk_seg dksX1_count_2 24 rfl rfl
theorem dksX1_count_4 : cX1_count.data.toList.drop 124 = dktX1_count_4 := dk_seg dksX1_count_3 24 rfl rfl
theorem dksX1_count_5 : cX1_count.data.toList.drop 148 = dktX1_count_5 := dk_seg dksX1_count_4 24 rfl rfl
theorem dX1_count_0 : decode cX1_count 0 = .ok (.iload_n 1, 1) := dk_27 (dk_at dksX1_count_0 0 rfl rfl)
theorem dX1_count_1 : decode cX1_count 1 = .ok (.tableswitch 156 0 14 #[75, 80, 85, 90, 95, 100, 105, 113, 118, 123, 128, 133, 138, 143, 151], 75) := by decide +kernel
theorem dX1_count_76 : decode cX1_count 76 = .ok (.aload_n 0, 1) := dk_42 (dk_at dksX1_count_2 0 rfl rfl)
theorem dX1_count_77 : decode cX1_count 77 = .ok (.getfield 324, 3) := dk_180 1 68 (dk_at dksX1_count_2 1 rfl rfl)
theorem dX1_count_80 : decode cX1_count 80 = .ok (.ireturn, 1) := dk_172 (dk_at dksX1_count_2 4 rfl rfl)
theorem dX1_count_81 : decode cX1_count 81 = .ok (.aload_n 0, 1) := dk_42 (dk_at dksX1_count_2 5 rfl rfl)
theorem dX1_count_82 : decode cX1_count 82 = .ok (.invokevirtual 340, 3) := dk_182 1 84 (dk_at dksX1_count_2 6 rfl rfl)
theorem dX1_count_85 : decode cX1_count 85 = .ok (.ireturn, 1) := dk_172 (dk_at dksX1_count_2 9 rfl rfl)
theorem dX1_count_86 : decode cX1_count 86 = .ok (.aload_n 0, 1) := dk_42 (dk_at dksX1_count_2 10 rfl rfl)
theorem dX1_count_87 : decode cX1_count 87 = .ok (.getfield 310, 3) := dk_180 1 54 (dk_at dksX1_count_2 11 rfl rfl)
theorem dX1_count_90 : decode cX1_count 90 = .ok (.ireturn, 1) := dk_172 (dk_at dksX1_count_2 14 rfl rfl)
theorem dX1_count_91 : decode cX1_count 91 = .ok (.aload_n 0, 1) := dk_42 (dk_at dksX1_count_2 15 rfl rfl)
theorem dX1_count_92 : decode cX1_count 92 = .ok (.getfield 313, 3) := dk_180 1 57 (dk_at dksX1_count_2 16 rfl rfl)
theorem dX1_count_95 : decode cX1_count 95 = .ok (.ireturn, 1) := dk_172 (dk_at dksX1_count_2 19 rfl rfl)
theorem dX1_count_96 : decode cX1_count 96 = .ok (.aload_n 0, 1) := dk_42 (dk_at dksX1_count_2 20 rfl rfl)
theorem dX1_count_97 : decode cX1_count 97 = .ok (.getfield 102, 3) := dk_180 0 102 (dk_at dksX1_count_2 21 rfl rfl)
theorem dX1_count_100 : decode cX1_count 100 = .ok (.ireturn, 1) := dk_172 (dk_at dksX1_count_3 0 rfl rfl)
theorem dX1_count_101 : decode cX1_count 101 = .ok (.aload_n 0, 1) := dk_42 (dk_at dksX1_count_3 1 rfl rfl)
theorem dX1_count_102 : decode cX1_count 102 = .ok (.getfield 51, 3) := dk_180 0 51 (dk_at dksX1_count_3 2 rfl rfl)
theorem dX1_count_105 : decode cX1_count 105 = .ok (.ireturn, 1) := dk_172 (dk_at dksX1_count_3 5 rfl rfl)
theorem dX1_count_106 : decode cX1_count 106 = .ok (.aload_n 0, 1) := dk_42 (dk_at dksX1_count_3 6 rfl rfl)
theorem dX1_count_107 : decode cX1_count 107 = .ok (.getfield 58, 3) := dk_180 0 58 (dk_at dksX1_count_3 7 rfl rfl)
theorem dX1_count_110 : decode cX1_count 110 = .ok (.bipush 33, 2) := dk_16 33 (dk_at dksX1_count_3 10 rfl rfl)
theorem dX1_count_112 : decode cX1_count 112 = .ok (.iaload, 1) := dk_46 (dk_at dksX1_count_3 12 rfl rfl)
theorem dX1_count_113 : decode cX1_count 113 = .ok (.ireturn, 1) := dk_172 (dk_at dksX1_count_3 13 rfl rfl)
theorem dX1_count_114 : decode cX1_count 114 = .ok (.aload_n 0, 1) := dk_42 (dk_at dksX1_count_3 14 rfl rfl)
theorem dX1_count_115 : decode cX1_count 115 = .ok (.invokevirtual 405, 3) := dk_182 1 149 (dk_at dksX1_count_3 15 rfl rfl)
theorem dX1_count_118 : decode cX1_count 118 = .ok (.ireturn, 1) := dk_172 (dk_at dksX1_count_3 18 rfl rfl)
theorem dX1_count_119 : decode cX1_count 119 = .ok (.aload_n 0, 1) := dk_42 (dk_at dksX1_count_3 19 rfl rfl)
theorem dX1_count_120 : decode cX1_count 120 = .ok (.invokevirtual 508, 3) := dk_182 1 252 (dk_at dksX1_count_3 20 rfl rfl)
theorem dX1_count_123 : decode cX1_count 123 = .ok (.ireturn, 1) := dk_172 (dk_at dksX1_count_3 23 rfl rfl)
theorem dX1_count_124 : decode cX1_count 124 = .ok (.aload_n 0, 1) := dk_42 (dk_at dksX1_count_4 0 rfl rfl)
theorem dX1_count_125 : decode cX1_count 125 = .ok (.getfield 55, 3) := dk_180 0 55 (dk_at dksX1_count_4 1 rfl rfl)
theorem dX1_count_128 : decode cX1_count 128 = .ok (.ireturn, 1) := dk_172 (dk_at dksX1_count_4 4 rfl rfl)
theorem dX1_count_129 : decode cX1_count 129 = .ok (.aload_n 0, 1) := dk_42 (dk_at dksX1_count_4 5 rfl rfl)
theorem dX1_count_130 : decode cX1_count 130 = .ok (.getfield 327, 3) := dk_180 1 71 (dk_at dksX1_count_4 6 rfl rfl)
theorem dX1_count_133 : decode cX1_count 133 = .ok (.ireturn, 1) := dk_172 (dk_at dksX1_count_4 9 rfl rfl)
theorem dX1_count_134 : decode cX1_count 134 = .ok (.aload_n 0, 1) := dk_42 (dk_at dksX1_count_4 10 rfl rfl)
theorem dX1_count_135 : decode cX1_count 135 = .ok (.getfield 330, 3) := dk_180 1 74 (dk_at dksX1_count_4 11 rfl rfl)
theorem dX1_count_138 : decode cX1_count 138 = .ok (.ireturn, 1) := dk_172 (dk_at dksX1_count_4 14 rfl rfl)
theorem dX1_count_139 : decode cX1_count 139 = .ok (.aload_n 0, 1) := dk_42 (dk_at dksX1_count_4 15 rfl rfl)
theorem dX1_count_140 : decode cX1_count 140 = .ok (.invokevirtual 555, 3) := dk_182 2 43 (dk_at dksX1_count_4 16 rfl rfl)
theorem dX1_count_143 : decode cX1_count 143 = .ok (.ireturn, 1) := dk_172 (dk_at dksX1_count_4 19 rfl rfl)
theorem dX1_count_144 : decode cX1_count 144 = .ok (.aload_n 0, 1) := dk_42 (dk_at dksX1_count_4 20 rfl rfl)
theorem dX1_count_145 : decode cX1_count 145 = .ok (.getfield 58, 3) := dk_180 0 58 (dk_at dksX1_count_4 21 rfl rfl)
theorem dX1_count_148 : decode cX1_count 148 = .ok (.bipush 34, 2) := dk_16 34 (dk_at dksX1_count_5 0 rfl rfl)
theorem dX1_count_150 : decode cX1_count 150 = .ok (.iaload, 1) := dk_46 (dk_at dksX1_count_5 2 rfl rfl)
theorem dX1_count_151 : decode cX1_count 151 = .ok (.ireturn, 1) := dk_172 (dk_at dksX1_count_5 3 rfl rfl)
theorem dX1_count_152 : decode cX1_count 152 = .ok (.aload_n 0, 1) := dk_42 (dk_at dksX1_count_5 4 rfl rfl)
theorem dX1_count_153 : decode cX1_count 153 = .ok (.getfield 333, 3) := dk_180 1 77 (dk_at dksX1_count_5 5 rfl rfl)
theorem dX1_count_156 : decode cX1_count 156 = .ok (.ireturn, 1) := dk_172 (dk_at dksX1_count_5 8 rfl rfl)
theorem dX1_count_157 : decode cX1_count 157 = .ok (.ldc_w 456, 3) := dk_19 1 200 (dk_at dksX1_count_5 9 rfl rfl)
theorem dX1_count_160 : decode cX1_count 160 = .ok (.ireturn, 1) := dk_172 (dk_at dksX1_count_5 12 rfl rfl)
abbrev cX1_eatenAll : ByteArray := prog_1_method_134_code
def yX1_eatenAll : MethodName := ⟨RX1, "eatenAll", "()I"⟩
def dkwX1_eatenAll_1 : List UInt8 := [104, 96, 6, 96, 46, 96, 60, 132, 2, 1, 167, 255, 226, 27, 172]
abbrev dktX1_eatenAll_1 : List UInt8 := dkwX1_eatenAll_1 ++ []
def dkwX1_eatenAll_0 : List UInt8 := [3, 60, 3, 61, 28, 42, 180, 0, 58, 16, 34, 46, 162, 0, 25, 27, 42, 180, 0, 58, 16, 35, 7, 28]
abbrev dktX1_eatenAll_0 : List UInt8 := dkwX1_eatenAll_0 ++ dktX1_eatenAll_1
theorem dksX1_eatenAll_0 : cX1_eatenAll.data.toList.drop 0 = dktX1_eatenAll_0 := by decide +kernel
theorem dksX1_eatenAll_1 : cX1_eatenAll.data.toList.drop 24 = dktX1_eatenAll_1 := dk_seg dksX1_eatenAll_0 24 rfl rfl
theorem dX1_eatenAll_0 : decode cX1_eatenAll 0 = .ok (.iconst 0, 1) := dk_3 (dk_at dksX1_eatenAll_0 0 rfl rfl)
theorem dX1_eatenAll_1 : decode cX1_eatenAll 1 = .ok (.istore_n 1, 1) := dk_60 (dk_at dksX1_eatenAll_0 1 rfl rfl)
theorem dX1_eatenAll_2 : decode cX1_eatenAll 2 = .ok (.iconst 0, 1) := dk_3 (dk_at dksX1_eatenAll_0 2 rfl rfl)
theorem dX1_eatenAll_3 : decode cX1_eatenAll 3 = .ok (.istore_n 2, 1) := dk_61 (dk_at dksX1_eatenAll_0 3 rfl rfl)
theorem dX1_eatenAll_4 : decode cX1_eatenAll 4 = .ok (.iload_n 2, 1) := dk_28 (dk_at dksX1_eatenAll_0 4 rfl rfl)
theorem dX1_eatenAll_5 : decode cX1_eatenAll 5 = .ok (.aload_n 0, 1) := dk_42 (dk_at dksX1_eatenAll_0 5 rfl rfl)
theorem dX1_eatenAll_6 : decode cX1_eatenAll 6 = .ok (.getfield 58, 3) := dk_180 0 58 (dk_at dksX1_eatenAll_0 6 rfl rfl)
theorem dX1_eatenAll_9 : decode cX1_eatenAll 9 = .ok (.bipush 34, 2) := dk_16 34 (dk_at dksX1_eatenAll_0 9 rfl rfl)
theorem dX1_eatenAll_11 : decode cX1_eatenAll 11 = .ok (.iaload, 1) := dk_46 (dk_at dksX1_eatenAll_0 11 rfl rfl)
theorem dX1_eatenAll_12 : decode cX1_eatenAll 12 = .ok (.if_icmp .ge 25, 3) := dk_162 0 25 (dk_at dksX1_eatenAll_0 12 rfl rfl)
theorem dX1_eatenAll_15 : decode cX1_eatenAll 15 = .ok (.iload_n 1, 1) := dk_27 (dk_at dksX1_eatenAll_0 15 rfl rfl)
theorem dX1_eatenAll_16 : decode cX1_eatenAll 16 = .ok (.aload_n 0, 1) := dk_42 (dk_at dksX1_eatenAll_0 16 rfl rfl)
theorem dX1_eatenAll_17 : decode cX1_eatenAll 17 = .ok (.getfield 58, 3) := dk_180 0 58 (dk_at dksX1_eatenAll_0 17 rfl rfl)
theorem dX1_eatenAll_20 : decode cX1_eatenAll 20 = .ok (.bipush 35, 2) := dk_16 35 (dk_at dksX1_eatenAll_0 20 rfl rfl)
theorem dX1_eatenAll_22 : decode cX1_eatenAll 22 = .ok (.iconst 4, 1) := dk_7 (dk_at dksX1_eatenAll_0 22 rfl rfl)
theorem dX1_eatenAll_23 : decode cX1_eatenAll 23 = .ok (.iload_n 2, 1) := dk_28 (dk_at dksX1_eatenAll_0 23 rfl rfl)
theorem dX1_eatenAll_24 : decode cX1_eatenAll 24 = .ok (.imul, 1) := dk_104 (dk_at dksX1_eatenAll_1 0 rfl rfl)
theorem dX1_eatenAll_25 : decode cX1_eatenAll 25 = .ok (.iadd, 1) := dk_96 (dk_at dksX1_eatenAll_1 1 rfl rfl)
theorem dX1_eatenAll_26 : decode cX1_eatenAll 26 = .ok (.iconst 3, 1) := dk_6 (dk_at dksX1_eatenAll_1 2 rfl rfl)
theorem dX1_eatenAll_27 : decode cX1_eatenAll 27 = .ok (.iadd, 1) := dk_96 (dk_at dksX1_eatenAll_1 3 rfl rfl)
theorem dX1_eatenAll_28 : decode cX1_eatenAll 28 = .ok (.iaload, 1) := dk_46 (dk_at dksX1_eatenAll_1 4 rfl rfl)
theorem dX1_eatenAll_29 : decode cX1_eatenAll 29 = .ok (.iadd, 1) := dk_96 (dk_at dksX1_eatenAll_1 5 rfl rfl)
theorem dX1_eatenAll_30 : decode cX1_eatenAll 30 = .ok (.istore_n 1, 1) := dk_60 (dk_at dksX1_eatenAll_1 6 rfl rfl)
theorem dX1_eatenAll_31 : decode cX1_eatenAll 31 = .ok (.iinc 2 1, 3) := dk_132 2 1 (dk_at dksX1_eatenAll_1 7 rfl rfl)
theorem dX1_eatenAll_34 : decode cX1_eatenAll 34 = .ok (.goto (-30), 3) := dk_167 255 226 (dk_at dksX1_eatenAll_1 10 rfl rfl)
theorem dX1_eatenAll_37 : decode cX1_eatenAll 37 = .ok (.iload_n 1, 1) := dk_27 (dk_at dksX1_eatenAll_1 13 rfl rfl)
theorem dX1_eatenAll_38 : decode cX1_eatenAll 38 = .ok (.ireturn, 1) := dk_172 (dk_at dksX1_eatenAll_1 14 rfl rfl)
abbrev cX1_box : ByteArray := prog_1_method_61_code
def yX1_box : MethodName := ⟨RX1, "box", "(II)I"⟩
def dkwX1_box_4 : List UInt8 := [182, 1, 146, 172, 42, 27, 182, 1, 87, 172, 42, 27, 28, 182, 1, 93, 172]
abbrev dktX1_box_4 : List UInt8 := dkwX1_box_4 ++ []
def dkwX1_box_3 : List UInt8 := [42, 27, 182, 1, 143, 153, 0, 7, 4, 167, 0, 4, 3, 172, 42, 27, 182, 1, 125, 172, 42, 27]
abbrev dktX1_box_3 : List UInt8 := dkwX1_box_3 ++ dktX1_box_4
def dkwX1_box_2 : List UInt8 := [170, 0, 0, 0, 61, 0, 0, 0, 3, 0, 0, 0, 6, 0, 0, 0, 29, 0, 0, 0, 43, 0, 0, 0, 49, 0, 0, 0, 55]
abbrev dktX1_box_2 : List UInt8 := dkwX1_box_2 ++ dktX1_box_3
def dkwX1_box_1 : List UInt8 := [183, 1, 142, 191, 28]
abbrev dktX1_box_1 : List UInt8 := dkwX1_box_1 ++ dktX1_box_2
def dkwX1_box_0 : List UInt8 := [42, 27, 182, 1, 137, 153, 0, 13, 28, 3, 16, 6, 184, 0, 246, 154, 0, 11, 187, 1, 140, 89]
abbrev dktX1_box_0 : List UInt8 := dkwX1_box_0 ++ dktX1_box_1
theorem dksX1_box_0 : cX1_box.data.toList.drop 0 = dktX1_box_0 := by decide +kernel
theorem dksX1_box_1 : cX1_box.data.toList.drop 22 = dktX1_box_1 := dk_seg dksX1_box_0 22 rfl rfl
theorem dksX1_box_2 : cX1_box.data.toList.drop 27 = dktX1_box_2 := dk_seg dksX1_box_1 5 rfl rfl
theorem dksX1_box_3 : cX1_box.data.toList.drop 56 = dktX1_box_3 := dk_seg dksX1_box_2 29 rfl rfl
theorem dksX1_box_4 : cX1_box.data.toList.drop 78 = dktX1_box_4 := dk_seg dksX1_box_3 22 rfl rfl
theorem dX1_box_0 : decode cX1_box 0 = .ok (.aload_n 0, 1) := dk_42 (dk_at dksX1_box_0 0 rfl rfl)
theorem dX1_box_1 : decode cX1_box 1 = .ok (.iload_n 1, 1) := dk_27 (dk_at dksX1_box_0 1 rfl rfl)
theorem dX1_box_2 : decode cX1_box 2 = .ok (.invokevirtual 393, 3) := dk_182 1 137 (dk_at dksX1_box_0 2 rfl rfl)
theorem dX1_box_5 : decode cX1_box 5 = .ok (.ifCond .eq 13, 3) := dk_153 0 13 (dk_at dksX1_box_0 5 rfl rfl)
theorem dX1_box_8 : decode cX1_box 8 = .ok (.iload_n 2, 1) := dk_28 (dk_at dksX1_box_0 8 rfl rfl)
theorem dX1_box_9 : decode cX1_box 9 = .ok (.iconst 0, 1) := dk_3 (dk_at dksX1_box_0 9 rfl rfl)
theorem dX1_box_10 : decode cX1_box 10 = .ok (.bipush 6, 2) := dk_16 6 (dk_at dksX1_box_0 10 rfl rfl)
theorem dX1_box_12 : decode cX1_box 12 = .ok (.invokestatic 246, 3) := dk_184 0 246 (dk_at dksX1_box_0 12 rfl rfl)
theorem dX1_box_15 : decode cX1_box 15 = .ok (.ifCond .ne 11, 3) := dk_154 0 11 (dk_at dksX1_box_0 15 rfl rfl)
theorem dX1_box_18 : decode cX1_box 18 = .ok (.new 396, 3) := dk_187 1 140 (dk_at dksX1_box_0 18 rfl rfl)
theorem dX1_box_21 : decode cX1_box 21 = .ok (.dup, 1) := dk_89 (dk_at dksX1_box_0 21 rfl rfl)
theorem dX1_box_22 : decode cX1_box 22 = .ok (.invokespecial 398, 3) := dk_183 1 142 (dk_at dksX1_box_1 0 rfl rfl)
theorem dX1_box_25 : decode cX1_box 25 = .ok (.athrow, 1) := dk_191 (dk_at dksX1_box_1 3 rfl rfl)
theorem dX1_box_26 : decode cX1_box 26 = .ok (.iload_n 2, 1) := dk_28 (dk_at dksX1_box_1 4 rfl rfl)
theorem dX1_box_27 : decode cX1_box 27 = .ok (.tableswitch 61 3 6 #[29, 43, 49, 55], 29) := by decide +kernel
theorem dX1_box_56 : decode cX1_box 56 = .ok (.aload_n 0, 1) := dk_42 (dk_at dksX1_box_3 0 rfl rfl)
theorem dX1_box_57 : decode cX1_box 57 = .ok (.iload_n 1, 1) := dk_27 (dk_at dksX1_box_3 1 rfl rfl)
theorem dX1_box_58 : decode cX1_box 58 = .ok (.invokevirtual 399, 3) := dk_182 1 143 (dk_at dksX1_box_3 2 rfl rfl)
theorem dX1_box_61 : decode cX1_box 61 = .ok (.ifCond .eq 7, 3) := dk_153 0 7 (dk_at dksX1_box_3 5 rfl rfl)
theorem dX1_box_64 : decode cX1_box 64 = .ok (.iconst 1, 1) := dk_4 (dk_at dksX1_box_3 8 rfl rfl)
theorem dX1_box_65 : decode cX1_box 65 = .ok (.goto 4, 3) := dk_167 0 4 (dk_at dksX1_box_3 9 rfl rfl)
theorem dX1_box_68 : decode cX1_box 68 = .ok (.iconst 0, 1) := dk_3 (dk_at dksX1_box_3 12 rfl rfl)
theorem dX1_box_69 : decode cX1_box 69 = .ok (.ireturn, 1) := dk_172 (dk_at dksX1_box_3 13 rfl rfl)
theorem dX1_box_70 : decode cX1_box 70 = .ok (.aload_n 0, 1) := dk_42 (dk_at dksX1_box_3 14 rfl rfl)
theorem dX1_box_71 : decode cX1_box 71 = .ok (.iload_n 1, 1) := dk_27 (dk_at dksX1_box_3 15 rfl rfl)
theorem dX1_box_72 : decode cX1_box 72 = .ok (.invokevirtual 381, 3) := dk_182 1 125 (dk_at dksX1_box_3 16 rfl rfl)
theorem dX1_box_75 : decode cX1_box 75 = .ok (.ireturn, 1) := dk_172 (dk_at dksX1_box_3 19 rfl rfl)
theorem dX1_box_76 : decode cX1_box 76 = .ok (.aload_n 0, 1) := dk_42 (dk_at dksX1_box_3 20 rfl rfl)
theorem dX1_box_77 : decode cX1_box 77 = .ok (.iload_n 1, 1) := dk_27 (dk_at dksX1_box_3 21 rfl rfl)
theorem dX1_box_78 : decode cX1_box 78 = .ok (.invokevirtual 402, 3) := dk_182 1 146 (dk_at dksX1_box_4 0 rfl rfl)
theorem dX1_box_81 : decode cX1_box 81 = .ok (.ireturn, 1) := dk_172 (dk_at dksX1_box_4 3 rfl rfl)
theorem dX1_box_82 : decode cX1_box 82 = .ok (.aload_n 0, 1) := dk_42 (dk_at dksX1_box_4 4 rfl rfl)
theorem dX1_box_83 : decode cX1_box 83 = .ok (.iload_n 1, 1) := dk_27 (dk_at dksX1_box_4 5 rfl rfl)
theorem dX1_box_84 : decode cX1_box 84 = .ok (.invokevirtual 343, 3) := dk_182 1 87 (dk_at dksX1_box_4 6 rfl rfl)
theorem dX1_box_87 : decode cX1_box 87 = .ok (.ireturn, 1) := dk_172 (dk_at dksX1_box_4 9 rfl rfl)
theorem dX1_box_88 : decode cX1_box 88 = .ok (.aload_n 0, 1) := dk_42 (dk_at dksX1_box_4 10 rfl rfl)
theorem dX1_box_89 : decode cX1_box 89 = .ok (.iload_n 1, 1) := dk_27 (dk_at dksX1_box_4 11 rfl rfl)
theorem dX1_box_90 : decode cX1_box 90 = .ok (.iload_n 2, 1) := dk_28 (dk_at dksX1_box_4 12 rfl rfl)
theorem dX1_box_91 : decode cX1_box 91 = .ok (.invokevirtual 349, 3) := dk_182 1 93 (dk_at dksX1_box_4 13 rfl rfl)
theorem dX1_box_94 : decode cX1_box 94 = .ok (.ireturn, 1) := dk_172 (dk_at dksX1_box_4 16 rfl rfl)
theorem q142 : (Jvm.Cond.initialized "FrostBox") ∈ lw_all := lw_g (lw_at lw_m1 1 rfl) rfl
theorem q167 : (Jvm.Cond.instantiable "FrostBox" (42 : Nat)) ∈ lw_all := lw_g (lw_at lw_m1 26 rfl) rfl
theorem q169 : (Jvm.Cond.instanceMethod ({ cls := "FrostBox", name := "<init>", desc := "()V" } : Jvm.MethodName)) ∈ lw_all := lw_g (lw_at lw_m1 28 rfl) rfl
theorem q170 : (Jvm.Cond.code ({ cls := "FrostBox", name := "<init>", desc := "()V" } : Jvm.MethodName) prog_1_method_3_code (1 : Nat) (Option.none : Option Jvm.ClassFile.FieldType)) ∈ lw_all := lw_g (lw_at lw_m1 29 rfl) rfl
theorem q171 : (Jvm.Cond.methodLink "FrostBox" (3 : Nat) ({ cls := "java/lang/Object", name := "<init>", desc := "()V" } : Jvm.MethodName)) ∈ lw_all := lw_g (lw_at lw_m1 30 rfl) rfl
theorem q174 : (Jvm.Cond.classLink "FrostBox" (9 : Nat) "FrostBox$Fault") ∈ lw_all := lw_g (lw_at lw_m1 33 rfl) rfl
theorem q212 : (Jvm.Cond.methodLinkNest "FrostBox" (11 : Nat) ({ cls := "FrostBox$Fault", name := "<init>", desc := "()V" } : Jvm.MethodName) "FrostBox") ∈ lw_tbl := lw_at lw_m1 71 rfl
theorem q231 : (Jvm.Cond.classLink "FrostBox" (45 : Nat) "FrostBox$Clause") ∈ lw_all := lw_g (lw_at lw_m1 90 rfl) rfl
theorem q233 : (Jvm.Cond.fieldLink "FrostBox" (12 : Nat) "FrostBox" "fault" "LFrostBox$Fault;") ∈ lw_all := lw_g (lw_at lw_m1 92 rfl) rfl
theorem q234 : (Jvm.Cond.fieldLink "FrostBox" (16 : Nat) "FrostBox" "tape" "[B") ∈ lw_all := lw_g (lw_at lw_m1 93 rfl) rfl
theorem q235 : (Jvm.Cond.fieldLink "FrostBox" (102 : Nat) "FrostBox" "taped" "I") ∈ lw_all := lw_g (lw_at lw_m1 94 rfl) rfl
theorem q236 : (Jvm.Cond.fieldLink "FrostBox" (105 : Nat) "FrostBox" "place" "I") ∈ lw_all := lw_g (lw_at lw_m1 95 rfl) rfl
theorem q237 : (Jvm.Cond.fieldLink "FrostBox" (108 : Nat) "FrostBox" "deep" "I") ∈ lw_all := lw_g (lw_at lw_m1 96 rfl) rfl
theorem q238 : (Jvm.Cond.fieldLink "FrostBox" (20 : Nat) "FrostBox" "letters" "[I") ∈ lw_all := lw_g (lw_at lw_m1 97 rfl) rfl
theorem q239 : (Jvm.Cond.fieldLink "FrostBox" (24 : Nat) "FrostBox" "readRule" "[I") ∈ lw_all := lw_g (lw_at lw_m1 98 rfl) rfl
theorem q240 : (Jvm.Cond.fieldLink "FrostBox" (27 : Nat) "FrostBox" "readKind" "[I") ∈ lw_all := lw_g (lw_at lw_m1 99 rfl) rfl
theorem q241 : (Jvm.Cond.fieldLink "FrostBox" (30 : Nat) "FrostBox" "readBox" "[I") ∈ lw_all := lw_g (lw_at lw_m1 100 rfl) rfl
theorem q242 : (Jvm.Cond.fieldLink "FrostBox" (33 : Nat) "FrostBox" "rules" "[I") ∈ lw_all := lw_g (lw_at lw_m1 101 rfl) rfl
theorem q243 : (Jvm.Cond.fieldLink "FrostBox" (36 : Nat) "FrostBox" "kinds" "[I") ∈ lw_all := lw_g (lw_at lw_m1 102 rfl) rfl
theorem q244 : (Jvm.Cond.fieldLink "FrostBox" (276 : Nat) "FrostBox" "readKinds" "I") ∈ lw_all := lw_g (lw_at lw_m1 103 rfl) rfl
theorem q245 : (Jvm.Cond.fieldLink "FrostBox" (279 : Nat) "FrostBox" "readBoxes" "I") ∈ lw_all := lw_g (lw_at lw_m1 104 rfl) rfl
theorem q246 : (Jvm.Cond.fieldLink "FrostBox" (324 : Nat) "FrostBox" "kindMany" "I") ∈ lw_all := lw_g (lw_at lw_m1 105 rfl) rfl
theorem q247 : (Jvm.Cond.fieldLink "FrostBox" (39 : Nat) "FrostBox" "plans" "[I") ∈ lw_all := lw_g (lw_at lw_m1 106 rfl) rfl
theorem q248 : (Jvm.Cond.fieldLink "FrostBox" (42 : Nat) "FrostBox" "planLong" "[I") ∈ lw_all := lw_g (lw_at lw_m1 107 rfl) rfl
theorem q249 : (Jvm.Cond.fieldLink "FrostBox" (313 : Nat) "FrostBox" "planMany" "I") ∈ lw_all := lw_g (lw_at lw_m1 108 rfl) rfl
theorem q250 : (Jvm.Cond.fieldLink "FrostBox" (47 : Nat) "FrostBox" "laws" "[LFrostBox$Clause;") ∈ lw_all := lw_g (lw_at lw_m1 109 rfl) rfl
theorem q251 : (Jvm.Cond.fieldLink "FrostBox" (310 : Nat) "FrostBox" "lawMany" "I") ∈ lw_all := lw_g (lw_at lw_m1 110 rfl) rfl
theorem q252 : (Jvm.Cond.fieldLink "FrostBox" (51 : Nat) "FrostBox" "holding" "I") ∈ lw_all := lw_g (lw_at lw_m1 111 rfl) rfl
theorem q253 : (Jvm.Cond.fieldLink "FrostBox" (55 : Nat) "FrostBox" "habits" "I") ∈ lw_all := lw_g (lw_at lw_m1 112 rfl) rfl
theorem q254 : (Jvm.Cond.fieldLink "FrostBox" (58 : Nat) "FrostBox" "now" "[I") ∈ lw_all := lw_g (lw_at lw_m1 113 rfl) rfl
theorem q255 : (Jvm.Cond.fieldLink "FrostBox" (61 : Nat) "FrostBox" "kept" "[I") ∈ lw_all := lw_g (lw_at lw_m1 114 rfl) rfl
theorem q256 : (Jvm.Cond.fieldLink "FrostBox" (333 : Nat) "FrostBox" "acts" "I") ∈ lw_all := lw_g (lw_at lw_m1 115 rfl) rfl
theorem q257 : (Jvm.Cond.fieldLink "FrostBox" (442 : Nat) "FrostBox" "draws" "J") ∈ lw_all := lw_g (lw_at lw_m1 116 rfl) rfl
theorem q258 : (Jvm.Cond.fieldLink "FrostBox" (64 : Nat) "FrostBox" "aside" "[I") ∈ lw_all := lw_g (lw_at lw_m1 117 rfl) rfl
theorem q259 : (Jvm.Cond.fieldLink "FrostBox" (67 : Nat) "FrostBox" "mostBy" "[I") ∈ lw_all := lw_g (lw_at lw_m1 118 rfl) rfl
theorem q260 : (Jvm.Cond.fieldLink "FrostBox" (70 : Nat) "FrostBox" "peekSort" "[I") ∈ lw_all := lw_g (lw_at lw_m1 119 rfl) rfl
theorem q261 : (Jvm.Cond.fieldLink "FrostBox" (73 : Nat) "FrostBox" "peekSeemed" "[I") ∈ lw_all := lw_g (lw_at lw_m1 120 rfl) rfl
theorem q262 : (Jvm.Cond.fieldLink "FrostBox" (327 : Nat) "FrostBox" "peeks" "I") ∈ lw_all := lw_g (lw_at lw_m1 121 rfl) rfl
theorem q263 : (Jvm.Cond.fieldLink "FrostBox" (76 : Nat) "FrostBox" "foundAt" "[I") ∈ lw_all := lw_g (lw_at lw_m1 122 rfl) rfl
theorem q264 : (Jvm.Cond.fieldLink "FrostBox" (79 : Nat) "FrostBox" "foundKind" "[I") ∈ lw_all := lw_g (lw_at lw_m1 123 rfl) rfl
theorem q265 : (Jvm.Cond.fieldLink "FrostBox" (82 : Nat) "FrostBox" "foundIs" "[Z") ∈ lw_all := lw_g (lw_at lw_m1 124 rfl) rfl
theorem q266 : (Jvm.Cond.fieldLink "FrostBox" (330 : Nat) "FrostBox" "founds" "I") ∈ lw_all := lw_g (lw_at lw_m1 125 rfl) rfl
theorem q267 : (Jvm.Cond.fieldLink "FrostBox" (86 : Nat) "FrostBox" "leftOf" "[I") ∈ lw_all := lw_g (lw_at lw_m1 126 rfl) rfl
theorem q268 : (Jvm.Cond.fieldLink "FrostBox" (89 : Nat) "FrostBox" "rowOf" "[I") ∈ lw_all := lw_g (lw_at lw_m1 127 rfl) rfl
theorem q269 : (Jvm.Cond.fieldLink "FrostBox" (92 : Nat) "FrostBox" "shareOf" "[I") ∈ lw_all := lw_g (lw_at lw_m1 128 rfl) rfl
theorem q270 : (Jvm.Cond.fieldLink "FrostBox" (532 : Nat) "FrostBox" "rowMany" "I") ∈ lw_all := lw_g (lw_at lw_m1 129 rfl) rfl
theorem q271 : (Jvm.Cond.fieldLink "FrostBox" (535 : Nat) "FrostBox" "rowWanted" "I") ∈ lw_all := lw_g (lw_at lw_m1 130 rfl) rfl
theorem q272 : (Jvm.Cond.fieldLink "FrostBox" (538 : Nat) "FrostBox" "rowFound" "I") ∈ lw_all := lw_g (lw_at lw_m1 131 rfl) rfl
theorem q273 : (Jvm.Cond.fieldLink "FrostBox" (95 : Nat) "FrostBox" "image" "[I") ∈ lw_all := lw_g (lw_at lw_m1 132 rfl) rfl
theorem q274 : (Jvm.Cond.fieldLink "FrostBox" (336 : Nat) "FrostBox" "hasImage" "Z") ∈ lw_all := lw_g (lw_at lw_m1 133 rfl) rfl
theorem q275 : (Jvm.Cond.laysFinal "FrostBox" "FrostBox" "fault" "LFrostBox$Fault;") ∈ lw_all := lw_g (lw_at lw_m1 134 rfl) rfl
theorem q276 : (Jvm.Cond.soleField "FrostBox" "fault") ∈ lw_all := lw_g (lw_at lw_m1 135 rfl) rfl
theorem q277 : (Jvm.Cond.laysFinal "FrostBox" "FrostBox" "tape" "[B") ∈ lw_all := lw_g (lw_at lw_m1 136 rfl) rfl
theorem q278 : (Jvm.Cond.soleField "FrostBox" "tape") ∈ lw_all := lw_g (lw_at lw_m1 137 rfl) rfl
theorem q279 : (Jvm.Cond.lays "FrostBox" "FrostBox" "taped" "I") ∈ lw_all := lw_g (lw_at lw_m1 138 rfl) rfl
theorem q280 : (Jvm.Cond.soleField "FrostBox" "taped") ∈ lw_all := lw_g (lw_at lw_m1 139 rfl) rfl
theorem q281 : (Jvm.Cond.lays "FrostBox" "FrostBox" "place" "I") ∈ lw_all := lw_g (lw_at lw_m1 140 rfl) rfl
theorem q282 : (Jvm.Cond.soleField "FrostBox" "place") ∈ lw_all := lw_g (lw_at lw_m1 141 rfl) rfl
theorem q283 : (Jvm.Cond.lays "FrostBox" "FrostBox" "deep" "I") ∈ lw_all := lw_g (lw_at lw_m1 142 rfl) rfl
theorem q284 : (Jvm.Cond.soleField "FrostBox" "deep") ∈ lw_all := lw_g (lw_at lw_m1 143 rfl) rfl
theorem q285 : (Jvm.Cond.laysFinal "FrostBox" "FrostBox" "letters" "[I") ∈ lw_all := lw_g (lw_at lw_m1 144 rfl) rfl
theorem q286 : (Jvm.Cond.soleField "FrostBox" "letters") ∈ lw_all := lw_g (lw_at lw_m1 145 rfl) rfl
theorem q287 : (Jvm.Cond.laysFinal "FrostBox" "FrostBox" "readRule" "[I") ∈ lw_all := lw_g (lw_at lw_m1 146 rfl) rfl
theorem q288 : (Jvm.Cond.soleField "FrostBox" "readRule") ∈ lw_all := lw_g (lw_at lw_m1 147 rfl) rfl
theorem q289 : (Jvm.Cond.laysFinal "FrostBox" "FrostBox" "readKind" "[I") ∈ lw_all := lw_g (lw_at lw_m1 148 rfl) rfl
theorem q290 : (Jvm.Cond.soleField "FrostBox" "readKind") ∈ lw_all := lw_g (lw_at lw_m1 149 rfl) rfl
theorem q291 : (Jvm.Cond.laysFinal "FrostBox" "FrostBox" "readBox" "[I") ∈ lw_all := lw_g (lw_at lw_m1 150 rfl) rfl
theorem q292 : (Jvm.Cond.soleField "FrostBox" "readBox") ∈ lw_all := lw_g (lw_at lw_m1 151 rfl) rfl
theorem q293 : (Jvm.Cond.laysFinal "FrostBox" "FrostBox" "rules" "[I") ∈ lw_all := lw_g (lw_at lw_m1 152 rfl) rfl
theorem q294 : (Jvm.Cond.soleField "FrostBox" "rules") ∈ lw_all := lw_g (lw_at lw_m1 153 rfl) rfl
theorem q295 : (Jvm.Cond.laysFinal "FrostBox" "FrostBox" "kinds" "[I") ∈ lw_all := lw_g (lw_at lw_m1 154 rfl) rfl
theorem q296 : (Jvm.Cond.soleField "FrostBox" "kinds") ∈ lw_all := lw_g (lw_at lw_m1 155 rfl) rfl
theorem q297 : (Jvm.Cond.lays "FrostBox" "FrostBox" "readKinds" "I") ∈ lw_all := lw_g (lw_at lw_m1 156 rfl) rfl
theorem q298 : (Jvm.Cond.soleField "FrostBox" "readKinds") ∈ lw_all := lw_g (lw_at lw_m1 157 rfl) rfl
theorem q299 : (Jvm.Cond.lays "FrostBox" "FrostBox" "readBoxes" "I") ∈ lw_all := lw_g (lw_at lw_m1 158 rfl) rfl
theorem q300 : (Jvm.Cond.soleField "FrostBox" "readBoxes") ∈ lw_all := lw_g (lw_at lw_m1 159 rfl) rfl
theorem q301 : (Jvm.Cond.lays "FrostBox" "FrostBox" "kindMany" "I") ∈ lw_all := lw_g (lw_at lw_m1 160 rfl) rfl
theorem q302 : (Jvm.Cond.soleField "FrostBox" "kindMany") ∈ lw_all := lw_g (lw_at lw_m1 161 rfl) rfl
theorem q303 : (Jvm.Cond.laysFinal "FrostBox" "FrostBox" "plans" "[I") ∈ lw_all := lw_g (lw_at lw_m1 162 rfl) rfl
theorem q304 : (Jvm.Cond.soleField "FrostBox" "plans") ∈ lw_all := lw_g (lw_at lw_m1 163 rfl) rfl
theorem q305 : (Jvm.Cond.laysFinal "FrostBox" "FrostBox" "planLong" "[I") ∈ lw_all := lw_g (lw_at lw_m1 164 rfl) rfl
theorem q306 : (Jvm.Cond.soleField "FrostBox" "planLong") ∈ lw_all := lw_g (lw_at lw_m1 165 rfl) rfl
theorem q307 : (Jvm.Cond.lays "FrostBox" "FrostBox" "planMany" "I") ∈ lw_all := lw_g (lw_at lw_m1 166 rfl) rfl
theorem q308 : (Jvm.Cond.soleField "FrostBox" "planMany") ∈ lw_all := lw_g (lw_at lw_m1 167 rfl) rfl
theorem q309 : (Jvm.Cond.laysFinal "FrostBox" "FrostBox" "laws" "[LFrostBox$Clause;") ∈ lw_all := lw_g (lw_at lw_m1 168 rfl) rfl
theorem q310 : (Jvm.Cond.soleField "FrostBox" "laws") ∈ lw_all := lw_g (lw_at lw_m1 169 rfl) rfl
theorem q311 : (Jvm.Cond.lays "FrostBox" "FrostBox" "lawMany" "I") ∈ lw_all := lw_g (lw_at lw_m1 170 rfl) rfl
theorem q312 : (Jvm.Cond.soleField "FrostBox" "lawMany") ∈ lw_all := lw_g (lw_at lw_m1 171 rfl) rfl
theorem q313 : (Jvm.Cond.lays "FrostBox" "FrostBox" "holding" "I") ∈ lw_all := lw_g (lw_at lw_m1 172 rfl) rfl
theorem q314 : (Jvm.Cond.soleField "FrostBox" "holding") ∈ lw_all := lw_g (lw_at lw_m1 173 rfl) rfl
theorem q315 : (Jvm.Cond.lays "FrostBox" "FrostBox" "habits" "I") ∈ lw_all := lw_g (lw_at lw_m1 174 rfl) rfl
theorem q316 : (Jvm.Cond.soleField "FrostBox" "habits") ∈ lw_all := lw_g (lw_at lw_m1 175 rfl) rfl
theorem q317 : (Jvm.Cond.laysFinal "FrostBox" "FrostBox" "now" "[I") ∈ lw_all := lw_g (lw_at lw_m1 176 rfl) rfl
theorem q318 : (Jvm.Cond.soleField "FrostBox" "now") ∈ lw_all := lw_g (lw_at lw_m1 177 rfl) rfl
theorem q319 : (Jvm.Cond.laysFinal "FrostBox" "FrostBox" "kept" "[I") ∈ lw_all := lw_g (lw_at lw_m1 178 rfl) rfl
theorem q320 : (Jvm.Cond.soleField "FrostBox" "kept") ∈ lw_all := lw_g (lw_at lw_m1 179 rfl) rfl
theorem q321 : (Jvm.Cond.lays "FrostBox" "FrostBox" "acts" "I") ∈ lw_all := lw_g (lw_at lw_m1 180 rfl) rfl
theorem q322 : (Jvm.Cond.soleField "FrostBox" "acts") ∈ lw_all := lw_g (lw_at lw_m1 181 rfl) rfl
theorem q323 : (Jvm.Cond.lays "FrostBox" "FrostBox" "draws" "J") ∈ lw_all := lw_g (lw_at lw_m1 182 rfl) rfl
theorem q324 : (Jvm.Cond.soleField "FrostBox" "draws") ∈ lw_all := lw_g (lw_at lw_m1 183 rfl) rfl
theorem q325 : (Jvm.Cond.laysFinal "FrostBox" "FrostBox" "aside" "[I") ∈ lw_all := lw_g (lw_at lw_m1 184 rfl) rfl
theorem q326 : (Jvm.Cond.soleField "FrostBox" "aside") ∈ lw_all := lw_g (lw_at lw_m1 185 rfl) rfl
theorem q327 : (Jvm.Cond.laysFinal "FrostBox" "FrostBox" "mostBy" "[I") ∈ lw_all := lw_g (lw_at lw_m1 186 rfl) rfl
theorem q328 : (Jvm.Cond.soleField "FrostBox" "mostBy") ∈ lw_all := lw_g (lw_at lw_m1 187 rfl) rfl
theorem q329 : (Jvm.Cond.laysFinal "FrostBox" "FrostBox" "peekSort" "[I") ∈ lw_all := lw_g (lw_at lw_m1 188 rfl) rfl
theorem q330 : (Jvm.Cond.soleField "FrostBox" "peekSort") ∈ lw_all := lw_g (lw_at lw_m1 189 rfl) rfl
theorem q331 : (Jvm.Cond.laysFinal "FrostBox" "FrostBox" "peekSeemed" "[I") ∈ lw_all := lw_g (lw_at lw_m1 190 rfl) rfl
theorem q332 : (Jvm.Cond.soleField "FrostBox" "peekSeemed") ∈ lw_all := lw_g (lw_at lw_m1 191 rfl) rfl
theorem q333 : (Jvm.Cond.lays "FrostBox" "FrostBox" "peeks" "I") ∈ lw_all := lw_g (lw_at lw_m1 192 rfl) rfl
theorem q334 : (Jvm.Cond.soleField "FrostBox" "peeks") ∈ lw_all := lw_g (lw_at lw_m1 193 rfl) rfl
theorem q335 : (Jvm.Cond.laysFinal "FrostBox" "FrostBox" "foundAt" "[I") ∈ lw_all := lw_g (lw_at lw_m1 194 rfl) rfl
theorem q336 : (Jvm.Cond.soleField "FrostBox" "foundAt") ∈ lw_all := lw_g (lw_at lw_m1 195 rfl) rfl
theorem q337 : (Jvm.Cond.laysFinal "FrostBox" "FrostBox" "foundKind" "[I") ∈ lw_all := lw_g (lw_at lw_m1 196 rfl) rfl
theorem q338 : (Jvm.Cond.soleField "FrostBox" "foundKind") ∈ lw_all := lw_g (lw_at lw_m1 197 rfl) rfl
theorem q339 : (Jvm.Cond.laysFinal "FrostBox" "FrostBox" "foundIs" "[Z") ∈ lw_all := lw_g (lw_at lw_m1 198 rfl) rfl
theorem q340 : (Jvm.Cond.soleField "FrostBox" "foundIs") ∈ lw_all := lw_g (lw_at lw_m1 199 rfl) rfl
theorem q341 : (Jvm.Cond.lays "FrostBox" "FrostBox" "founds" "I") ∈ lw_all := lw_g (lw_at lw_m1 200 rfl) rfl
theorem q342 : (Jvm.Cond.soleField "FrostBox" "founds") ∈ lw_all := lw_g (lw_at lw_m1 201 rfl) rfl
theorem q343 : (Jvm.Cond.laysFinal "FrostBox" "FrostBox" "leftOf" "[I") ∈ lw_all := lw_g (lw_at lw_m1 202 rfl) rfl
theorem q344 : (Jvm.Cond.soleField "FrostBox" "leftOf") ∈ lw_all := lw_g (lw_at lw_m1 203 rfl) rfl
theorem q345 : (Jvm.Cond.laysFinal "FrostBox" "FrostBox" "rowOf" "[I") ∈ lw_all := lw_g (lw_at lw_m1 204 rfl) rfl
theorem q346 : (Jvm.Cond.soleField "FrostBox" "rowOf") ∈ lw_all := lw_g (lw_at lw_m1 205 rfl) rfl
theorem q347 : (Jvm.Cond.laysFinal "FrostBox" "FrostBox" "shareOf" "[I") ∈ lw_all := lw_g (lw_at lw_m1 206 rfl) rfl
theorem q348 : (Jvm.Cond.soleField "FrostBox" "shareOf") ∈ lw_all := lw_g (lw_at lw_m1 207 rfl) rfl
theorem q349 : (Jvm.Cond.lays "FrostBox" "FrostBox" "rowMany" "I") ∈ lw_all := lw_g (lw_at lw_m1 208 rfl) rfl
theorem q350 : (Jvm.Cond.soleField "FrostBox" "rowMany") ∈ lw_all := lw_g (lw_at lw_m1 209 rfl) rfl
theorem q351 : (Jvm.Cond.lays "FrostBox" "FrostBox" "rowWanted" "I") ∈ lw_all := lw_g (lw_at lw_m1 210 rfl) rfl
theorem q352 : (Jvm.Cond.soleField "FrostBox" "rowWanted") ∈ lw_all := lw_g (lw_at lw_m1 211 rfl) rfl
theorem q353 : (Jvm.Cond.lays "FrostBox" "FrostBox" "rowFound" "I") ∈ lw_all := lw_g (lw_at lw_m1 212 rfl) rfl
theorem q354 : (Jvm.Cond.soleField "FrostBox" "rowFound") ∈ lw_all := lw_g (lw_at lw_m1 213 rfl) rfl
theorem q355 : (Jvm.Cond.laysFinal "FrostBox" "FrostBox" "image" "[I") ∈ lw_all := lw_g (lw_at lw_m1 214 rfl) rfl
theorem q356 : (Jvm.Cond.soleField "FrostBox" "image") ∈ lw_all := lw_g (lw_at lw_m1 215 rfl) rfl
theorem q357 : (Jvm.Cond.lays "FrostBox" "FrostBox" "hasImage" "Z") ∈ lw_all := lw_g (lw_at lw_m1 216 rfl) rfl
theorem q358 : (Jvm.Cond.soleField "FrostBox" "hasImage") ∈ lw_all := lw_g (lw_at lw_m1 217 rfl) rfl
theorem q359 : (Jvm.Cond.superclass "FrostBox" "java/lang/Object") ∈ lw_all := lw_g (lw_at lw_m1 218 rfl) rfl
theorem q364 : (Jvm.Cond.instanceMethod ({ cls := "FrostBox", name := "feed", desc := "(IIIII)I" } : Jvm.MethodName)) ∈ lw_all := lw_g (lw_at lw_m1 223 rfl) rfl
theorem q365 : (Jvm.Cond.selects "FrostBox" ({ cls := "FrostBox", name := "feed", desc := "(IIIII)I" } : Jvm.MethodName) ({ cls := "FrostBox", name := "feed", desc := "(IIIII)I" } : Jvm.MethodName)) ∈ lw_all := lw_g (lw_at lw_m1 224 rfl) rfl
theorem q366 : (Jvm.Cond.code ({ cls := "FrostBox", name := "feed", desc := "(IIIII)I" } : Jvm.MethodName) prog_1_method_5_code (9 : Nat) (Option.some Jvm.ClassFile.FieldType.int)) ∈ lw_all := lw_g (lw_at lw_m1 225 rfl) rfl
theorem q367 : (Jvm.Cond.methodLink "FrostBox" (98 : Nat) ({ cls := "FrostBox", name := "byteOf", desc := "(IIIIII)I" } : Jvm.MethodName)) ∈ lw_all := lw_g (lw_at lw_m1 226 rfl) rfl
theorem q368 : (Jvm.Cond.static ({ cls := "FrostBox", name := "byteOf", desc := "(IIIIII)I" } : Jvm.MethodName)) ∈ lw_all := lw_g (lw_at lw_m1 227 rfl) rfl
theorem q369 : (Jvm.Cond.code ({ cls := "FrostBox", name := "byteOf", desc := "(IIIIII)I" } : Jvm.MethodName) prog_1_method_4_code (7 : Nat) (Option.some Jvm.ClassFile.FieldType.int)) ∈ lw_all := lw_g (lw_at lw_m1 228 rfl) rfl
theorem q371 : (Jvm.Cond.instanceMethod ({ cls := "FrostBox", name := "end", desc := "(I)Z" } : Jvm.MethodName)) ∈ lw_all := lw_g (lw_at lw_m1 230 rfl) rfl
theorem q372 : (Jvm.Cond.selects "FrostBox" ({ cls := "FrostBox", name := "end", desc := "(I)Z" } : Jvm.MethodName) ({ cls := "FrostBox", name := "end", desc := "(I)Z" } : Jvm.MethodName)) ∈ lw_all := lw_g (lw_at lw_m1 231 rfl) rfl
theorem q373 : (Jvm.Cond.code ({ cls := "FrostBox", name := "end", desc := "(I)Z" } : Jvm.MethodName) prog_1_method_6_code (2 : Nat) (Option.some Jvm.ClassFile.FieldType.boolean)) ∈ lw_all := lw_g (lw_at lw_m1 232 rfl) rfl
theorem q375 : (Jvm.Cond.instanceMethod ({ cls := "FrostBox", name := "fault", desc := "(I)I" } : Jvm.MethodName)) ∈ lw_all := lw_g (lw_at lw_m1 234 rfl) rfl
theorem q376 : (Jvm.Cond.selects "FrostBox" ({ cls := "FrostBox", name := "fault", desc := "(I)I" } : Jvm.MethodName) ({ cls := "FrostBox", name := "fault", desc := "(I)I" } : Jvm.MethodName)) ∈ lw_all := lw_g (lw_at lw_m1 235 rfl) rfl
theorem q377 : (Jvm.Cond.codeWith ({ cls := "FrostBox", name := "fault", desc := "(I)I" } : Jvm.MethodName) prog_1_method_38_code (3 : Nat) (Option.some Jvm.ClassFile.FieldType.int) [((22 : Nat), (28 : Nat), (29 : Nat), (9 : Nat))]) ∈ lw_all := lw_g (lw_at lw_m1 236 rfl) rfl
theorem q378 : (Jvm.Cond.methodLink "FrostBox" (304 : Nat) ({ cls := "FrostBox", name := "lawFault", desc := "()I" } : Jvm.MethodName)) ∈ lw_all := lw_g (lw_at lw_m1 237 rfl) rfl
theorem q379 : (Jvm.Cond.privateMethod ({ cls := "FrostBox", name := "lawFault", desc := "()I" } : Jvm.MethodName)) ∈ lw_tbl := lw_at lw_m1 238 rfl
theorem q380 : (Jvm.Cond.instanceMethod ({ cls := "FrostBox", name := "lawFault", desc := "()I" } : Jvm.MethodName)) ∈ lw_all := lw_g (lw_at lw_m1 239 rfl) rfl
theorem q381 : (Jvm.Cond.codeWith ({ cls := "FrostBox", name := "lawFault", desc := "()I" } : Jvm.MethodName) prog_1_method_22_code (2 : Nat) (Option.some Jvm.ClassFile.FieldType.int) [((0 : Nat), (6 : Nat), (7 : Nat), (9 : Nat))]) ∈ lw_all := lw_g (lw_at lw_m2 0 rfl) rfl
theorem q382 : (Jvm.Cond.methodLink "FrostBox" (211 : Nat) ({ cls := "FrostBox", name := "wholeLaw", desc := "()LFrostBox$Clause;" } : Jvm.MethodName)) ∈ lw_all := lw_g (lw_at lw_m2 1 rfl) rfl
theorem q383 : (Jvm.Cond.privateMethod ({ cls := "FrostBox", name := "wholeLaw", desc := "()LFrostBox$Clause;" } : Jvm.MethodName)) ∈ lw_tbl := lw_at lw_m2 2 rfl
theorem q384 : (Jvm.Cond.instanceMethod ({ cls := "FrostBox", name := "wholeLaw", desc := "()LFrostBox$Clause;" } : Jvm.MethodName)) ∈ lw_all := lw_g (lw_at lw_m2 3 rfl) rfl
theorem q385 : (Jvm.Cond.code ({ cls := "FrostBox", name := "wholeLaw", desc := "()LFrostBox$Clause;" } : Jvm.MethodName) prog_1_method_21_code (3 : Nat) (Option.some (Jvm.ClassFile.FieldType.object "FrostBox$Clause"))) ∈ lw_all := lw_g (lw_at lw_m2 4 rfl) rfl
theorem q386 : (Jvm.Cond.methodLink "FrostBox" (203 : Nat) ({ cls := "FrostBox", name := "clause", desc := "()LFrostBox$Clause;" } : Jvm.MethodName)) ∈ lw_all := lw_g (lw_at lw_m2 5 rfl) rfl
theorem q387 : (Jvm.Cond.privateMethod ({ cls := "FrostBox", name := "clause", desc := "()LFrostBox$Clause;" } : Jvm.MethodName)) ∈ lw_tbl := lw_at lw_m2 6 rfl
theorem q388 : (Jvm.Cond.instanceMethod ({ cls := "FrostBox", name := "clause", desc := "()LFrostBox$Clause;" } : Jvm.MethodName)) ∈ lw_all := lw_g (lw_at lw_m2 7 rfl) rfl
theorem q389 : (Jvm.Cond.code ({ cls := "FrostBox", name := "clause", desc := "()LFrostBox$Clause;" } : Jvm.MethodName) prog_1_method_20_code (5 : Nat) (Option.some (Jvm.ClassFile.FieldType.object "FrostBox$Clause"))) ∈ lw_all := lw_g (lw_at lw_m2 8 rfl) rfl
theorem q390 : (Jvm.Cond.methodLink "FrostBox" (115 : Nat) ({ cls := "FrostBox", name := "look", desc := "()I" } : Jvm.MethodName)) ∈ lw_all := lw_g (lw_at lw_m2 9 rfl) rfl
theorem q391 : (Jvm.Cond.privateMethod ({ cls := "FrostBox", name := "look", desc := "()I" } : Jvm.MethodName)) ∈ lw_tbl := lw_at lw_m2 10 rfl
theorem q392 : (Jvm.Cond.instanceMethod ({ cls := "FrostBox", name := "look", desc := "()I" } : Jvm.MethodName)) ∈ lw_all := lw_g (lw_at lw_m2 11 rfl) rfl
theorem q393 : (Jvm.Cond.code ({ cls := "FrostBox", name := "look", desc := "()I" } : Jvm.MethodName) prog_1_method_7_code (1 : Nat) (Option.some Jvm.ClassFile.FieldType.int)) ∈ lw_all := lw_g (lw_at lw_m2 12 rfl) rfl
theorem q394 : (Jvm.Cond.stringRef "FrostBox" (198 : Nat) "y") ∈ lw_tbl := lw_at lw_m2 13 rfl
theorem q395 : (Jvm.Cond.methodLink "FrostBox" (132 : Nat) ({ cls := "java/lang/String", name := "indexOf", desc := "(I)I" } : Jvm.MethodName)) ∈ lw_all := lw_g (lw_at lw_m2 14 rfl) rfl
theorem q481 : (Jvm.Cond.methodLink "FrostBox" (111 : Nat) ({ cls := "FrostBox", name := "need", desc := "(Z)V" } : Jvm.MethodName)) ∈ lw_all := lw_g (lw_at lw_m2 100 rfl) rfl
theorem q482 : (Jvm.Cond.privateMethod ({ cls := "FrostBox", name := "need", desc := "(Z)V" } : Jvm.MethodName)) ∈ lw_tbl := lw_at lw_m2 101 rfl
theorem q483 : (Jvm.Cond.instanceMethod ({ cls := "FrostBox", name := "need", desc := "(Z)V" } : Jvm.MethodName)) ∈ lw_all := lw_g (lw_at lw_m2 102 rfl) rfl
theorem q484 : (Jvm.Cond.code ({ cls := "FrostBox", name := "need", desc := "(Z)V" } : Jvm.MethodName) prog_1_method_9_code (2 : Nat) (Option.none : Option Jvm.ClassFile.FieldType)) ∈ lw_all := lw_g (lw_at lw_m2 103 rfl) rfl
theorem q485 : (Jvm.Cond.methodLink "FrostBox" (122 : Nat) ({ cls := "FrostBox", name := "sum", desc := "()LFrostBox$Sum;" } : Jvm.MethodName)) ∈ lw_all := lw_g (lw_at lw_m2 104 rfl) rfl
theorem q486 : (Jvm.Cond.privateMethod ({ cls := "FrostBox", name := "sum", desc := "()LFrostBox$Sum;" } : Jvm.MethodName)) ∈ lw_tbl := lw_at lw_m2 105 rfl
theorem q487 : (Jvm.Cond.instanceMethod ({ cls := "FrostBox", name := "sum", desc := "()LFrostBox$Sum;" } : Jvm.MethodName)) ∈ lw_all := lw_g (lw_at lw_m2 106 rfl) rfl
theorem q488 : (Jvm.Cond.code ({ cls := "FrostBox", name := "sum", desc := "()LFrostBox$Sum;" } : Jvm.MethodName) prog_1_method_14_code (4 : Nat) (Option.some (Jvm.ClassFile.FieldType.object "FrostBox$Sum"))) ∈ lw_all := lw_g (lw_at lw_m2 107 rfl) rfl
theorem q489 : (Jvm.Cond.methodLink "FrostBox" (161 : Nat) ({ cls := "FrostBox", name := "term", desc := "()LFrostBox$Sum;" } : Jvm.MethodName)) ∈ lw_all := lw_g (lw_at lw_m2 108 rfl) rfl
theorem q490 : (Jvm.Cond.privateMethod ({ cls := "FrostBox", name := "term", desc := "()LFrostBox$Sum;" } : Jvm.MethodName)) ∈ lw_tbl := lw_at lw_m2 109 rfl
theorem q491 : (Jvm.Cond.instanceMethod ({ cls := "FrostBox", name := "term", desc := "()LFrostBox$Sum;" } : Jvm.MethodName)) ∈ lw_all := lw_g (lw_at lw_m2 110 rfl) rfl
theorem q492 : (Jvm.Cond.code ({ cls := "FrostBox", name := "term", desc := "()LFrostBox$Sum;" } : Jvm.MethodName) prog_1_method_13_code (4 : Nat) (Option.some (Jvm.ClassFile.FieldType.object "FrostBox$Sum"))) ∈ lw_all := lw_g (lw_at lw_m2 111 rfl) rfl
theorem q493 : (Jvm.Cond.methodLink "FrostBox" (149 : Nat) ({ cls := "FrostBox", name := "atom", desc := "()LFrostBox$Sum;" } : Jvm.MethodName)) ∈ lw_all := lw_g (lw_at lw_m2 112 rfl) rfl
theorem q494 : (Jvm.Cond.privateMethod ({ cls := "FrostBox", name := "atom", desc := "()LFrostBox$Sum;" } : Jvm.MethodName)) ∈ lw_tbl := lw_at lw_m2 113 rfl
theorem q495 : (Jvm.Cond.instanceMethod ({ cls := "FrostBox", name := "atom", desc := "()LFrostBox$Sum;" } : Jvm.MethodName)) ∈ lw_all := lw_g (lw_at lw_m2 114 rfl) rfl
theorem q496 : (Jvm.Cond.code ({ cls := "FrostBox", name := "atom", desc := "()LFrostBox$Sum;" } : Jvm.MethodName) prog_1_method_12_code (4 : Nat) (Option.some (Jvm.ClassFile.FieldType.object "FrostBox$Sum"))) ∈ lw_all := lw_g (lw_at lw_m2 115 rfl) rfl
theorem q497 : (Jvm.Cond.methodLink "FrostBox" (119 : Nat) ({ cls := "FrostBox", name := "opens", desc := "()V" } : Jvm.MethodName)) ∈ lw_all := lw_g (lw_at lw_m2 116 rfl) rfl
theorem q498 : (Jvm.Cond.privateMethod ({ cls := "FrostBox", name := "opens", desc := "()V" } : Jvm.MethodName)) ∈ lw_tbl := lw_at lw_m2 117 rfl
theorem q499 : (Jvm.Cond.instanceMethod ({ cls := "FrostBox", name := "opens", desc := "()V" } : Jvm.MethodName)) ∈ lw_all := lw_g (lw_at lw_m2 118 rfl) rfl
theorem q500 : (Jvm.Cond.code ({ cls := "FrostBox", name := "opens", desc := "()V" } : Jvm.MethodName) prog_1_method_10_code (1 : Nat) (Option.none : Option Jvm.ClassFile.FieldType)) ∈ lw_all := lw_g (lw_at lw_m2 119 rfl) rfl
theorem q501 : (Jvm.Cond.methodLink "FrostBox" (126 : Nat) ({ cls := "FrostBox", name := "closes", desc := "(I)V" } : Jvm.MethodName)) ∈ lw_all := lw_g (lw_at lw_m2 120 rfl) rfl
theorem q502 : (Jvm.Cond.privateMethod ({ cls := "FrostBox", name := "closes", desc := "(I)V" } : Jvm.MethodName)) ∈ lw_tbl := lw_at lw_m2 121 rfl
theorem q503 : (Jvm.Cond.instanceMethod ({ cls := "FrostBox", name := "closes", desc := "(I)V" } : Jvm.MethodName)) ∈ lw_all := lw_g (lw_at lw_m2 122 rfl) rfl
theorem q504 : (Jvm.Cond.code ({ cls := "FrostBox", name := "closes", desc := "(I)V" } : Jvm.MethodName) prog_1_method_11_code (2 : Nat) (Option.none : Option Jvm.ClassFile.FieldType)) ∈ lw_all := lw_g (lw_at lw_m2 123 rfl) rfl
theorem q505 : (Jvm.Cond.stringRef "FrostBox" (130 : Nat) "aonykm") ∈ lw_tbl := lw_at lw_m2 124 rfl
theorem q506 : (Jvm.Cond.classLink "FrostBox" (138 : Nat) "FrostBox$Letter") ∈ lw_all := lw_g (lw_at lw_m2 125 rfl) rfl
theorem q508 : (Jvm.Cond.methodLink "FrostBox" (140 : Nat) ({ cls := "FrostBox$Letter", name := "<init>", desc := "(I)V" } : Jvm.MethodName)) ∈ lw_all := lw_g (lw_at lw_m2 127 rfl) rfl
theorem q519 : (Jvm.Cond.methodLink "FrostBox" (142 : Nat) ({ cls := "FrostBox", name := "isDigit", desc := "(I)Z" } : Jvm.MethodName)) ∈ lw_all := lw_g (lw_at lw_m2 138 rfl) rfl
theorem q520 : (Jvm.Cond.static ({ cls := "FrostBox", name := "isDigit", desc := "(I)Z" } : Jvm.MethodName)) ∈ lw_all := lw_g (lw_at lw_m2 139 rfl) rfl
theorem q521 : (Jvm.Cond.code ({ cls := "FrostBox", name := "isDigit", desc := "(I)Z" } : Jvm.MethodName) prog_1_method_8_code (1 : Nat) (Option.some Jvm.ClassFile.FieldType.boolean)) ∈ lw_all := lw_g (lw_at lw_m2 140 rfl) rfl
theorem q522 : (Jvm.Cond.classLink "FrostBox" (146 : Nat) "FrostBox$Constant") ∈ lw_all := lw_g (lw_at lw_m2 141 rfl) rfl
theorem q524 : (Jvm.Cond.methodLink "FrostBox" (148 : Nat) ({ cls := "FrostBox$Constant", name := "<init>", desc := "(I)V" } : Jvm.MethodName)) ∈ lw_all := lw_g (lw_at lw_m2 143 rfl) rfl
theorem q532 : (Jvm.Cond.classLink "FrostBox" (152 : Nat) "FrostBox$Chain") ∈ lw_all := lw_g (lw_at lw_m2 151 rfl) rfl
theorem q534 : (Jvm.Cond.methodLink "FrostBox" (154 : Nat) ({ cls := "FrostBox$Chain", name := "<init>", desc := "(LFrostBox$Sum;)V" } : Jvm.MethodName)) ∈ lw_all := lw_g (lw_at lw_m2 153 rfl) rfl
theorem q548 : (Jvm.Cond.methodLink "FrostBox" (157 : Nat) ({ cls := "FrostBox$Chain", name := "add", desc := "(ILFrostBox$Sum;)V" } : Jvm.MethodName)) ∈ lw_all := lw_g (lw_at lw_m2 167 rfl) rfl
theorem q568 : (Jvm.Cond.methodLink "FrostBox" (164 : Nat) ({ cls := "FrostBox", name := "isSign", desc := "(I)Z" } : Jvm.MethodName)) ∈ lw_all := lw_g (lw_at lw_m2 187 rfl) rfl
theorem q569 : (Jvm.Cond.static ({ cls := "FrostBox", name := "isSign", desc := "(I)Z" } : Jvm.MethodName)) ∈ lw_all := lw_g (lw_at lw_m2 188 rfl) rfl
theorem q570 : (Jvm.Cond.code ({ cls := "FrostBox", name := "isSign", desc := "(I)Z" } : Jvm.MethodName) prog_1_method_15_code (1 : Nat) (Option.some Jvm.ClassFile.FieldType.boolean)) ∈ lw_all := lw_g (lw_at lw_m2 189 rfl) rfl
theorem q572 : (Jvm.Cond.methodLink "FrostBox" (200 : Nat) ({ cls := "FrostBox$Clause", name := "<init>", desc := "(ILFrostBox$Test;LFrostBox$Sum;)V" } : Jvm.MethodName)) ∈ lw_all := lw_g (lw_at lw_m2 191 rfl) rfl
theorem q577 : (Jvm.Cond.fieldLinkNest "FrostBox" (221 : Nat) "FrostBox$Clause" "label" "I" "FrostBox") ∈ lw_tbl := lw_at lw_m2 196 rfl
theorem q579 : (Jvm.Cond.fieldLinkNest "FrostBox" (224 : Nat) "FrostBox$Clause" "test" "LFrostBox$Test;" "FrostBox") ∈ lw_tbl := lw_at lw_m2 198 rfl
theorem q581 : (Jvm.Cond.fieldLinkNest "FrostBox" (234 : Nat) "FrostBox$Clause" "sum" "LFrostBox$Sum;" "FrostBox") ∈ lw_tbl := lw_at lw_m2 200 rfl
theorem q582 : (Jvm.Cond.fieldLinkNest "FrostBox" (207 : Nat) "FrostBox$Clause" "next" "LFrostBox$Clause;" "FrostBox") ∈ lw_tbl := lw_at lw_m2 201 rfl
theorem q592 : (Jvm.Cond.methodLink "FrostBox" (181 : Nat) ({ cls := "FrostBox", name := "condition", desc := "(LFrostBox$Sum;)LFrostBox$Test;" } : Jvm.MethodName)) ∈ lw_all := lw_g (lw_at lw_m2 211 rfl) rfl
theorem q593 : (Jvm.Cond.privateMethod ({ cls := "FrostBox", name := "condition", desc := "(LFrostBox$Sum;)LFrostBox$Test;" } : Jvm.MethodName)) ∈ lw_tbl := lw_at lw_m2 212 rfl
theorem q594 : (Jvm.Cond.instanceMethod ({ cls := "FrostBox", name := "condition", desc := "(LFrostBox$Sum;)LFrostBox$Test;" } : Jvm.MethodName)) ∈ lw_all := lw_g (lw_at lw_m2 213 rfl) rfl
theorem q595 : (Jvm.Cond.code ({ cls := "FrostBox", name := "condition", desc := "(LFrostBox$Sum;)LFrostBox$Test;" } : Jvm.MethodName) prog_1_method_19_code (4 : Nat) (Option.some (Jvm.ClassFile.FieldType.object "FrostBox$Test"))) ∈ lw_all := lw_g (lw_at lw_m2 214 rfl) rfl
theorem q596 : (Jvm.Cond.methodLink "FrostBox" (195 : Nat) ({ cls := "FrostBox", name := "part", desc := "(LFrostBox$Sum;)LFrostBox$Test;" } : Jvm.MethodName)) ∈ lw_all := lw_g (lw_at lw_m2 215 rfl) rfl
theorem q597 : (Jvm.Cond.privateMethod ({ cls := "FrostBox", name := "part", desc := "(LFrostBox$Sum;)LFrostBox$Test;" } : Jvm.MethodName)) ∈ lw_tbl := lw_at lw_m2 216 rfl
theorem q598 : (Jvm.Cond.instanceMethod ({ cls := "FrostBox", name := "part", desc := "(LFrostBox$Sum;)LFrostBox$Test;" } : Jvm.MethodName)) ∈ lw_all := lw_g (lw_at lw_m2 217 rfl) rfl
theorem q599 : (Jvm.Cond.code ({ cls := "FrostBox", name := "part", desc := "(LFrostBox$Sum;)LFrostBox$Test;" } : Jvm.MethodName) prog_1_method_18_code (4 : Nat) (Option.some (Jvm.ClassFile.FieldType.object "FrostBox$Test"))) ∈ lw_all := lw_g (lw_at lw_m2 218 rfl) rfl
theorem q600 : (Jvm.Cond.methodLink "FrostBox" (172 : Nat) ({ cls := "FrostBox", name := "unit", desc := "()LFrostBox$Test;" } : Jvm.MethodName)) ∈ lw_all := lw_g (lw_at lw_m2 219 rfl) rfl
theorem q601 : (Jvm.Cond.privateMethod ({ cls := "FrostBox", name := "unit", desc := "()LFrostBox$Test;" } : Jvm.MethodName)) ∈ lw_tbl := lw_at lw_m2 220 rfl
theorem q602 : (Jvm.Cond.instanceMethod ({ cls := "FrostBox", name := "unit", desc := "()LFrostBox$Test;" } : Jvm.MethodName)) ∈ lw_all := lw_g (lw_at lw_m2 221 rfl) rfl
theorem q603 : (Jvm.Cond.code ({ cls := "FrostBox", name := "unit", desc := "()LFrostBox$Test;" } : Jvm.MethodName) prog_1_method_17_code (3 : Nat) (Option.some (Jvm.ClassFile.FieldType.object "FrostBox$Test"))) ∈ lw_all := lw_g (lw_at lw_m2 222 rfl) rfl
theorem q604 : (Jvm.Cond.classLink "FrostBox" (176 : Nat) "FrostBox$Not") ∈ lw_all := lw_g (lw_at lw_m2 223 rfl) rfl
theorem q606 : (Jvm.Cond.methodLink "FrostBox" (178 : Nat) ({ cls := "FrostBox$Not", name := "<init>", desc := "(LFrostBox$Test;)V" } : Jvm.MethodName)) ∈ lw_all := lw_g (lw_at lw_m2 225 rfl) rfl
theorem q620 : (Jvm.Cond.methodLink "FrostBox" (185 : Nat) ({ cls := "FrostBox", name := "compare", desc := "(LFrostBox$Sum;)LFrostBox$Test;" } : Jvm.MethodName)) ∈ lw_all := lw_g (lw_at lw_m2 239 rfl) rfl
theorem q621 : (Jvm.Cond.privateMethod ({ cls := "FrostBox", name := "compare", desc := "(LFrostBox$Sum;)LFrostBox$Test;" } : Jvm.MethodName)) ∈ lw_tbl := lw_at lw_m3 0 rfl
theorem q622 : (Jvm.Cond.instanceMethod ({ cls := "FrostBox", name := "compare", desc := "(LFrostBox$Sum;)LFrostBox$Test;" } : Jvm.MethodName)) ∈ lw_all := lw_g (lw_at lw_m3 1 rfl) rfl
theorem q623 : (Jvm.Cond.code ({ cls := "FrostBox", name := "compare", desc := "(LFrostBox$Sum;)LFrostBox$Test;" } : Jvm.MethodName) prog_1_method_16_code (3 : Nat) (Option.some (Jvm.ClassFile.FieldType.object "FrostBox$Test"))) ∈ lw_all := lw_g (lw_at lw_m3 2 rfl) rfl
theorem q624 : (Jvm.Cond.classLink "FrostBox" (167 : Nat) "FrostBox$Compare") ∈ lw_all := lw_g (lw_at lw_m3 3 rfl) rfl
theorem q626 : (Jvm.Cond.methodLink "FrostBox" (169 : Nat) ({ cls := "FrostBox$Compare", name := "<init>", desc := "(ILFrostBox$Sum;LFrostBox$Sum;)V" } : Jvm.MethodName)) ∈ lw_all := lw_g (lw_at lw_m3 5 rfl) rfl
theorem q641 : (Jvm.Cond.classLink "FrostBox" (188 : Nat) "FrostBox$Several") ∈ lw_all := lw_g (lw_at lw_m3 20 rfl) rfl
theorem q643 : (Jvm.Cond.methodLink "FrostBox" (190 : Nat) ({ cls := "FrostBox$Several", name := "<init>", desc := "(ZLFrostBox$Test;)V" } : Jvm.MethodName)) ∈ lw_all := lw_g (lw_at lw_m3 22 rfl) rfl
theorem q658 : (Jvm.Cond.methodLink "FrostBox" (193 : Nat) ({ cls := "FrostBox$Several", name := "add", desc := "(LFrostBox$Test;)V" } : Jvm.MethodName)) ∈ lw_all := lw_g (lw_at lw_m3 37 rfl) rfl
theorem q662 : (Jvm.Cond.methodLink "FrostBox" (307 : Nat) ({ cls := "FrostBox", name := "readAs", desc := "(I)V" } : Jvm.MethodName)) ∈ lw_all := lw_g (lw_at lw_m3 41 rfl) rfl
theorem q663 : (Jvm.Cond.privateMethod ({ cls := "FrostBox", name := "readAs", desc := "(I)V" } : Jvm.MethodName)) ∈ lw_tbl := lw_at lw_m3 42 rfl
theorem q664 : (Jvm.Cond.instanceMethod ({ cls := "FrostBox", name := "readAs", desc := "(I)V" } : Jvm.MethodName)) ∈ lw_all := lw_g (lw_at lw_m3 43 rfl) rfl
theorem q665 : (Jvm.Cond.code ({ cls := "FrostBox", name := "readAs", desc := "(I)V" } : Jvm.MethodName) prog_1_method_37_code (2 : Nat) (Option.none : Option Jvm.ClassFile.FieldType)) ∈ lw_all := lw_g (lw_at lw_m3 44 rfl) rfl
theorem q666 : (Jvm.Cond.methodLink "FrostBox" (298 : Nat) ({ cls := "FrostBox", name := "wholeHouse", desc := "()V" } : Jvm.MethodName)) ∈ lw_all := lw_g (lw_at lw_m3 45 rfl) rfl
theorem q667 : (Jvm.Cond.privateMethod ({ cls := "FrostBox", name := "wholeHouse", desc := "()V" } : Jvm.MethodName)) ∈ lw_tbl := lw_at lw_m3 46 rfl
theorem q668 : (Jvm.Cond.instanceMethod ({ cls := "FrostBox", name := "wholeHouse", desc := "()V" } : Jvm.MethodName)) ∈ lw_all := lw_g (lw_at lw_m3 47 rfl) rfl
theorem q669 : (Jvm.Cond.code ({ cls := "FrostBox", name := "wholeHouse", desc := "()V" } : Jvm.MethodName) prog_1_method_33_code (4 : Nat) (Option.none : Option Jvm.ClassFile.FieldType)) ∈ lw_all := lw_g (lw_at lw_m3 48 rfl) rfl
theorem q670 : (Jvm.Cond.methodLink "FrostBox" (256 : Nat) ({ cls := "FrostBox", name := "usual", desc := "(II)I" } : Jvm.MethodName)) ∈ lw_all := lw_g (lw_at lw_m3 49 rfl) rfl
theorem q671 : (Jvm.Cond.static ({ cls := "FrostBox", name := "usual", desc := "(II)I" } : Jvm.MethodName)) ∈ lw_all := lw_g (lw_at lw_m3 50 rfl) rfl
theorem q672 : (Jvm.Cond.code ({ cls := "FrostBox", name := "usual", desc := "(II)I" } : Jvm.MethodName) prog_1_method_30_code (2 : Nat) (Option.some Jvm.ClassFile.FieldType.int)) ∈ lw_all := lw_g (lw_at lw_m3 51 rfl) rfl
theorem q673 : (Jvm.Cond.methodLink "FrostBox" (282 : Nat) ({ cls := "FrostBox", name := "items", desc := "(I[III)V" } : Jvm.MethodName)) ∈ lw_all := lw_g (lw_at lw_m3 52 rfl) rfl
theorem q674 : (Jvm.Cond.privateMethod ({ cls := "FrostBox", name := "items", desc := "(I[III)V" } : Jvm.MethodName)) ∈ lw_tbl := lw_at lw_m3 53 rfl
theorem q675 : (Jvm.Cond.instanceMethod ({ cls := "FrostBox", name := "items", desc := "(I[III)V" } : Jvm.MethodName)) ∈ lw_all := lw_g (lw_at lw_m3 54 rfl) rfl
theorem q676 : (Jvm.Cond.code ({ cls := "FrostBox", name := "items", desc := "(I[III)V" } : Jvm.MethodName) prog_1_method_31_code (7 : Nat) (Option.none : Option Jvm.ClassFile.FieldType)) ∈ lw_all := lw_g (lw_at lw_m3 55 rfl) rfl
theorem q677 : (Jvm.Cond.methodLink "FrostBox" (243 : Nat) ({ cls := "FrostBox", name := "there", desc := "()I" } : Jvm.MethodName)) ∈ lw_all := lw_g (lw_at lw_m3 56 rfl) rfl
theorem q678 : (Jvm.Cond.privateMethod ({ cls := "FrostBox", name := "there", desc := "()I" } : Jvm.MethodName)) ∈ lw_tbl := lw_at lw_m3 57 rfl
theorem q679 : (Jvm.Cond.instanceMethod ({ cls := "FrostBox", name := "there", desc := "()I" } : Jvm.MethodName)) ∈ lw_all := lw_g (lw_at lw_m3 58 rfl) rfl
theorem q680 : (Jvm.Cond.code ({ cls := "FrostBox", name := "there", desc := "()I" } : Jvm.MethodName) prog_1_method_25_code (1 : Nat) (Option.some Jvm.ClassFile.FieldType.int)) ∈ lw_all := lw_g (lw_at lw_m3 59 rfl) rfl
theorem q681 : (Jvm.Cond.methodLink "FrostBox" (260 : Nat) ({ cls := "FrostBox", name := "item", desc := "(II)I" } : Jvm.MethodName)) ∈ lw_all := lw_g (lw_at lw_m3 60 rfl) rfl
theorem q682 : (Jvm.Cond.static ({ cls := "FrostBox", name := "item", desc := "(II)I" } : Jvm.MethodName)) ∈ lw_all := lw_g (lw_at lw_m3 61 rfl) rfl
theorem q683 : (Jvm.Cond.code ({ cls := "FrostBox", name := "item", desc := "(II)I" } : Jvm.MethodName) prog_1_method_27_code (2 : Nat) (Option.some Jvm.ClassFile.FieldType.int)) ∈ lw_all := lw_g (lw_at lw_m3 62 rfl) rfl
theorem q684 : (Jvm.Cond.stringRef "FrostBox" (250 : Nat) "rhle") ∈ lw_tbl := lw_at lw_m3 63 rfl
theorem q685 : (Jvm.Cond.stringRef "FrostBox" (252 : Nat) "cwopg") ∈ lw_tbl := lw_at lw_m3 64 rfl
theorem q686 : (Jvm.Cond.stringRef "FrostBox" (254 : Nat) "knal") ∈ lw_tbl := lw_at lw_m3 65 rfl
theorem q687 : (Jvm.Cond.methodLink "FrostBox" (263 : Nat) ({ cls := "FrostBox", name := "has", desc := "(II)Z" } : Jvm.MethodName)) ∈ lw_all := lw_g (lw_at lw_m3 66 rfl) rfl
theorem q688 : (Jvm.Cond.static ({ cls := "FrostBox", name := "has", desc := "(II)Z" } : Jvm.MethodName)) ∈ lw_all := lw_g (lw_at lw_m3 67 rfl) rfl
theorem q689 : (Jvm.Cond.code ({ cls := "FrostBox", name := "has", desc := "(II)Z" } : Jvm.MethodName) prog_1_method_2_code (2 : Nat) (Option.some Jvm.ClassFile.FieldType.boolean)) ∈ lw_all := lw_g (lw_at lw_m3 68 rfl) rfl
theorem q690 : (Jvm.Cond.methodLink "FrostBox" (267 : Nat) ({ cls := "FrostBox", name := "lowest", desc := "(II)I" } : Jvm.MethodName)) ∈ lw_all := lw_g (lw_at lw_m3 69 rfl) rfl
theorem q691 : (Jvm.Cond.static ({ cls := "FrostBox", name := "lowest", desc := "(II)I" } : Jvm.MethodName)) ∈ lw_all := lw_g (lw_at lw_m3 70 rfl) rfl
theorem q692 : (Jvm.Cond.code ({ cls := "FrostBox", name := "lowest", desc := "(II)I" } : Jvm.MethodName) prog_1_method_28_code (2 : Nat) (Option.some Jvm.ClassFile.FieldType.int)) ∈ lw_all := lw_g (lw_at lw_m3 71 rfl) rfl
theorem q693 : (Jvm.Cond.methodLink "FrostBox" (270 : Nat) ({ cls := "FrostBox", name := "highest", desc := "(II)I" } : Jvm.MethodName)) ∈ lw_all := lw_g (lw_at lw_m3 72 rfl) rfl
theorem q694 : (Jvm.Cond.static ({ cls := "FrostBox", name := "highest", desc := "(II)I" } : Jvm.MethodName)) ∈ lw_all := lw_g (lw_at lw_m3 73 rfl) rfl
theorem q695 : (Jvm.Cond.code ({ cls := "FrostBox", name := "highest", desc := "(II)I" } : Jvm.MethodName) prog_1_method_29_code (2 : Nat) (Option.some Jvm.ClassFile.FieldType.int)) ∈ lw_all := lw_g (lw_at lw_m3 74 rfl) rfl
theorem q696 : (Jvm.Cond.methodLink "FrostBox" (273 : Nat) ({ cls := "FrostBox", name := "number", desc := "(II)I" } : Jvm.MethodName)) ∈ lw_all := lw_g (lw_at lw_m3 75 rfl) rfl
theorem q697 : (Jvm.Cond.privateMethod ({ cls := "FrostBox", name := "number", desc := "(II)I" } : Jvm.MethodName)) ∈ lw_tbl := lw_at lw_m3 76 rfl
theorem q698 : (Jvm.Cond.instanceMethod ({ cls := "FrostBox", name := "number", desc := "(II)I" } : Jvm.MethodName)) ∈ lw_all := lw_g (lw_at lw_m3 77 rfl) rfl
theorem q699 : (Jvm.Cond.code ({ cls := "FrostBox", name := "number", desc := "(II)I" } : Jvm.MethodName) prog_1_method_26_code (4 : Nat) (Option.some Jvm.ClassFile.FieldType.int)) ∈ lw_all := lw_g (lw_at lw_m3 78 rfl) rfl
theorem q700 : (Jvm.Cond.methodLink "FrostBox" (246 : Nat) ({ cls := "FrostBox", name := "in", desc := "(III)Z" } : Jvm.MethodName)) ∈ lw_all := lw_g (lw_at lw_m3 79 rfl) rfl
theorem q701 : (Jvm.Cond.static ({ cls := "FrostBox", name := "in", desc := "(III)Z" } : Jvm.MethodName)) ∈ lw_all := lw_g (lw_at lw_m3 80 rfl) rfl
theorem q702 : (Jvm.Cond.code ({ cls := "FrostBox", name := "in", desc := "(III)Z" } : Jvm.MethodName) prog_1_method_1_code (3 : Nat) (Option.some Jvm.ClassFile.FieldType.boolean)) ∈ lw_all := lw_g (lw_at lw_m3 81 rfl) rfl
theorem q703 : (Jvm.Cond.methodLink "FrostBox" (286 : Nat) ({ cls := "FrostBox", name := "isWhole", desc := "()Z" } : Jvm.MethodName)) ∈ lw_all := lw_g (lw_at lw_m3 82 rfl) rfl
theorem q704 : (Jvm.Cond.privateMethod ({ cls := "FrostBox", name := "isWhole", desc := "()Z" } : Jvm.MethodName)) ∈ lw_tbl := lw_at lw_m3 83 rfl
theorem q705 : (Jvm.Cond.instanceMethod ({ cls := "FrostBox", name := "isWhole", desc := "()Z" } : Jvm.MethodName)) ∈ lw_all := lw_g (lw_at lw_m3 84 rfl) rfl
theorem q706 : (Jvm.Cond.code ({ cls := "FrostBox", name := "isWhole", desc := "()Z" } : Jvm.MethodName) prog_1_method_32_code (5 : Nat) (Option.some Jvm.ClassFile.FieldType.boolean)) ∈ lw_all := lw_g (lw_at lw_m3 85 rfl) rfl
theorem q707 : (Jvm.Cond.methodLink "FrostBox" (301 : Nat) ({ cls := "FrostBox", name := "wholePlan", desc := "(I)V" } : Jvm.MethodName)) ∈ lw_all := lw_g (lw_at lw_m3 86 rfl) rfl
theorem q708 : (Jvm.Cond.privateMethod ({ cls := "FrostBox", name := "wholePlan", desc := "(I)V" } : Jvm.MethodName)) ∈ lw_tbl := lw_at lw_m3 87 rfl
theorem q709 : (Jvm.Cond.instanceMethod ({ cls := "FrostBox", name := "wholePlan", desc := "(I)V" } : Jvm.MethodName)) ∈ lw_all := lw_g (lw_at lw_m3 88 rfl) rfl
theorem q710 : (Jvm.Cond.code ({ cls := "FrostBox", name := "wholePlan", desc := "(I)V" } : Jvm.MethodName) prog_1_method_36_code (3 : Nat) (Option.none : Option Jvm.ClassFile.FieldType)) ∈ lw_all := lw_g (lw_at lw_m3 89 rfl) rfl
theorem q711 : (Jvm.Cond.methodLink "FrostBox" (295 : Nat) ({ cls := "FrostBox", name := "stepRead", desc := "(I)V" } : Jvm.MethodName)) ∈ lw_all := lw_g (lw_at lw_m3 90 rfl) rfl
theorem q712 : (Jvm.Cond.privateMethod ({ cls := "FrostBox", name := "stepRead", desc := "(I)V" } : Jvm.MethodName)) ∈ lw_tbl := lw_at lw_m3 91 rfl
theorem q713 : (Jvm.Cond.instanceMethod ({ cls := "FrostBox", name := "stepRead", desc := "(I)V" } : Jvm.MethodName)) ∈ lw_all := lw_g (lw_at lw_m3 92 rfl) rfl
theorem q714 : (Jvm.Cond.code ({ cls := "FrostBox", name := "stepRead", desc := "(I)V" } : Jvm.MethodName) prog_1_method_35_code (3 : Nat) (Option.none : Option Jvm.ClassFile.FieldType)) ∈ lw_all := lw_g (lw_at lw_m3 93 rfl) rfl
theorem q715 : (Jvm.Cond.stringRef "FrostBox" (290 : Nat) "ptlmc") ∈ lw_tbl := lw_at lw_m3 94 rfl
theorem q716 : (Jvm.Cond.methodLink "FrostBox" (292 : Nat) ({ cls := "FrostBox", name := "digit", desc := "(I)I" } : Jvm.MethodName)) ∈ lw_all := lw_g (lw_at lw_m3 95 rfl) rfl
theorem q717 : (Jvm.Cond.privateMethod ({ cls := "FrostBox", name := "digit", desc := "(I)I" } : Jvm.MethodName)) ∈ lw_tbl := lw_at lw_m3 96 rfl
theorem q718 : (Jvm.Cond.instanceMethod ({ cls := "FrostBox", name := "digit", desc := "(I)I" } : Jvm.MethodName)) ∈ lw_all := lw_g (lw_at lw_m3 97 rfl) rfl
theorem q719 : (Jvm.Cond.code ({ cls := "FrostBox", name := "digit", desc := "(I)I" } : Jvm.MethodName) prog_1_method_34_code (2 : Nat) (Option.some Jvm.ClassFile.FieldType.int)) ∈ lw_all := lw_g (lw_at lw_m3 98 rfl) rfl
theorem q721 : (Jvm.Cond.instanceMethod ({ cls := "FrostBox", name := "text", desc := "(I)I" } : Jvm.MethodName)) ∈ lw_all := lw_g (lw_at lw_m3 100 rfl) rfl
theorem q722 : (Jvm.Cond.selects "FrostBox" ({ cls := "FrostBox", name := "text", desc := "(I)I" } : Jvm.MethodName) ({ cls := "FrostBox", name := "text", desc := "(I)I" } : Jvm.MethodName)) ∈ lw_all := lw_g (lw_at lw_m3 101 rfl) rfl
theorem q723 : (Jvm.Cond.code ({ cls := "FrostBox", name := "text", desc := "(I)I" } : Jvm.MethodName) prog_1_method_41_code (3 : Nat) (Option.some Jvm.ClassFile.FieldType.int)) ∈ lw_all := lw_g (lw_at lw_m3 102 rfl) rfl
theorem q724 : (Jvm.Cond.methodLink "FrostBox" (316 : Nat) ({ cls := "FrostBox", name := "lawRead", desc := "()I" } : Jvm.MethodName)) ∈ lw_all := lw_g (lw_at lw_m3 103 rfl) rfl
theorem q725 : (Jvm.Cond.privateMethod ({ cls := "FrostBox", name := "lawRead", desc := "()I" } : Jvm.MethodName)) ∈ lw_tbl := lw_at lw_m3 104 rfl
theorem q726 : (Jvm.Cond.instanceMethod ({ cls := "FrostBox", name := "lawRead", desc := "()I" } : Jvm.MethodName)) ∈ lw_all := lw_g (lw_at lw_m3 105 rfl) rfl
theorem q727 : (Jvm.Cond.codeWith ({ cls := "FrostBox", name := "lawRead", desc := "()I" } : Jvm.MethodName) prog_1_method_39_code (2 : Nat) (Option.some Jvm.ClassFile.FieldType.int) [((10 : Nat), (23 : Nat), (26 : Nat), (9 : Nat))]) ∈ lw_all := lw_g (lw_at lw_m3 106 rfl) rfl
theorem q728 : (Jvm.Cond.methodLink "FrostBox" (319 : Nat) ({ cls := "FrostBox", name := "planRead", desc := "()I" } : Jvm.MethodName)) ∈ lw_all := lw_g (lw_at lw_m3 107 rfl) rfl
theorem q729 : (Jvm.Cond.privateMethod ({ cls := "FrostBox", name := "planRead", desc := "()I" } : Jvm.MethodName)) ∈ lw_tbl := lw_at lw_m3 108 rfl
theorem q730 : (Jvm.Cond.instanceMethod ({ cls := "FrostBox", name := "planRead", desc := "()I" } : Jvm.MethodName)) ∈ lw_all := lw_g (lw_at lw_m3 109 rfl) rfl
theorem q731 : (Jvm.Cond.codeWith ({ cls := "FrostBox", name := "planRead", desc := "()I" } : Jvm.MethodName) prog_1_method_40_code (2 : Nat) (Option.some Jvm.ClassFile.FieldType.int) [((10 : Nat), (18 : Nat), (21 : Nat), (9 : Nat))]) ∈ lw_all := lw_g (lw_at lw_m3 110 rfl) rfl
theorem q732 : (Jvm.Cond.methodLink "FrostBox" (322 : Nat) ({ cls := "FrostBox", name := "fault", desc := "(I)I" } : Jvm.MethodName)) ∈ lw_all := lw_g (lw_at lw_m3 111 rfl) rfl
theorem q734 : (Jvm.Cond.instanceMethod ({ cls := "FrostBox", name := "rule", desc := "(I)I" } : Jvm.MethodName)) ∈ lw_all := lw_g (lw_at lw_m3 113 rfl) rfl
theorem q735 : (Jvm.Cond.selects "FrostBox" ({ cls := "FrostBox", name := "rule", desc := "(I)I" } : Jvm.MethodName) ({ cls := "FrostBox", name := "rule", desc := "(I)I" } : Jvm.MethodName)) ∈ lw_all := lw_g (lw_at lw_m3 114 rfl) rfl
theorem q736 : (Jvm.Cond.code ({ cls := "FrostBox", name := "rule", desc := "(I)I" } : Jvm.MethodName) prog_1_method_59_code (2 : Nat) (Option.some Jvm.ClassFile.FieldType.int)) ∈ lw_all := lw_g (lw_at lw_m3 115 rfl) rfl
theorem q737 : (Jvm.Cond.methodLink "FrostBox" (384 : Nat) ({ cls := "FrostBox", name := "isHouse", desc := "()Z" } : Jvm.MethodName)) ∈ lw_all := lw_g (lw_at lw_m3 116 rfl) rfl
theorem q738 : (Jvm.Cond.privateMethod ({ cls := "FrostBox", name := "isHouse", desc := "()Z" } : Jvm.MethodName)) ∈ lw_tbl := lw_at lw_m3 117 rfl
theorem q739 : (Jvm.Cond.instanceMethod ({ cls := "FrostBox", name := "isHouse", desc := "()Z" } : Jvm.MethodName)) ∈ lw_all := lw_g (lw_at lw_m3 118 rfl) rfl
theorem q740 : (Jvm.Cond.code ({ cls := "FrostBox", name := "isHouse", desc := "()Z" } : Jvm.MethodName) prog_1_method_42_code (1 : Nat) (Option.some Jvm.ClassFile.FieldType.boolean)) ∈ lw_all := lw_g (lw_at lw_m3 119 rfl) rfl
theorem q742 : (Jvm.Cond.instanceMethod ({ cls := "FrostBox", name := "kind", desc := "(II)I" } : Jvm.MethodName)) ∈ lw_all := lw_g (lw_at lw_m3 121 rfl) rfl
theorem q743 : (Jvm.Cond.selects "FrostBox" ({ cls := "FrostBox", name := "kind", desc := "(II)I" } : Jvm.MethodName) ({ cls := "FrostBox", name := "kind", desc := "(II)I" } : Jvm.MethodName)) ∈ lw_all := lw_g (lw_at lw_m3 122 rfl) rfl
theorem q744 : (Jvm.Cond.code ({ cls := "FrostBox", name := "kind", desc := "(II)I" } : Jvm.MethodName) prog_1_method_60_code (3 : Nat) (Option.some Jvm.ClassFile.FieldType.int)) ∈ lw_all := lw_g (lw_at lw_m3 123 rfl) rfl
theorem q745 : (Jvm.Cond.methodLink "FrostBox" (387 : Nat) ({ cls := "FrostBox", name := "isKind", desc := "(I)Z" } : Jvm.MethodName)) ∈ lw_all := lw_g (lw_at lw_m3 124 rfl) rfl
theorem q746 : (Jvm.Cond.privateMethod ({ cls := "FrostBox", name := "isKind", desc := "(I)Z" } : Jvm.MethodName)) ∈ lw_tbl := lw_at lw_m3 125 rfl
theorem q747 : (Jvm.Cond.instanceMethod ({ cls := "FrostBox", name := "isKind", desc := "(I)Z" } : Jvm.MethodName)) ∈ lw_all := lw_g (lw_at lw_m3 126 rfl) rfl
theorem q748 : (Jvm.Cond.code ({ cls := "FrostBox", name := "isKind", desc := "(I)Z" } : Jvm.MethodName) prog_1_method_43_code (2 : Nat) (Option.some Jvm.ClassFile.FieldType.boolean)) ∈ lw_all := lw_g (lw_at lw_m3 127 rfl) rfl
theorem q749 : (Jvm.Cond.methodLink "FrostBox" (390 : Nat) ({ cls := "FrostBox", name := "goesWith", desc := "(I)I" } : Jvm.MethodName)) ∈ lw_all := lw_g (lw_at lw_m3 128 rfl) rfl
theorem q750 : (Jvm.Cond.privateMethod ({ cls := "FrostBox", name := "goesWith", desc := "(I)I" } : Jvm.MethodName)) ∈ lw_tbl := lw_at lw_m3 129 rfl
theorem q751 : (Jvm.Cond.instanceMethod ({ cls := "FrostBox", name := "goesWith", desc := "(I)I" } : Jvm.MethodName)) ∈ lw_all := lw_g (lw_at lw_m3 130 rfl) rfl
theorem q752 : (Jvm.Cond.code ({ cls := "FrostBox", name := "goesWith", desc := "(I)I" } : Jvm.MethodName) prog_1_method_49_code (2 : Nat) (Option.some Jvm.ClassFile.FieldType.int)) ∈ lw_all := lw_g (lw_at lw_m3 131 rfl) rfl
theorem q753 : (Jvm.Cond.methodLink "FrostBox" (346 : Nat) ({ cls := "FrostBox", name := "ofKind", desc := "(II)I" } : Jvm.MethodName)) ∈ lw_all := lw_g (lw_at lw_m3 132 rfl) rfl
theorem q754 : (Jvm.Cond.privateMethod ({ cls := "FrostBox", name := "ofKind", desc := "(II)I" } : Jvm.MethodName)) ∈ lw_tbl := lw_at lw_m3 133 rfl
theorem q755 : (Jvm.Cond.instanceMethod ({ cls := "FrostBox", name := "ofKind", desc := "(II)I" } : Jvm.MethodName)) ∈ lw_all := lw_g (lw_at lw_m3 134 rfl) rfl
theorem q756 : (Jvm.Cond.code ({ cls := "FrostBox", name := "ofKind", desc := "(II)I" } : Jvm.MethodName) prog_1_method_48_code (3 : Nat) (Option.some Jvm.ClassFile.FieldType.int)) ∈ lw_all := lw_g (lw_at lw_m3 135 rfl) rfl
theorem q758 : (Jvm.Cond.instanceMethod ({ cls := "FrostBox", name := "law", desc := "(I)Z" } : Jvm.MethodName)) ∈ lw_all := lw_g (lw_at lw_m3 137 rfl) rfl
theorem q759 : (Jvm.Cond.selects "FrostBox" ({ cls := "FrostBox", name := "law", desc := "(I)Z" } : Jvm.MethodName) ({ cls := "FrostBox", name := "law", desc := "(I)Z" } : Jvm.MethodName)) ∈ lw_all := lw_g (lw_at lw_m3 138 rfl) rfl
theorem q760 : (Jvm.Cond.code ({ cls := "FrostBox", name := "law", desc := "(I)Z" } : Jvm.MethodName) prog_1_method_62_code (2 : Nat) (Option.some Jvm.ClassFile.FieldType.boolean)) ∈ lw_all := lw_g (lw_at lw_m3 139 rfl) rfl
theorem q762 : (Jvm.Cond.instanceMethod ({ cls := "FrostBox", name := "habit", desc := "(I)Z" } : Jvm.MethodName)) ∈ lw_all := lw_g (lw_at lw_m3 141 rfl) rfl
theorem q763 : (Jvm.Cond.selects "FrostBox" ({ cls := "FrostBox", name := "habit", desc := "(I)Z" } : Jvm.MethodName) ({ cls := "FrostBox", name := "habit", desc := "(I)Z" } : Jvm.MethodName)) ∈ lw_all := lw_g (lw_at lw_m3 142 rfl) rfl
theorem q764 : (Jvm.Cond.code ({ cls := "FrostBox", name := "habit", desc := "(I)Z" } : Jvm.MethodName) prog_1_method_63_code (2 : Nat) (Option.some Jvm.ClassFile.FieldType.boolean)) ∈ lw_all := lw_g (lw_at lw_m3 143 rfl) rfl
theorem q766 : (Jvm.Cond.instanceMethod ({ cls := "FrostBox", name := "put", desc := "(IIZ)I" } : Jvm.MethodName)) ∈ lw_all := lw_g (lw_at lw_m3 145 rfl) rfl
theorem q767 : (Jvm.Cond.selects "FrostBox" ({ cls := "FrostBox", name := "put", desc := "(IIZ)I" } : Jvm.MethodName) ({ cls := "FrostBox", name := "put", desc := "(IIZ)I" } : Jvm.MethodName)) ∈ lw_all := lw_g (lw_at lw_m3 146 rfl) rfl
theorem q768 : (Jvm.Cond.code ({ cls := "FrostBox", name := "put", desc := "(IIZ)I" } : Jvm.MethodName) prog_1_method_67_code (4 : Nat) (Option.some Jvm.ClassFile.FieldType.int)) ∈ lw_all := lw_g (lw_at lw_m3 147 rfl) rfl
theorem q769 : (Jvm.Cond.methodLink "FrostBox" (408 : Nat) ({ cls := "FrostBox", name := "canPut", desc := "(II)Z" } : Jvm.MethodName)) ∈ lw_all := lw_g (lw_at lw_m3 148 rfl) rfl
theorem q770 : (Jvm.Cond.privateMethod ({ cls := "FrostBox", name := "canPut", desc := "(II)Z" } : Jvm.MethodName)) ∈ lw_tbl := lw_at lw_m3 149 rfl
theorem q771 : (Jvm.Cond.instanceMethod ({ cls := "FrostBox", name := "canPut", desc := "(II)Z" } : Jvm.MethodName)) ∈ lw_all := lw_g (lw_at lw_m3 150 rfl) rfl
theorem q772 : (Jvm.Cond.code ({ cls := "FrostBox", name := "canPut", desc := "(II)Z" } : Jvm.MethodName) prog_1_method_65_code (3 : Nat) (Option.some Jvm.ClassFile.FieldType.boolean)) ∈ lw_all := lw_g (lw_at lw_m3 151 rfl) rfl
theorem q773 : (Jvm.Cond.methodLink "FrostBox" (340 : Nat) ({ cls := "FrostBox", name := "boxMany", desc := "()I" } : Jvm.MethodName)) ∈ lw_all := lw_g (lw_at lw_m3 152 rfl) rfl
theorem q774 : (Jvm.Cond.privateMethod ({ cls := "FrostBox", name := "boxMany", desc := "()I" } : Jvm.MethodName)) ∈ lw_tbl := lw_at lw_m3 153 rfl
theorem q775 : (Jvm.Cond.instanceMethod ({ cls := "FrostBox", name := "boxMany", desc := "()I" } : Jvm.MethodName)) ∈ lw_all := lw_g (lw_at lw_m3 154 rfl) rfl
theorem q776 : (Jvm.Cond.code ({ cls := "FrostBox", name := "boxMany", desc := "()I" } : Jvm.MethodName) prog_1_method_44_code (1 : Nat) (Option.some Jvm.ClassFile.FieldType.int)) ∈ lw_all := lw_g (lw_at lw_m3 155 rfl) rfl
theorem q777 : (Jvm.Cond.methodLink "FrostBox" (405 : Nat) ({ cls := "FrostBox", name := "portionsAll", desc := "()I" } : Jvm.MethodName)) ∈ lw_all := lw_g (lw_at lw_m3 156 rfl) rfl
theorem q778 : (Jvm.Cond.privateMethod ({ cls := "FrostBox", name := "portionsAll", desc := "()I" } : Jvm.MethodName)) ∈ lw_tbl := lw_at lw_m3 157 rfl
theorem q779 : (Jvm.Cond.instanceMethod ({ cls := "FrostBox", name := "portionsAll", desc := "()I" } : Jvm.MethodName)) ∈ lw_all := lw_g (lw_at lw_m3 158 rfl) rfl
theorem q780 : (Jvm.Cond.code ({ cls := "FrostBox", name := "portionsAll", desc := "()I" } : Jvm.MethodName) prog_1_method_53_code (1 : Nat) (Option.some Jvm.ClassFile.FieldType.int)) ∈ lw_all := lw_g (lw_at lw_m3 159 rfl) rfl
theorem q781 : (Jvm.Cond.methodLink "FrostBox" (352 : Nat) ({ cls := "FrostBox", name := "portionsOf", desc := "(I)I" } : Jvm.MethodName)) ∈ lw_all := lw_g (lw_at lw_m3 160 rfl) rfl
theorem q782 : (Jvm.Cond.privateMethod ({ cls := "FrostBox", name := "portionsOf", desc := "(I)I" } : Jvm.MethodName)) ∈ lw_tbl := lw_at lw_m3 161 rfl
theorem q783 : (Jvm.Cond.instanceMethod ({ cls := "FrostBox", name := "portionsOf", desc := "(I)I" } : Jvm.MethodName)) ∈ lw_all := lw_g (lw_at lw_m3 162 rfl) rfl
theorem q784 : (Jvm.Cond.code ({ cls := "FrostBox", name := "portionsOf", desc := "(I)I" } : Jvm.MethodName) prog_1_method_52_code (4 : Nat) (Option.some Jvm.ClassFile.FieldType.int)) ∈ lw_all := lw_g (lw_at lw_m3 163 rfl) rfl
theorem q785 : (Jvm.Cond.methodLink "FrostBox" (349 : Nat) ({ cls := "FrostBox", name := "of", desc := "(II)I" } : Jvm.MethodName)) ∈ lw_all := lw_g (lw_at lw_m3 164 rfl) rfl
theorem q786 : (Jvm.Cond.privateMethod ({ cls := "FrostBox", name := "of", desc := "(II)I" } : Jvm.MethodName)) ∈ lw_tbl := lw_at lw_m3 165 rfl
theorem q787 : (Jvm.Cond.instanceMethod ({ cls := "FrostBox", name := "of", desc := "(II)I" } : Jvm.MethodName)) ∈ lw_all := lw_g (lw_at lw_m3 166 rfl) rfl
theorem q788 : (Jvm.Cond.code ({ cls := "FrostBox", name := "of", desc := "(II)I" } : Jvm.MethodName) prog_1_method_47_code (3 : Nat) (Option.some Jvm.ClassFile.FieldType.int)) ∈ lw_all := lw_g (lw_at lw_m3 167 rfl) rfl
theorem q789 : (Jvm.Cond.methodLink "FrostBox" (343 : Nat) ({ cls := "FrostBox", name := "turned", desc := "(I)I" } : Jvm.MethodName)) ∈ lw_all := lw_g (lw_at lw_m3 168 rfl) rfl
theorem q790 : (Jvm.Cond.privateMethod ({ cls := "FrostBox", name := "turned", desc := "(I)I" } : Jvm.MethodName)) ∈ lw_tbl := lw_at lw_m3 169 rfl
theorem q791 : (Jvm.Cond.instanceMethod ({ cls := "FrostBox", name := "turned", desc := "(I)I" } : Jvm.MethodName)) ∈ lw_all := lw_g (lw_at lw_m3 170 rfl) rfl
theorem q792 : (Jvm.Cond.code ({ cls := "FrostBox", name := "turned", desc := "(I)I" } : Jvm.MethodName) prog_1_method_46_code (2 : Nat) (Option.some Jvm.ClassFile.FieldType.int)) ∈ lw_all := lw_g (lw_at lw_m3 171 rfl) rfl
theorem q793 : (Jvm.Cond.methodLink "FrostBox" (411 : Nat) ({ cls := "FrostBox", name := "act", desc := "()V" } : Jvm.MethodName)) ∈ lw_all := lw_g (lw_at lw_m3 172 rfl) rfl
theorem q794 : (Jvm.Cond.privateMethod ({ cls := "FrostBox", name := "act", desc := "()V" } : Jvm.MethodName)) ∈ lw_tbl := lw_at lw_m3 173 rfl
theorem q795 : (Jvm.Cond.instanceMethod ({ cls := "FrostBox", name := "act", desc := "()V" } : Jvm.MethodName)) ∈ lw_all := lw_g (lw_at lw_m3 174 rfl) rfl
theorem q796 : (Jvm.Cond.code ({ cls := "FrostBox", name := "act", desc := "()V" } : Jvm.MethodName) prog_1_method_64_code (2 : Nat) (Option.none : Option Jvm.ClassFile.FieldType)) ∈ lw_all := lw_g (lw_at lw_m3 175 rfl) rfl
theorem q797 : (Jvm.Cond.methodLink "FrostBox" (414 : Nat) ({ cls := "FrostBox", name := "putNow", desc := "(IIZ)V" } : Jvm.MethodName)) ∈ lw_all := lw_g (lw_at lw_m3 176 rfl) rfl
theorem q798 : (Jvm.Cond.privateMethod ({ cls := "FrostBox", name := "putNow", desc := "(IIZ)V" } : Jvm.MethodName)) ∈ lw_tbl := lw_at lw_m3 177 rfl
theorem q799 : (Jvm.Cond.instanceMethod ({ cls := "FrostBox", name := "putNow", desc := "(IIZ)V" } : Jvm.MethodName)) ∈ lw_all := lw_g (lw_at lw_m3 178 rfl) rfl
theorem q800 : (Jvm.Cond.code ({ cls := "FrostBox", name := "putNow", desc := "(IIZ)V" } : Jvm.MethodName) prog_1_method_66_code (5 : Nat) (Option.none : Option Jvm.ClassFile.FieldType)) ∈ lw_all := lw_g (lw_at lw_m3 179 rfl) rfl
theorem q802 : (Jvm.Cond.instanceMethod ({ cls := "FrostBox", name := "take", desc := "(I)I" } : Jvm.MethodName)) ∈ lw_all := lw_g (lw_at lw_m3 181 rfl) rfl
theorem q803 : (Jvm.Cond.selects "FrostBox" ({ cls := "FrostBox", name := "take", desc := "(I)I" } : Jvm.MethodName) ({ cls := "FrostBox", name := "take", desc := "(I)I" } : Jvm.MethodName)) ∈ lw_all := lw_g (lw_at lw_m3 182 rfl) rfl
theorem q804 : (Jvm.Cond.code ({ cls := "FrostBox", name := "take", desc := "(I)I" } : Jvm.MethodName) prog_1_method_69_code (2 : Nat) (Option.some Jvm.ClassFile.FieldType.int)) ∈ lw_all := lw_g (lw_at lw_m3 183 rfl) rfl
theorem q805 : (Jvm.Cond.methodLink "FrostBox" (393 : Nat) ({ cls := "FrostBox", name := "isBox", desc := "(I)Z" } : Jvm.MethodName)) ∈ lw_all := lw_g (lw_at lw_m3 184 rfl) rfl
theorem q806 : (Jvm.Cond.privateMethod ({ cls := "FrostBox", name := "isBox", desc := "(I)Z" } : Jvm.MethodName)) ∈ lw_tbl := lw_at lw_m3 185 rfl
theorem q807 : (Jvm.Cond.instanceMethod ({ cls := "FrostBox", name := "isBox", desc := "(I)Z" } : Jvm.MethodName)) ∈ lw_all := lw_g (lw_at lw_m3 186 rfl) rfl
theorem q808 : (Jvm.Cond.code ({ cls := "FrostBox", name := "isBox", desc := "(I)Z" } : Jvm.MethodName) prog_1_method_45_code (2 : Nat) (Option.some Jvm.ClassFile.FieldType.boolean)) ∈ lw_all := lw_g (lw_at lw_m3 187 rfl) rfl
theorem q809 : (Jvm.Cond.methodLink "FrostBox" (418 : Nat) ({ cls := "FrostBox", name := "takeNow", desc := "(I)I" } : Jvm.MethodName)) ∈ lw_all := lw_g (lw_at lw_m3 188 rfl) rfl
theorem q810 : (Jvm.Cond.privateMethod ({ cls := "FrostBox", name := "takeNow", desc := "(I)I" } : Jvm.MethodName)) ∈ lw_tbl := lw_at lw_m3 189 rfl
theorem q811 : (Jvm.Cond.instanceMethod ({ cls := "FrostBox", name := "takeNow", desc := "(I)I" } : Jvm.MethodName)) ∈ lw_all := lw_g (lw_at lw_m3 190 rfl) rfl
theorem q812 : (Jvm.Cond.code ({ cls := "FrostBox", name := "takeNow", desc := "(I)I" } : Jvm.MethodName) prog_1_method_68_code (5 : Nat) (Option.some Jvm.ClassFile.FieldType.int)) ∈ lw_all := lw_g (lw_at lw_m3 191 rfl) rfl
theorem q813 : (Jvm.Cond.methodLink "FrostBox" (381 : Nat) ({ cls := "FrostBox", name := "valueOf", desc := "(I)I" } : Jvm.MethodName)) ∈ lw_all := lw_g (lw_at lw_m3 192 rfl) rfl
theorem q814 : (Jvm.Cond.privateMethod ({ cls := "FrostBox", name := "valueOf", desc := "(I)I" } : Jvm.MethodName)) ∈ lw_tbl := lw_at lw_m3 193 rfl
theorem q815 : (Jvm.Cond.instanceMethod ({ cls := "FrostBox", name := "valueOf", desc := "(I)I" } : Jvm.MethodName)) ∈ lw_all := lw_g (lw_at lw_m3 194 rfl) rfl
theorem q816 : (Jvm.Cond.code ({ cls := "FrostBox", name := "valueOf", desc := "(I)I" } : Jvm.MethodName) prog_1_method_57_code (2 : Nat) (Option.some Jvm.ClassFile.FieldType.int)) ∈ lw_all := lw_g (lw_at lw_m3 195 rfl) rfl
theorem q817 : (Jvm.Cond.methodLink "FrostBox" (377 : Nat) ({ cls := "FrostBox", name := "valueAt", desc := "(III)I" } : Jvm.MethodName)) ∈ lw_all := lw_g (lw_at lw_m3 196 rfl) rfl
theorem q818 : (Jvm.Cond.privateMethod ({ cls := "FrostBox", name := "valueAt", desc := "(III)I" } : Jvm.MethodName)) ∈ lw_tbl := lw_at lw_m3 197 rfl
theorem q819 : (Jvm.Cond.instanceMethod ({ cls := "FrostBox", name := "valueAt", desc := "(III)I" } : Jvm.MethodName)) ∈ lw_all := lw_g (lw_at lw_m3 198 rfl) rfl
theorem q820 : (Jvm.Cond.code ({ cls := "FrostBox", name := "valueAt", desc := "(III)I" } : Jvm.MethodName) prog_1_method_56_code (4 : Nat) (Option.some Jvm.ClassFile.FieldType.int)) ∈ lw_all := lw_g (lw_at lw_m3 199 rfl) rfl
theorem q821 : (Jvm.Cond.methodLink "FrostBox" (370 : Nat) ({ cls := "FrostBox", name := "aged", desc := "(II)I" } : Jvm.MethodName)) ∈ lw_all := lw_g (lw_at lw_m3 200 rfl) rfl
theorem q822 : (Jvm.Cond.privateMethod ({ cls := "FrostBox", name := "aged", desc := "(II)I" } : Jvm.MethodName)) ∈ lw_tbl := lw_at lw_m3 201 rfl
theorem q823 : (Jvm.Cond.instanceMethod ({ cls := "FrostBox", name := "aged", desc := "(II)I" } : Jvm.MethodName)) ∈ lw_all := lw_g (lw_at lw_m3 202 rfl) rfl
theorem q824 : (Jvm.Cond.code ({ cls := "FrostBox", name := "aged", desc := "(II)I" } : Jvm.MethodName) prog_1_method_55_code (3 : Nat) (Option.some Jvm.ClassFile.FieldType.int)) ∈ lw_all := lw_g (lw_at lw_m3 203 rfl) rfl
theorem q825 : (Jvm.Cond.methodLink "FrostBox" (355 : Nat) ({ cls := "java/lang/Math", name := "min", desc := "(II)I" } : Jvm.MethodName)) ∈ lw_all := lw_g (lw_at lw_m3 204 rfl) rfl
theorem q826 : (Jvm.Cond.methodLink "FrostBox" (373 : Nat) ({ cls := "FrostBox", name := "worthAt", desc := "(IIII)I" } : Jvm.MethodName)) ∈ lw_all := lw_g (lw_at lw_m3 205 rfl) rfl
theorem q827 : (Jvm.Cond.privateMethod ({ cls := "FrostBox", name := "worthAt", desc := "(IIII)I" } : Jvm.MethodName)) ∈ lw_tbl := lw_at lw_m3 206 rfl
theorem q828 : (Jvm.Cond.instanceMethod ({ cls := "FrostBox", name := "worthAt", desc := "(IIII)I" } : Jvm.MethodName)) ∈ lw_all := lw_g (lw_at lw_m3 207 rfl) rfl
theorem q829 : (Jvm.Cond.code ({ cls := "FrostBox", name := "worthAt", desc := "(IIII)I" } : Jvm.MethodName) prog_1_method_54_code (7 : Nat) (Option.some Jvm.ClassFile.FieldType.int)) ∈ lw_all := lw_g (lw_at lw_m3 208 rfl) rfl
theorem q830 : (Jvm.Cond.methodLink "FrostBox" (360 : Nat) ({ cls := "java/lang/Math", name := "max", desc := "(II)I" } : Jvm.MethodName)) ∈ lw_all := lw_g (lw_at lw_m3 209 rfl) rfl
theorem q831 : (Jvm.Cond.methodLink "FrostBox" (363 : Nat) ({ cls := "FrostBox", name := "forget", desc := "()V" } : Jvm.MethodName)) ∈ lw_all := lw_g (lw_at lw_m3 210 rfl) rfl
theorem q832 : (Jvm.Cond.privateMethod ({ cls := "FrostBox", name := "forget", desc := "()V" } : Jvm.MethodName)) ∈ lw_tbl := lw_at lw_m3 211 rfl
theorem q833 : (Jvm.Cond.instanceMethod ({ cls := "FrostBox", name := "forget", desc := "()V" } : Jvm.MethodName)) ∈ lw_all := lw_g (lw_at lw_m3 212 rfl) rfl
theorem q834 : (Jvm.Cond.code ({ cls := "FrostBox", name := "forget", desc := "()V" } : Jvm.MethodName) prog_1_method_23_code (2 : Nat) (Option.none : Option Jvm.ClassFile.FieldType)) ∈ lw_all := lw_g (lw_at lw_m3 213 rfl) rfl
theorem q835 : (Jvm.Cond.methodLink "FrostBox" (214 : Nat) ({ cls := "java/lang/String", name := "length", desc := "()I" } : Jvm.MethodName)) ∈ lw_all := lw_g (lw_at lw_m3 214 rfl) rfl
theorem q836 : (Jvm.Cond.methodLink "FrostBox" (217 : Nat) ({ cls := "java/lang/String", name := "charAt", desc := "(I)C" } : Jvm.MethodName)) ∈ lw_all := lw_g (lw_at lw_m3 215 rfl) rfl
theorem q856 : (Jvm.Cond.methodLink "FrostBox" (366 : Nat) ({ cls := "FrostBox", name := "worth", desc := "(LFrostBox$Clause;I[I)I" } : Jvm.MethodName)) ∈ lw_all := lw_g (lw_at lw_m3 235 rfl) rfl
theorem q857 : (Jvm.Cond.static ({ cls := "FrostBox", name := "worth", desc := "(LFrostBox$Clause;I[I)I" } : Jvm.MethodName)) ∈ lw_all := lw_g (lw_at lw_m3 236 rfl) rfl
theorem q858 : (Jvm.Cond.code ({ cls := "FrostBox", name := "worth", desc := "(LFrostBox$Clause;I[I)I" } : Jvm.MethodName) prog_1_method_24_code (4 : Nat) (Option.some Jvm.ClassFile.FieldType.int)) ∈ lw_all := lw_g (lw_at lw_m3 237 rfl) rfl
theorem q859 : (Jvm.Cond.methodLink "FrostBox" (228 : Nat) ({ cls := "FrostBox$Test", name := "holds", desc := "([I)Z" } : Jvm.MethodName)) ∈ lw_all := lw_g (lw_at lw_m3 238 rfl) rfl
theorem q899 : (Jvm.Cond.methodLink "FrostBox" (237 : Nat) ({ cls := "FrostBox$Sum", name := "value", desc := "([I)I" } : Jvm.MethodName)) ∈ lw_all := lw_g (lw_at lw_m4 38 rfl) rfl
theorem q901 : (Jvm.Cond.instanceMethod ({ cls := "FrostBox", name := "label", desc := "(I)Z" } : Jvm.MethodName)) ∈ lw_all := lw_g (lw_at lw_m4 40 rfl) rfl
theorem q902 : (Jvm.Cond.selects "FrostBox" ({ cls := "FrostBox", name := "label", desc := "(I)Z" } : Jvm.MethodName) ({ cls := "FrostBox", name := "label", desc := "(I)Z" } : Jvm.MethodName)) ∈ lw_all := lw_g (lw_at lw_m4 41 rfl) rfl
theorem q903 : (Jvm.Cond.code ({ cls := "FrostBox", name := "label", desc := "(I)Z" } : Jvm.MethodName) prog_1_method_72_code (2 : Nat) (Option.some Jvm.ClassFile.FieldType.boolean)) ∈ lw_all := lw_g (lw_at lw_m4 42 rfl) rfl
theorem q904 : (Jvm.Cond.methodLink "FrostBox" (421 : Nat) ({ cls := "FrostBox", name := "canLabel", desc := "(I)Z" } : Jvm.MethodName)) ∈ lw_all := lw_g (lw_at lw_m4 43 rfl) rfl
theorem q905 : (Jvm.Cond.privateMethod ({ cls := "FrostBox", name := "canLabel", desc := "(I)Z" } : Jvm.MethodName)) ∈ lw_tbl := lw_at lw_m4 44 rfl
theorem q906 : (Jvm.Cond.instanceMethod ({ cls := "FrostBox", name := "canLabel", desc := "(I)Z" } : Jvm.MethodName)) ∈ lw_all := lw_g (lw_at lw_m4 45 rfl) rfl
theorem q907 : (Jvm.Cond.code ({ cls := "FrostBox", name := "canLabel", desc := "(I)Z" } : Jvm.MethodName) prog_1_method_70_code (2 : Nat) (Option.some Jvm.ClassFile.FieldType.boolean)) ∈ lw_all := lw_g (lw_at lw_m4 46 rfl) rfl
theorem q908 : (Jvm.Cond.methodLink "FrostBox" (399 : Nat) ({ cls := "FrostBox", name := "isLabelled", desc := "(I)Z" } : Jvm.MethodName)) ∈ lw_all := lw_g (lw_at lw_m4 47 rfl) rfl
theorem q909 : (Jvm.Cond.privateMethod ({ cls := "FrostBox", name := "isLabelled", desc := "(I)Z" } : Jvm.MethodName)) ∈ lw_tbl := lw_at lw_m4 48 rfl
theorem q910 : (Jvm.Cond.instanceMethod ({ cls := "FrostBox", name := "isLabelled", desc := "(I)Z" } : Jvm.MethodName)) ∈ lw_all := lw_g (lw_at lw_m4 49 rfl) rfl
theorem q911 : (Jvm.Cond.code ({ cls := "FrostBox", name := "isLabelled", desc := "(I)Z" } : Jvm.MethodName) prog_1_method_50_code (2 : Nat) (Option.some Jvm.ClassFile.FieldType.boolean)) ∈ lw_all := lw_g (lw_at lw_m4 50 rfl) rfl
theorem q912 : (Jvm.Cond.methodLink "FrostBox" (424 : Nat) ({ cls := "FrostBox", name := "labelNow", desc := "(I)V" } : Jvm.MethodName)) ∈ lw_all := lw_g (lw_at lw_m4 51 rfl) rfl
theorem q913 : (Jvm.Cond.privateMethod ({ cls := "FrostBox", name := "labelNow", desc := "(I)V" } : Jvm.MethodName)) ∈ lw_tbl := lw_at lw_m4 52 rfl
theorem q914 : (Jvm.Cond.instanceMethod ({ cls := "FrostBox", name := "labelNow", desc := "(I)V" } : Jvm.MethodName)) ∈ lw_all := lw_g (lw_at lw_m4 53 rfl) rfl
theorem q915 : (Jvm.Cond.code ({ cls := "FrostBox", name := "labelNow", desc := "(I)V" } : Jvm.MethodName) prog_1_method_71_code (2 : Nat) (Option.none : Option Jvm.ClassFile.FieldType)) ∈ lw_all := lw_g (lw_at lw_m4 54 rfl) rfl
theorem q917 : (Jvm.Cond.instanceMethod ({ cls := "FrostBox", name := "months", desc := "(I)I" } : Jvm.MethodName)) ∈ lw_all := lw_g (lw_at lw_m4 56 rfl) rfl
theorem q918 : (Jvm.Cond.selects "FrostBox" ({ cls := "FrostBox", name := "months", desc := "(I)I" } : Jvm.MethodName) ({ cls := "FrostBox", name := "months", desc := "(I)I" } : Jvm.MethodName)) ∈ lw_all := lw_g (lw_at lw_m4 57 rfl) rfl
theorem q919 : (Jvm.Cond.code ({ cls := "FrostBox", name := "months", desc := "(I)I" } : Jvm.MethodName) prog_1_method_76_code (3 : Nat) (Option.some Jvm.ClassFile.FieldType.int)) ∈ lw_all := lw_g (lw_at lw_m4 58 rfl) rfl
theorem q920 : (Jvm.Cond.methodLink "FrostBox" (430 : Nat) ({ cls := "FrostBox", name := "canPass", desc := "(I)Z" } : Jvm.MethodName)) ∈ lw_all := lw_g (lw_at lw_m4 59 rfl) rfl
theorem q921 : (Jvm.Cond.privateMethod ({ cls := "FrostBox", name := "canPass", desc := "(I)Z" } : Jvm.MethodName)) ∈ lw_tbl := lw_at lw_m4 60 rfl
theorem q922 : (Jvm.Cond.instanceMethod ({ cls := "FrostBox", name := "canPass", desc := "(I)Z" } : Jvm.MethodName)) ∈ lw_all := lw_g (lw_at lw_m4 61 rfl) rfl
theorem q923 : (Jvm.Cond.code ({ cls := "FrostBox", name := "canPass", desc := "(I)Z" } : Jvm.MethodName) prog_1_method_73_code (2 : Nat) (Option.some Jvm.ClassFile.FieldType.boolean)) ∈ lw_all := lw_g (lw_at lw_m4 62 rfl) rfl
theorem q924 : (Jvm.Cond.methodLink "FrostBox" (433 : Nat) ({ cls := "FrostBox", name := "pass", desc := "()V" } : Jvm.MethodName)) ∈ lw_all := lw_g (lw_at lw_m4 63 rfl) rfl
theorem q925 : (Jvm.Cond.privateMethod ({ cls := "FrostBox", name := "pass", desc := "()V" } : Jvm.MethodName)) ∈ lw_tbl := lw_at lw_m4 64 rfl
theorem q926 : (Jvm.Cond.instanceMethod ({ cls := "FrostBox", name := "pass", desc := "()V" } : Jvm.MethodName)) ∈ lw_all := lw_g (lw_at lw_m4 65 rfl) rfl
theorem q927 : (Jvm.Cond.code ({ cls := "FrostBox", name := "pass", desc := "()V" } : Jvm.MethodName) prog_1_method_75_code (3 : Nat) (Option.none : Option Jvm.ClassFile.FieldType)) ∈ lw_all := lw_g (lw_at lw_m4 66 rfl) rfl
theorem q928 : (Jvm.Cond.methodLink "FrostBox" (427 : Nat) ({ cls := "FrostBox", name := "older", desc := "(I)V" } : Jvm.MethodName)) ∈ lw_all := lw_g (lw_at lw_m4 67 rfl) rfl
theorem q929 : (Jvm.Cond.privateMethod ({ cls := "FrostBox", name := "older", desc := "(I)V" } : Jvm.MethodName)) ∈ lw_tbl := lw_at lw_m4 68 rfl
theorem q930 : (Jvm.Cond.instanceMethod ({ cls := "FrostBox", name := "older", desc := "(I)V" } : Jvm.MethodName)) ∈ lw_all := lw_g (lw_at lw_m4 69 rfl) rfl
theorem q931 : (Jvm.Cond.code ({ cls := "FrostBox", name := "older", desc := "(I)V" } : Jvm.MethodName) prog_1_method_74_code (3 : Nat) (Option.none : Option Jvm.ClassFile.FieldType)) ∈ lw_all := lw_g (lw_at lw_m4 70 rfl) rfl
theorem q933 : (Jvm.Cond.instanceMethod ({ cls := "FrostBox", name := "off", desc := "(I)I" } : Jvm.MethodName)) ∈ lw_all := lw_g (lw_at lw_m4 72 rfl) rfl
theorem q934 : (Jvm.Cond.selects "FrostBox" ({ cls := "FrostBox", name := "off", desc := "(I)I" } : Jvm.MethodName) ({ cls := "FrostBox", name := "off", desc := "(I)I" } : Jvm.MethodName)) ∈ lw_all := lw_g (lw_at lw_m4 73 rfl) rfl
theorem q935 : (Jvm.Cond.code ({ cls := "FrostBox", name := "off", desc := "(I)I" } : Jvm.MethodName) prog_1_method_79_code (3 : Nat) (Option.some Jvm.ClassFile.FieldType.int)) ∈ lw_all := lw_g (lw_at lw_m4 74 rfl) rfl
theorem q936 : (Jvm.Cond.methodLink "FrostBox" (436 : Nat) ({ cls := "FrostBox", name := "isOff", desc := "(I)Z" } : Jvm.MethodName)) ∈ lw_all := lw_g (lw_at lw_m4 75 rfl) rfl
theorem q937 : (Jvm.Cond.privateMethod ({ cls := "FrostBox", name := "isOff", desc := "(I)Z" } : Jvm.MethodName)) ∈ lw_tbl := lw_at lw_m4 76 rfl
theorem q938 : (Jvm.Cond.instanceMethod ({ cls := "FrostBox", name := "isOff", desc := "(I)Z" } : Jvm.MethodName)) ∈ lw_all := lw_g (lw_at lw_m4 77 rfl) rfl
theorem q939 : (Jvm.Cond.code ({ cls := "FrostBox", name := "isOff", desc := "(I)Z" } : Jvm.MethodName) prog_1_method_78_code (2 : Nat) (Option.some Jvm.ClassFile.FieldType.boolean)) ∈ lw_all := lw_g (lw_at lw_m4 78 rfl) rfl
theorem q940 : (Jvm.Cond.methodLink "FrostBox" (439 : Nat) ({ cls := "FrostBox", name := "tooMany", desc := "(I)I" } : Jvm.MethodName)) ∈ lw_all := lw_g (lw_at lw_m4 79 rfl) rfl
theorem q941 : (Jvm.Cond.privateMethod ({ cls := "FrostBox", name := "tooMany", desc := "(I)I" } : Jvm.MethodName)) ∈ lw_tbl := lw_at lw_m4 80 rfl
theorem q942 : (Jvm.Cond.instanceMethod ({ cls := "FrostBox", name := "tooMany", desc := "(I)I" } : Jvm.MethodName)) ∈ lw_all := lw_g (lw_at lw_m4 81 rfl) rfl
theorem q943 : (Jvm.Cond.code ({ cls := "FrostBox", name := "tooMany", desc := "(I)I" } : Jvm.MethodName) prog_1_method_77_code (2 : Nat) (Option.some Jvm.ClassFile.FieldType.int)) ∈ lw_all := lw_g (lw_at lw_m4 82 rfl) rfl
theorem q945 : (Jvm.Cond.instanceMethod ({ cls := "FrostBox", name := "years", desc := "(IJ)I" } : Jvm.MethodName)) ∈ lw_all := lw_g (lw_at lw_m4 84 rfl) rfl
theorem q946 : (Jvm.Cond.selects "FrostBox" ({ cls := "FrostBox", name := "years", desc := "(IJ)I" } : Jvm.MethodName) ({ cls := "FrostBox", name := "years", desc := "(IJ)I" } : Jvm.MethodName)) ∈ lw_all := lw_g (lw_at lw_m4 85 rfl) rfl
theorem q947 : (Jvm.Cond.code ({ cls := "FrostBox", name := "years", desc := "(IJ)I" } : Jvm.MethodName) prog_1_method_81_code (9 : Nat) (Option.some Jvm.ClassFile.FieldType.int)) ∈ lw_all := lw_g (lw_at lw_m4 86 rfl) rfl
theorem q948 : (Jvm.Cond.methodLink "FrostBox" (450 : Nat) ({ cls := "FrostBox", name := "draw", desc := "(I)I" } : Jvm.MethodName)) ∈ lw_all := lw_g (lw_at lw_m4 87 rfl) rfl
theorem q949 : (Jvm.Cond.privateMethod ({ cls := "FrostBox", name := "draw", desc := "(I)I" } : Jvm.MethodName)) ∈ lw_tbl := lw_at lw_m4 88 rfl
theorem q950 : (Jvm.Cond.instanceMethod ({ cls := "FrostBox", name := "draw", desc := "(I)I" } : Jvm.MethodName)) ∈ lw_all := lw_g (lw_at lw_m4 89 rfl) rfl
theorem q951 : (Jvm.Cond.code ({ cls := "FrostBox", name := "draw", desc := "(I)I" } : Jvm.MethodName) prog_1_method_80_code (2 : Nat) (Option.some Jvm.ClassFile.FieldType.int)) ∈ lw_all := lw_g (lw_at lw_m4 90 rfl) rfl
theorem q952 : (Jvm.Cond.constantLong "FrostBox" (446 : Nat) (6364136223846793005 : Int64)) ∈ lw_all := lw_g (lw_at lw_m4 91 rfl) rfl
theorem q953 : (Jvm.Cond.constantLong "FrostBox" (448 : Nat) (1442695040888963407 : Int64)) ∈ lw_all := lw_g (lw_at lw_m4 92 rfl) rfl
theorem q955 : (Jvm.Cond.instanceMethod ({ cls := "FrostBox", name := "undo", desc := "()I" } : Jvm.MethodName)) ∈ lw_all := lw_g (lw_at lw_m4 94 rfl) rfl
theorem q956 : (Jvm.Cond.selects "FrostBox" ({ cls := "FrostBox", name := "undo", desc := "()I" } : Jvm.MethodName) ({ cls := "FrostBox", name := "undo", desc := "()I" } : Jvm.MethodName)) ∈ lw_all := lw_g (lw_at lw_m4 95 rfl) rfl
theorem q957 : (Jvm.Cond.code ({ cls := "FrostBox", name := "undo", desc := "()I" } : Jvm.MethodName) prog_1_method_82_code (2 : Nat) (Option.some Jvm.ClassFile.FieldType.int)) ∈ lw_all := lw_g (lw_at lw_m4 96 rfl) rfl
theorem q959 : (Jvm.Cond.instanceMethod ({ cls := "FrostBox", name := "log", desc := "(II)I" } : Jvm.MethodName)) ∈ lw_all := lw_g (lw_at lw_m4 98 rfl) rfl
theorem q960 : (Jvm.Cond.selects "FrostBox" ({ cls := "FrostBox", name := "log", desc := "(II)I" } : Jvm.MethodName) ({ cls := "FrostBox", name := "log", desc := "(II)I" } : Jvm.MethodName)) ∈ lw_all := lw_g (lw_at lw_m4 99 rfl) rfl
theorem q961 : (Jvm.Cond.code ({ cls := "FrostBox", name := "log", desc := "(II)I" } : Jvm.MethodName) prog_1_method_83_code (3 : Nat) (Option.some Jvm.ClassFile.FieldType.int)) ∈ lw_all := lw_g (lw_at lw_m4 100 rfl) rfl
theorem q963 : (Jvm.Cond.instanceMethod ({ cls := "FrostBox", name := "step", desc := "(III)I" } : Jvm.MethodName)) ∈ lw_all := lw_g (lw_at lw_m4 102 rfl) rfl
theorem q964 : (Jvm.Cond.selects "FrostBox" ({ cls := "FrostBox", name := "step", desc := "(III)I" } : Jvm.MethodName) ({ cls := "FrostBox", name := "step", desc := "(III)I" } : Jvm.MethodName)) ∈ lw_all := lw_g (lw_at lw_m4 103 rfl) rfl
theorem q965 : (Jvm.Cond.code ({ cls := "FrostBox", name := "step", desc := "(III)I" } : Jvm.MethodName) prog_1_method_85_code (4 : Nat) (Option.some Jvm.ClassFile.FieldType.int)) ∈ lw_all := lw_g (lw_at lw_m4 104 rfl) rfl
theorem q966 : (Jvm.Cond.methodLink "FrostBox" (453 : Nat) ({ cls := "FrostBox", name := "isPlan", desc := "(I)Z" } : Jvm.MethodName)) ∈ lw_all := lw_g (lw_at lw_m4 105 rfl) rfl
theorem q967 : (Jvm.Cond.privateMethod ({ cls := "FrostBox", name := "isPlan", desc := "(I)Z" } : Jvm.MethodName)) ∈ lw_tbl := lw_at lw_m4 106 rfl
theorem q968 : (Jvm.Cond.instanceMethod ({ cls := "FrostBox", name := "isPlan", desc := "(I)Z" } : Jvm.MethodName)) ∈ lw_all := lw_g (lw_at lw_m4 107 rfl) rfl
theorem q969 : (Jvm.Cond.code ({ cls := "FrostBox", name := "isPlan", desc := "(I)Z" } : Jvm.MethodName) prog_1_method_84_code (2 : Nat) (Option.some Jvm.ClassFile.FieldType.boolean)) ∈ lw_all := lw_g (lw_at lw_m4 108 rfl) rfl
theorem q970 : (Jvm.Cond.constant "FrostBox" (456 : Nat) (-1000000 : Int32)) ∈ lw_all := lw_g (lw_at lw_m4 109 rfl) rfl
theorem q972 : (Jvm.Cond.instanceMethod ({ cls := "FrostBox", name := "run", desc := "(II)I" } : Jvm.MethodName)) ∈ lw_all := lw_g (lw_at lw_m4 111 rfl) rfl
theorem q973 : (Jvm.Cond.selects "FrostBox" ({ cls := "FrostBox", name := "run", desc := "(II)I" } : Jvm.MethodName) ({ cls := "FrostBox", name := "run", desc := "(II)I" } : Jvm.MethodName)) ∈ lw_all := lw_g (lw_at lw_m4 112 rfl) rfl
theorem q974 : (Jvm.Cond.code ({ cls := "FrostBox", name := "run", desc := "(II)I" } : Jvm.MethodName) prog_1_method_90_code (5 : Nat) (Option.some Jvm.ClassFile.FieldType.int)) ∈ lw_all := lw_g (lw_at lw_m4 113 rfl) rfl
theorem q975 : (Jvm.Cond.methodLink "FrostBox" (457 : Nat) ({ cls := "FrostBox", name := "putAside", desc := "()V" } : Jvm.MethodName)) ∈ lw_all := lw_g (lw_at lw_m4 114 rfl) rfl
theorem q976 : (Jvm.Cond.privateMethod ({ cls := "FrostBox", name := "putAside", desc := "()V" } : Jvm.MethodName)) ∈ lw_tbl := lw_at lw_m4 115 rfl
theorem q977 : (Jvm.Cond.instanceMethod ({ cls := "FrostBox", name := "putAside", desc := "()V" } : Jvm.MethodName)) ∈ lw_all := lw_g (lw_at lw_m4 116 rfl) rfl
theorem q978 : (Jvm.Cond.code ({ cls := "FrostBox", name := "putAside", desc := "()V" } : Jvm.MethodName) prog_1_method_88_code (2 : Nat) (Option.none : Option Jvm.ClassFile.FieldType)) ∈ lw_all := lw_g (lw_at lw_m4 117 rfl) rfl
theorem q979 : (Jvm.Cond.methodLink "FrostBox" (460 : Nat) ({ cls := "FrostBox", name := "canStep", desc := "(I)Z" } : Jvm.MethodName)) ∈ lw_all := lw_g (lw_at lw_m4 118 rfl) rfl
theorem q980 : (Jvm.Cond.privateMethod ({ cls := "FrostBox", name := "canStep", desc := "(I)Z" } : Jvm.MethodName)) ∈ lw_tbl := lw_at lw_m4 119 rfl
theorem q981 : (Jvm.Cond.instanceMethod ({ cls := "FrostBox", name := "canStep", desc := "(I)Z" } : Jvm.MethodName)) ∈ lw_all := lw_g (lw_at lw_m4 120 rfl) rfl
theorem q982 : (Jvm.Cond.code ({ cls := "FrostBox", name := "canStep", desc := "(I)Z" } : Jvm.MethodName) prog_1_method_86_code (3 : Nat) (Option.some Jvm.ClassFile.FieldType.boolean)) ∈ lw_all := lw_g (lw_at lw_m4 121 rfl) rfl
theorem q983 : (Jvm.Cond.methodLink "FrostBox" (463 : Nat) ({ cls := "FrostBox", name := "doStep", desc := "(I)I" } : Jvm.MethodName)) ∈ lw_all := lw_g (lw_at lw_m4 122 rfl) rfl
theorem q984 : (Jvm.Cond.privateMethod ({ cls := "FrostBox", name := "doStep", desc := "(I)I" } : Jvm.MethodName)) ∈ lw_tbl := lw_at lw_m4 123 rfl
theorem q985 : (Jvm.Cond.instanceMethod ({ cls := "FrostBox", name := "doStep", desc := "(I)I" } : Jvm.MethodName)) ∈ lw_all := lw_g (lw_at lw_m4 124 rfl) rfl
theorem q986 : (Jvm.Cond.code ({ cls := "FrostBox", name := "doStep", desc := "(I)I" } : Jvm.MethodName) prog_1_method_87_code (4 : Nat) (Option.some Jvm.ClassFile.FieldType.int)) ∈ lw_all := lw_g (lw_at lw_m4 125 rfl) rfl
theorem q987 : (Jvm.Cond.methodLink "FrostBox" (466 : Nat) ({ cls := "FrostBox", name := "takeBack", desc := "()V" } : Jvm.MethodName)) ∈ lw_all := lw_g (lw_at lw_m4 126 rfl) rfl
theorem q988 : (Jvm.Cond.privateMethod ({ cls := "FrostBox", name := "takeBack", desc := "()V" } : Jvm.MethodName)) ∈ lw_tbl := lw_at lw_m4 127 rfl
theorem q989 : (Jvm.Cond.instanceMethod ({ cls := "FrostBox", name := "takeBack", desc := "()V" } : Jvm.MethodName)) ∈ lw_all := lw_g (lw_at lw_m4 128 rfl) rfl
theorem q990 : (Jvm.Cond.code ({ cls := "FrostBox", name := "takeBack", desc := "()V" } : Jvm.MethodName) prog_1_method_89_code (2 : Nat) (Option.none : Option Jvm.ClassFile.FieldType)) ∈ lw_all := lw_g (lw_at lw_m4 129 rfl) rfl
theorem q992 : (Jvm.Cond.instanceMethod ({ cls := "FrostBox", name := "perform", desc := "(I)I" } : Jvm.MethodName)) ∈ lw_all := lw_g (lw_at lw_m4 131 rfl) rfl
theorem q993 : (Jvm.Cond.selects "FrostBox" ({ cls := "FrostBox", name := "perform", desc := "(I)I" } : Jvm.MethodName) ({ cls := "FrostBox", name := "perform", desc := "(I)I" } : Jvm.MethodName)) ∈ lw_all := lw_g (lw_at lw_m4 132 rfl) rfl
theorem q994 : (Jvm.Cond.code ({ cls := "FrostBox", name := "perform", desc := "(I)I" } : Jvm.MethodName) prog_1_method_91_code (4 : Nat) (Option.some Jvm.ClassFile.FieldType.int)) ∈ lw_all := lw_g (lw_at lw_m4 133 rfl) rfl
theorem q995 : (Jvm.Cond.methodLink "FrostBox" (469 : Nat) ({ cls := "FrostBox", name := "months", desc := "(I)I" } : Jvm.MethodName)) ∈ lw_all := lw_g (lw_at lw_m4 134 rfl) rfl
theorem q997 : (Jvm.Cond.instanceMethod ({ cls := "FrostBox", name := "dinner", desc := "(II)I" } : Jvm.MethodName)) ∈ lw_all := lw_g (lw_at lw_m4 136 rfl) rfl
theorem q998 : (Jvm.Cond.selects "FrostBox" ({ cls := "FrostBox", name := "dinner", desc := "(II)I" } : Jvm.MethodName) ({ cls := "FrostBox", name := "dinner", desc := "(II)I" } : Jvm.MethodName)) ∈ lw_all := lw_g (lw_at lw_m4 137 rfl) rfl
theorem q999 : (Jvm.Cond.code ({ cls := "FrostBox", name := "dinner", desc := "(II)I" } : Jvm.MethodName) prog_1_method_95_code (8 : Nat) (Option.some Jvm.ClassFile.FieldType.int)) ∈ lw_all := lw_g (lw_at lw_m4 138 rfl) rfl
theorem q1000 : (Jvm.Cond.methodLink "FrostBox" (475 : Nat) ({ cls := "FrostBox", name := "isMeal", desc := "(I)Z" } : Jvm.MethodName)) ∈ lw_all := lw_g (lw_at lw_m4 139 rfl) rfl
theorem q1001 : (Jvm.Cond.privateMethod ({ cls := "FrostBox", name := "isMeal", desc := "(I)Z" } : Jvm.MethodName)) ∈ lw_tbl := lw_at lw_m4 140 rfl
theorem q1002 : (Jvm.Cond.instanceMethod ({ cls := "FrostBox", name := "isMeal", desc := "(I)Z" } : Jvm.MethodName)) ∈ lw_all := lw_g (lw_at lw_m4 141 rfl) rfl
theorem q1003 : (Jvm.Cond.code ({ cls := "FrostBox", name := "isMeal", desc := "(I)Z" } : Jvm.MethodName) prog_1_method_93_code (4 : Nat) (Option.some Jvm.ClassFile.FieldType.boolean)) ∈ lw_all := lw_g (lw_at lw_m4 142 rfl) rfl
theorem q1004 : (Jvm.Cond.methodLink "FrostBox" (472 : Nat) ({ cls := "FrostBox", name := "isWith", desc := "(II)Z" } : Jvm.MethodName)) ∈ lw_all := lw_g (lw_at lw_m4 143 rfl) rfl
theorem q1005 : (Jvm.Cond.privateMethod ({ cls := "FrostBox", name := "isWith", desc := "(II)Z" } : Jvm.MethodName)) ∈ lw_tbl := lw_at lw_m4 144 rfl
theorem q1006 : (Jvm.Cond.instanceMethod ({ cls := "FrostBox", name := "isWith", desc := "(II)Z" } : Jvm.MethodName)) ∈ lw_all := lw_g (lw_at lw_m4 145 rfl) rfl
theorem q1007 : (Jvm.Cond.code ({ cls := "FrostBox", name := "isWith", desc := "(II)Z" } : Jvm.MethodName) prog_1_method_92_code (3 : Nat) (Option.some Jvm.ClassFile.FieldType.boolean)) ∈ lw_all := lw_g (lw_at lw_m4 146 rfl) rfl
theorem q1008 : (Jvm.Cond.methodLink "FrostBox" (478 : Nat) ({ cls := "FrostBox", name := "valueOfSet", desc := "(I)I" } : Jvm.MethodName)) ∈ lw_all := lw_g (lw_at lw_m4 147 rfl) rfl
theorem q1009 : (Jvm.Cond.privateMethod ({ cls := "FrostBox", name := "valueOfSet", desc := "(I)I" } : Jvm.MethodName)) ∈ lw_tbl := lw_at lw_m4 148 rfl
theorem q1010 : (Jvm.Cond.instanceMethod ({ cls := "FrostBox", name := "valueOfSet", desc := "(I)I" } : Jvm.MethodName)) ∈ lw_all := lw_g (lw_at lw_m4 149 rfl) rfl
theorem q1011 : (Jvm.Cond.code ({ cls := "FrostBox", name := "valueOfSet", desc := "(I)I" } : Jvm.MethodName) prog_1_method_94_code (4 : Nat) (Option.some Jvm.ClassFile.FieldType.int)) ∈ lw_all := lw_g (lw_at lw_m4 150 rfl) rfl
theorem q1013 : (Jvm.Cond.instanceMethod ({ cls := "FrostBox", name := "eat", desc := "(I)I" } : Jvm.MethodName)) ∈ lw_all := lw_g (lw_at lw_m4 152 rfl) rfl
theorem q1014 : (Jvm.Cond.selects "FrostBox" ({ cls := "FrostBox", name := "eat", desc := "(I)I" } : Jvm.MethodName) ({ cls := "FrostBox", name := "eat", desc := "(I)I" } : Jvm.MethodName)) ∈ lw_all := lw_g (lw_at lw_m4 153 rfl) rfl
theorem q1015 : (Jvm.Cond.code ({ cls := "FrostBox", name := "eat", desc := "(I)I" } : Jvm.MethodName) prog_1_method_101_code (2 : Nat) (Option.some Jvm.ClassFile.FieldType.int)) ∈ lw_all := lw_g (lw_at lw_m4 154 rfl) rfl
theorem q1016 : (Jvm.Cond.methodLink "FrostBox" (498 : Nat) ({ cls := "FrostBox", name := "eatingFrom", desc := "(Z)I" } : Jvm.MethodName)) ∈ lw_all := lw_g (lw_at lw_m4 155 rfl) rfl
theorem q1017 : (Jvm.Cond.privateMethod ({ cls := "FrostBox", name := "eatingFrom", desc := "(Z)I" } : Jvm.MethodName)) ∈ lw_tbl := lw_at lw_m4 156 rfl
theorem q1018 : (Jvm.Cond.instanceMethod ({ cls := "FrostBox", name := "eatingFrom", desc := "(Z)I" } : Jvm.MethodName)) ∈ lw_all := lw_g (lw_at lw_m4 157 rfl) rfl
theorem q1019 : (Jvm.Cond.code ({ cls := "FrostBox", name := "eatingFrom", desc := "(Z)I" } : Jvm.MethodName) prog_1_method_100_code (5 : Nat) (Option.some Jvm.ClassFile.FieldType.int)) ∈ lw_all := lw_g (lw_at lw_m4 158 rfl) rfl
theorem q1020 : (Jvm.Cond.methodLink "FrostBox" (492 : Nat) ({ cls := "java/lang/Integer", name := "numberOfTrailingZeros", desc := "(I)I" } : Jvm.MethodName)) ∈ lw_all := lw_g (lw_at lw_m4 159 rfl) rfl
theorem q1024 : (Jvm.Cond.methodLink "FrostBox" (495 : Nat) ({ cls := "java/lang/Integer", name := "numberOfLeadingZeros", desc := "(I)I" } : Jvm.MethodName)) ∈ lw_all := lw_g (lw_at lw_m4 163 rfl) rfl
theorem q1027 : (Jvm.Cond.methodLink "FrostBox" (489 : Nat) ({ cls := "FrostBox", name := "eatenNow", desc := "(II)I" } : Jvm.MethodName)) ∈ lw_all := lw_g (lw_at lw_m4 166 rfl) rfl
theorem q1028 : (Jvm.Cond.privateMethod ({ cls := "FrostBox", name := "eatenNow", desc := "(II)I" } : Jvm.MethodName)) ∈ lw_tbl := lw_at lw_m4 167 rfl
theorem q1029 : (Jvm.Cond.instanceMethod ({ cls := "FrostBox", name := "eatenNow", desc := "(II)I" } : Jvm.MethodName)) ∈ lw_all := lw_g (lw_at lw_m4 168 rfl) rfl
theorem q1030 : (Jvm.Cond.code ({ cls := "FrostBox", name := "eatenNow", desc := "(II)I" } : Jvm.MethodName) prog_1_method_97_code (3 : Nat) (Option.some Jvm.ClassFile.FieldType.int)) ∈ lw_all := lw_g (lw_at lw_m4 169 rfl) rfl
theorem q1031 : (Jvm.Cond.methodLink "FrostBox" (481 : Nat) ({ cls := "java/lang/Integer", name := "bitCount", desc := "(I)I" } : Jvm.MethodName)) ∈ lw_all := lw_g (lw_at lw_m4 170 rfl) rfl
theorem q1037 : (Jvm.Cond.methodLink "FrostBox" (486 : Nat) ({ cls := "FrostBox", name := "belowIn", desc := "(II)I" } : Jvm.MethodName)) ∈ lw_all := lw_g (lw_at lw_m4 176 rfl) rfl
theorem q1038 : (Jvm.Cond.privateMethod ({ cls := "FrostBox", name := "belowIn", desc := "(II)I" } : Jvm.MethodName)) ∈ lw_tbl := lw_at lw_m4 177 rfl
theorem q1039 : (Jvm.Cond.instanceMethod ({ cls := "FrostBox", name := "belowIn", desc := "(II)I" } : Jvm.MethodName)) ∈ lw_all := lw_g (lw_at lw_m4 178 rfl) rfl
theorem q1040 : (Jvm.Cond.code ({ cls := "FrostBox", name := "belowIn", desc := "(II)I" } : Jvm.MethodName) prog_1_method_96_code (3 : Nat) (Option.some Jvm.ClassFile.FieldType.int)) ∈ lw_all := lw_g (lw_at lw_m4 179 rfl) rfl
theorem q1041 : (Jvm.Cond.methodLink "FrostBox" (502 : Nat) ({ cls := "FrostBox", name := "layEating", desc := "()V" } : Jvm.MethodName)) ∈ lw_all := lw_g (lw_at lw_m4 180 rfl) rfl
theorem q1042 : (Jvm.Cond.privateMethod ({ cls := "FrostBox", name := "layEating", desc := "()V" } : Jvm.MethodName)) ∈ lw_tbl := lw_at lw_m4 181 rfl
theorem q1043 : (Jvm.Cond.instanceMethod ({ cls := "FrostBox", name := "layEating", desc := "()V" } : Jvm.MethodName)) ∈ lw_all := lw_g (lw_at lw_m4 182 rfl) rfl
theorem q1044 : (Jvm.Cond.code ({ cls := "FrostBox", name := "layEating", desc := "()V" } : Jvm.MethodName) prog_1_method_98_code (4 : Nat) (Option.none : Option Jvm.ClassFile.FieldType)) ∈ lw_all := lw_g (lw_at lw_m4 183 rfl) rfl
theorem q1045 : (Jvm.Cond.methodLink "FrostBox" (505 : Nat) ({ cls := "FrostBox", name := "eatingRow", desc := "()I" } : Jvm.MethodName)) ∈ lw_all := lw_g (lw_at lw_m4 184 rfl) rfl
theorem q1046 : (Jvm.Cond.privateMethod ({ cls := "FrostBox", name := "eatingRow", desc := "()I" } : Jvm.MethodName)) ∈ lw_tbl := lw_at lw_m4 185 rfl
theorem q1047 : (Jvm.Cond.instanceMethod ({ cls := "FrostBox", name := "eatingRow", desc := "()I" } : Jvm.MethodName)) ∈ lw_all := lw_g (lw_at lw_m4 186 rfl) rfl
theorem q1048 : (Jvm.Cond.code ({ cls := "FrostBox", name := "eatingRow", desc := "()I" } : Jvm.MethodName) prog_1_method_99_code (4 : Nat) (Option.some Jvm.ClassFile.FieldType.int)) ∈ lw_all := lw_g (lw_at lw_m4 187 rfl) rfl
theorem q1050 : (Jvm.Cond.instanceMethod ({ cls := "FrostBox", name := "costs", desc := "(I)I" } : Jvm.MethodName)) ∈ lw_all := lw_g (lw_at lw_m4 189 rfl) rfl
theorem q1051 : (Jvm.Cond.selects "FrostBox" ({ cls := "FrostBox", name := "costs", desc := "(I)I" } : Jvm.MethodName) ({ cls := "FrostBox", name := "costs", desc := "(I)I" } : Jvm.MethodName)) ∈ lw_all := lw_g (lw_at lw_m4 190 rfl) rfl
theorem q1052 : (Jvm.Cond.code ({ cls := "FrostBox", name := "costs", desc := "(I)I" } : Jvm.MethodName) prog_1_method_102_code (4 : Nat) (Option.some Jvm.ClassFile.FieldType.int)) ∈ lw_all := lw_g (lw_at lw_m4 191 rfl) rfl
theorem q1053 : (Jvm.Cond.methodLink "FrostBox" (508 : Nat) ({ cls := "FrostBox", name := "valueAll", desc := "()I" } : Jvm.MethodName)) ∈ lw_all := lw_g (lw_at lw_m4 192 rfl) rfl
theorem q1054 : (Jvm.Cond.privateMethod ({ cls := "FrostBox", name := "valueAll", desc := "()I" } : Jvm.MethodName)) ∈ lw_tbl := lw_at lw_m4 193 rfl
theorem q1055 : (Jvm.Cond.instanceMethod ({ cls := "FrostBox", name := "valueAll", desc := "()I" } : Jvm.MethodName)) ∈ lw_all := lw_g (lw_at lw_m4 194 rfl) rfl
theorem q1056 : (Jvm.Cond.code ({ cls := "FrostBox", name := "valueAll", desc := "()I" } : Jvm.MethodName) prog_1_method_58_code (3 : Nat) (Option.some Jvm.ClassFile.FieldType.int)) ∈ lw_all := lw_g (lw_at lw_m4 195 rfl) rfl
theorem q1058 : (Jvm.Cond.instanceMethod ({ cls := "FrostBox", name := "full", desc := "(I)I" } : Jvm.MethodName)) ∈ lw_all := lw_g (lw_at lw_m4 197 rfl) rfl
theorem q1059 : (Jvm.Cond.selects "FrostBox" ({ cls := "FrostBox", name := "full", desc := "(I)I" } : Jvm.MethodName) ({ cls := "FrostBox", name := "full", desc := "(I)I" } : Jvm.MethodName)) ∈ lw_all := lw_g (lw_at lw_m4 198 rfl) rfl
theorem q1060 : (Jvm.Cond.code ({ cls := "FrostBox", name := "full", desc := "(I)I" } : Jvm.MethodName) prog_1_method_103_code (3 : Nat) (Option.some Jvm.ClassFile.FieldType.int)) ∈ lw_all := lw_g (lw_at lw_m4 199 rfl) rfl
theorem q1062 : (Jvm.Cond.instanceMethod ({ cls := "FrostBox", name := "keep", desc := "(II)I" } : Jvm.MethodName)) ∈ lw_all := lw_g (lw_at lw_m4 201 rfl) rfl
theorem q1063 : (Jvm.Cond.selects "FrostBox" ({ cls := "FrostBox", name := "keep", desc := "(II)I" } : Jvm.MethodName) ({ cls := "FrostBox", name := "keep", desc := "(II)I" } : Jvm.MethodName)) ∈ lw_all := lw_g (lw_at lw_m4 202 rfl) rfl
theorem q1064 : (Jvm.Cond.code ({ cls := "FrostBox", name := "keep", desc := "(II)I" } : Jvm.MethodName) prog_1_method_104_code (6 : Nat) (Option.some Jvm.ClassFile.FieldType.int)) ∈ lw_all := lw_g (lw_at lw_m4 203 rfl) rfl
theorem q1066 : (Jvm.Cond.instanceMethod ({ cls := "FrostBox", name := "spans", desc := "(II)I" } : Jvm.MethodName)) ∈ lw_all := lw_g (lw_at lw_m4 205 rfl) rfl
theorem q1067 : (Jvm.Cond.selects "FrostBox" ({ cls := "FrostBox", name := "spans", desc := "(II)I" } : Jvm.MethodName) ({ cls := "FrostBox", name := "spans", desc := "(II)I" } : Jvm.MethodName)) ∈ lw_all := lw_g (lw_at lw_m4 206 rfl) rfl
theorem q1068 : (Jvm.Cond.code ({ cls := "FrostBox", name := "spans", desc := "(II)I" } : Jvm.MethodName) prog_1_method_106_code (5 : Nat) (Option.some Jvm.ClassFile.FieldType.int)) ∈ lw_all := lw_g (lw_at lw_m4 207 rfl) rfl
theorem q1069 : (Jvm.Cond.methodLink "FrostBox" (511 : Nat) ({ cls := "FrostBox", name := "couldHold", desc := "(II)I" } : Jvm.MethodName)) ∈ lw_all := lw_g (lw_at lw_m4 208 rfl) rfl
theorem q1070 : (Jvm.Cond.privateMethod ({ cls := "FrostBox", name := "couldHold", desc := "(II)I" } : Jvm.MethodName)) ∈ lw_tbl := lw_at lw_m4 209 rfl
theorem q1071 : (Jvm.Cond.instanceMethod ({ cls := "FrostBox", name := "couldHold", desc := "(II)I" } : Jvm.MethodName)) ∈ lw_all := lw_g (lw_at lw_m4 210 rfl) rfl
theorem q1072 : (Jvm.Cond.code ({ cls := "FrostBox", name := "couldHold", desc := "(II)I" } : Jvm.MethodName) prog_1_method_105_code (5 : Nat) (Option.some Jvm.ClassFile.FieldType.int)) ∈ lw_all := lw_g (lw_at lw_m4 211 rfl) rfl
theorem q1073 : (Jvm.Cond.methodLink "FrostBox" (402 : Nat) ({ cls := "FrostBox", name := "weighs", desc := "(I)I" } : Jvm.MethodName)) ∈ lw_all := lw_g (lw_at lw_m4 212 rfl) rfl
theorem q1074 : (Jvm.Cond.privateMethod ({ cls := "FrostBox", name := "weighs", desc := "(I)I" } : Jvm.MethodName)) ∈ lw_tbl := lw_at lw_m4 213 rfl
theorem q1075 : (Jvm.Cond.instanceMethod ({ cls := "FrostBox", name := "weighs", desc := "(I)I" } : Jvm.MethodName)) ∈ lw_all := lw_g (lw_at lw_m4 214 rfl) rfl
theorem q1076 : (Jvm.Cond.code ({ cls := "FrostBox", name := "weighs", desc := "(I)I" } : Jvm.MethodName) prog_1_method_51_code (2 : Nat) (Option.some Jvm.ClassFile.FieldType.int)) ∈ lw_all := lw_g (lw_at lw_m4 215 rfl) rfl
theorem q1078 : (Jvm.Cond.instanceMethod ({ cls := "FrostBox", name := "nameless", desc := "()I" } : Jvm.MethodName)) ∈ lw_all := lw_g (lw_at lw_m4 217 rfl) rfl
theorem q1079 : (Jvm.Cond.selects "FrostBox" ({ cls := "FrostBox", name := "nameless", desc := "()I" } : Jvm.MethodName) ({ cls := "FrostBox", name := "nameless", desc := "()I" } : Jvm.MethodName)) ∈ lw_all := lw_g (lw_at lw_m4 218 rfl) rfl
theorem q1080 : (Jvm.Cond.code ({ cls := "FrostBox", name := "nameless", desc := "()I" } : Jvm.MethodName) prog_1_method_108_code (1 : Nat) (Option.some Jvm.ClassFile.FieldType.int)) ∈ lw_all := lw_g (lw_at lw_m4 219 rfl) rfl
theorem q1081 : (Jvm.Cond.methodLink "FrostBox" (514 : Nat) ({ cls := "FrostBox", name := "namelessNow", desc := "()I" } : Jvm.MethodName)) ∈ lw_all := lw_g (lw_at lw_m4 220 rfl) rfl
theorem q1082 : (Jvm.Cond.privateMethod ({ cls := "FrostBox", name := "namelessNow", desc := "()I" } : Jvm.MethodName)) ∈ lw_tbl := lw_at lw_m4 221 rfl
theorem q1083 : (Jvm.Cond.instanceMethod ({ cls := "FrostBox", name := "namelessNow", desc := "()I" } : Jvm.MethodName)) ∈ lw_all := lw_g (lw_at lw_m4 222 rfl) rfl
theorem q1084 : (Jvm.Cond.code ({ cls := "FrostBox", name := "namelessNow", desc := "()I" } : Jvm.MethodName) prog_1_method_107_code (3 : Nat) (Option.some Jvm.ClassFile.FieldType.int)) ∈ lw_all := lw_g (lw_at lw_m4 223 rfl) rfl
theorem q1086 : (Jvm.Cond.instanceMethod ({ cls := "FrostBox", name := "doubles", desc := "(I)I" } : Jvm.MethodName)) ∈ lw_all := lw_g (lw_at lw_m4 225 rfl) rfl
theorem q1087 : (Jvm.Cond.selects "FrostBox" ({ cls := "FrostBox", name := "doubles", desc := "(I)I" } : Jvm.MethodName) ({ cls := "FrostBox", name := "doubles", desc := "(I)I" } : Jvm.MethodName)) ∈ lw_all := lw_g (lw_at lw_m4 226 rfl) rfl
theorem q1088 : (Jvm.Cond.code ({ cls := "FrostBox", name := "doubles", desc := "(I)I" } : Jvm.MethodName) prog_1_method_110_code (5 : Nat) (Option.some Jvm.ClassFile.FieldType.int)) ∈ lw_all := lw_g (lw_at lw_m4 227 rfl) rfl
theorem q1089 : (Jvm.Cond.methodLink "FrostBox" (517 : Nat) ({ cls := "FrostBox", name := "areDouble", desc := "(II)Z" } : Jvm.MethodName)) ∈ lw_all := lw_g (lw_at lw_m4 228 rfl) rfl
theorem q1090 : (Jvm.Cond.privateMethod ({ cls := "FrostBox", name := "areDouble", desc := "(II)Z" } : Jvm.MethodName)) ∈ lw_tbl := lw_at lw_m4 229 rfl
theorem q1091 : (Jvm.Cond.instanceMethod ({ cls := "FrostBox", name := "areDouble", desc := "(II)Z" } : Jvm.MethodName)) ∈ lw_all := lw_g (lw_at lw_m4 230 rfl) rfl
theorem q1092 : (Jvm.Cond.code ({ cls := "FrostBox", name := "areDouble", desc := "(II)Z" } : Jvm.MethodName) prog_1_method_109_code (3 : Nat) (Option.some Jvm.ClassFile.FieldType.boolean)) ∈ lw_all := lw_g (lw_at lw_m4 231 rfl) rfl
theorem q1094 : (Jvm.Cond.instanceMethod ({ cls := "FrostBox", name := "peek", desc := "(II)I" } : Jvm.MethodName)) ∈ lw_all := lw_g (lw_at lw_m4 233 rfl) rfl
theorem q1095 : (Jvm.Cond.selects "FrostBox" ({ cls := "FrostBox", name := "peek", desc := "(II)I" } : Jvm.MethodName) ({ cls := "FrostBox", name := "peek", desc := "(II)I" } : Jvm.MethodName)) ∈ lw_all := lw_g (lw_at lw_m4 234 rfl) rfl
theorem q1096 : (Jvm.Cond.code ({ cls := "FrostBox", name := "peek", desc := "(II)I" } : Jvm.MethodName) prog_1_method_111_code (3 : Nat) (Option.some Jvm.ClassFile.FieldType.int)) ∈ lw_all := lw_g (lw_at lw_m4 235 rfl) rfl
theorem q1098 : (Jvm.Cond.instanceMethod ({ cls := "FrostBox", name := "what", desc := "(I)I" } : Jvm.MethodName)) ∈ lw_all := lw_g (lw_at lw_m4 237 rfl) rfl
theorem q1099 : (Jvm.Cond.selects "FrostBox" ({ cls := "FrostBox", name := "what", desc := "(I)I" } : Jvm.MethodName) ({ cls := "FrostBox", name := "what", desc := "(I)I" } : Jvm.MethodName)) ∈ lw_all := lw_g (lw_at lw_m4 238 rfl) rfl
theorem q1100 : (Jvm.Cond.code ({ cls := "FrostBox", name := "what", desc := "(I)I" } : Jvm.MethodName) prog_1_method_114_code (6 : Nat) (Option.some Jvm.ClassFile.FieldType.int)) ∈ lw_all := lw_g (lw_at lw_m4 239 rfl) rfl
theorem q1101 : (Jvm.Cond.methodLink "FrostBox" (527 : Nat) ({ cls := "FrostBox", name := "mostHeld", desc := "(I)J" } : Jvm.MethodName)) ∈ lw_all := lw_g (lw_at lw_m5 0 rfl) rfl
theorem q1102 : (Jvm.Cond.privateMethod ({ cls := "FrostBox", name := "mostHeld", desc := "(I)J" } : Jvm.MethodName)) ∈ lw_tbl := lw_at lw_m5 1 rfl
theorem q1103 : (Jvm.Cond.instanceMethod ({ cls := "FrostBox", name := "mostHeld", desc := "(I)J" } : Jvm.MethodName)) ∈ lw_all := lw_g (lw_at lw_m5 2 rfl) rfl
theorem q1104 : (Jvm.Cond.code ({ cls := "FrostBox", name := "mostHeld", desc := "(I)J" } : Jvm.MethodName) prog_1_method_113_code (8 : Nat) (Option.some Jvm.ClassFile.FieldType.long)) ∈ lw_all := lw_g (lw_at lw_m5 3 rfl) rfl
theorem q1105 : (Jvm.Cond.methodLink "FrostBox" (520 : Nat) ({ cls := "FrostBox", name := "heldOf", desc := "(I)J" } : Jvm.MethodName)) ∈ lw_all := lw_g (lw_at lw_m5 4 rfl) rfl
theorem q1106 : (Jvm.Cond.privateMethod ({ cls := "FrostBox", name := "heldOf", desc := "(I)J" } : Jvm.MethodName)) ∈ lw_tbl := lw_at lw_m5 5 rfl
theorem q1107 : (Jvm.Cond.instanceMethod ({ cls := "FrostBox", name := "heldOf", desc := "(I)J" } : Jvm.MethodName)) ∈ lw_all := lw_g (lw_at lw_m5 6 rfl) rfl
theorem q1108 : (Jvm.Cond.code ({ cls := "FrostBox", name := "heldOf", desc := "(I)J" } : Jvm.MethodName) prog_1_method_112_code (5 : Nat) (Option.some Jvm.ClassFile.FieldType.long)) ∈ lw_all := lw_g (lw_at lw_m5 7 rfl) rfl
theorem q1109 : (Jvm.Cond.methodLink "FrostBox" (524 : Nat) ({ cls := "java/lang/Math", name := "max", desc := "(JJ)J" } : Jvm.MethodName)) ∈ lw_all := lw_g (lw_at lw_m5 8 rfl) rfl
theorem q1110 : (Jvm.Cond.constantLong "FrostBox" (530 : Nat) (1000 : Int64)) ∈ lw_all := lw_g (lw_at lw_m5 9 rfl) rfl
theorem q1112 : (Jvm.Cond.instanceMethod ({ cls := "FrostBox", name := "found", desc := "(IIZ)I" } : Jvm.MethodName)) ∈ lw_all := lw_g (lw_at lw_m5 11 rfl) rfl
theorem q1113 : (Jvm.Cond.selects "FrostBox" ({ cls := "FrostBox", name := "found", desc := "(IIZ)I" } : Jvm.MethodName) ({ cls := "FrostBox", name := "found", desc := "(IIZ)I" } : Jvm.MethodName)) ∈ lw_all := lw_g (lw_at lw_m5 12 rfl) rfl
theorem q1114 : (Jvm.Cond.code ({ cls := "FrostBox", name := "found", desc := "(IIZ)I" } : Jvm.MethodName) prog_1_method_115_code (4 : Nat) (Option.some Jvm.ClassFile.FieldType.int)) ∈ lw_all := lw_g (lw_at lw_m5 13 rfl) rfl
theorem q1116 : (Jvm.Cond.instanceMethod ({ cls := "FrostBox", name := "history", desc := "(II)I" } : Jvm.MethodName)) ∈ lw_all := lw_g (lw_at lw_m5 15 rfl) rfl
theorem q1117 : (Jvm.Cond.selects "FrostBox" ({ cls := "FrostBox", name := "history", desc := "(II)I" } : Jvm.MethodName) ({ cls := "FrostBox", name := "history", desc := "(II)I" } : Jvm.MethodName)) ∈ lw_all := lw_g (lw_at lw_m5 16 rfl) rfl
theorem q1118 : (Jvm.Cond.code ({ cls := "FrostBox", name := "history", desc := "(II)I" } : Jvm.MethodName) prog_1_method_119_code (3 : Nat) (Option.some Jvm.ClassFile.FieldType.int)) ∈ lw_all := lw_g (lw_at lw_m5 17 rfl) rfl
theorem q1119 : (Jvm.Cond.methodLink "FrostBox" (549 : Nat) ({ cls := "FrostBox", name := "layRows", desc := "(II)Z" } : Jvm.MethodName)) ∈ lw_all := lw_g (lw_at lw_m5 18 rfl) rfl
theorem q1120 : (Jvm.Cond.privateMethod ({ cls := "FrostBox", name := "layRows", desc := "(II)Z" } : Jvm.MethodName)) ∈ lw_tbl := lw_at lw_m5 19 rfl
theorem q1121 : (Jvm.Cond.instanceMethod ({ cls := "FrostBox", name := "layRows", desc := "(II)Z" } : Jvm.MethodName)) ∈ lw_all := lw_g (lw_at lw_m5 20 rfl) rfl
theorem q1122 : (Jvm.Cond.code ({ cls := "FrostBox", name := "layRows", desc := "(II)Z" } : Jvm.MethodName) prog_1_method_118_code (7 : Nat) (Option.some Jvm.ClassFile.FieldType.boolean)) ∈ lw_all := lw_g (lw_at lw_m5 21 rfl) rfl
theorem q1123 : (Jvm.Cond.constant "FrostBox" (548 : Nat) (999999 : Int32)) ∈ lw_all := lw_g (lw_at lw_m5 22 rfl) rfl
theorem q1124 : (Jvm.Cond.methodLink "FrostBox" (544 : Nat) ({ cls := "FrostBox", name := "tryRows", desc := "(II)V" } : Jvm.MethodName)) ∈ lw_all := lw_g (lw_at lw_m5 23 rfl) rfl
theorem q1125 : (Jvm.Cond.privateMethod ({ cls := "FrostBox", name := "tryRows", desc := "(II)V" } : Jvm.MethodName)) ∈ lw_tbl := lw_at lw_m5 24 rfl
theorem q1126 : (Jvm.Cond.instanceMethod ({ cls := "FrostBox", name := "tryRows", desc := "(II)V" } : Jvm.MethodName)) ∈ lw_all := lw_g (lw_at lw_m5 25 rfl) rfl
theorem q1127 : (Jvm.Cond.code ({ cls := "FrostBox", name := "tryRows", desc := "(II)V" } : Jvm.MethodName) prog_1_method_117_code (4 : Nat) (Option.none : Option Jvm.ClassFile.FieldType)) ∈ lw_all := lw_g (lw_at lw_m5 26 rfl) rfl
theorem q1128 : (Jvm.Cond.methodLink "FrostBox" (541 : Nat) ({ cls := "FrostBox", name := "mayBe", desc := "(II)Z" } : Jvm.MethodName)) ∈ lw_all := lw_g (lw_at lw_m5 27 rfl) rfl
theorem q1129 : (Jvm.Cond.privateMethod ({ cls := "FrostBox", name := "mayBe", desc := "(II)Z" } : Jvm.MethodName)) ∈ lw_tbl := lw_at lw_m5 28 rfl
theorem q1130 : (Jvm.Cond.instanceMethod ({ cls := "FrostBox", name := "mayBe", desc := "(II)Z" } : Jvm.MethodName)) ∈ lw_all := lw_g (lw_at lw_m5 29 rfl) rfl
theorem q1131 : (Jvm.Cond.code ({ cls := "FrostBox", name := "mayBe", desc := "(II)Z" } : Jvm.MethodName) prog_1_method_116_code (4 : Nat) (Option.some Jvm.ClassFile.FieldType.boolean)) ∈ lw_all := lw_g (lw_at lw_m5 30 rfl) rfl
theorem q1133 : (Jvm.Cond.instanceMethod ({ cls := "FrostBox", name := "share", desc := "(I)I" } : Jvm.MethodName)) ∈ lw_all := lw_g (lw_at lw_m5 32 rfl) rfl
theorem q1134 : (Jvm.Cond.selects "FrostBox" ({ cls := "FrostBox", name := "share", desc := "(I)I" } : Jvm.MethodName) ({ cls := "FrostBox", name := "share", desc := "(I)I" } : Jvm.MethodName)) ∈ lw_all := lw_g (lw_at lw_m5 33 rfl) rfl
theorem q1135 : (Jvm.Cond.code ({ cls := "FrostBox", name := "share", desc := "(I)I" } : Jvm.MethodName) prog_1_method_120_code (4 : Nat) (Option.some Jvm.ClassFile.FieldType.int)) ∈ lw_all := lw_g (lw_at lw_m5 34 rfl) rfl
theorem q1137 : (Jvm.Cond.instanceMethod ({ cls := "FrostBox", name := "lot", desc := "(I)I" } : Jvm.MethodName)) ∈ lw_all := lw_g (lw_at lw_m5 36 rfl) rfl
theorem q1138 : (Jvm.Cond.selects "FrostBox" ({ cls := "FrostBox", name := "lot", desc := "(I)I" } : Jvm.MethodName) ({ cls := "FrostBox", name := "lot", desc := "(I)I" } : Jvm.MethodName)) ∈ lw_all := lw_g (lw_at lw_m5 37 rfl) rfl
theorem q1139 : (Jvm.Cond.code ({ cls := "FrostBox", name := "lot", desc := "(I)I" } : Jvm.MethodName) prog_1_method_121_code (7 : Nat) (Option.some Jvm.ClassFile.FieldType.int)) ∈ lw_all := lw_g (lw_at lw_m5 38 rfl) rfl
theorem q1141 : (Jvm.Cond.instanceMethod ({ cls := "FrostBox", name := "labels", desc := "(II)I" } : Jvm.MethodName)) ∈ lw_all := lw_g (lw_at lw_m5 40 rfl) rfl
theorem q1142 : (Jvm.Cond.selects "FrostBox" ({ cls := "FrostBox", name := "labels", desc := "(II)I" } : Jvm.MethodName) ({ cls := "FrostBox", name := "labels", desc := "(II)I" } : Jvm.MethodName)) ∈ lw_all := lw_g (lw_at lw_m5 41 rfl) rfl
theorem q1143 : (Jvm.Cond.code ({ cls := "FrostBox", name := "labels", desc := "(II)I" } : Jvm.MethodName) prog_1_method_123_code (3 : Nat) (Option.some Jvm.ClassFile.FieldType.int)) ∈ lw_all := lw_g (lw_at lw_m5 42 rfl) rfl
theorem q1144 : (Jvm.Cond.methodLink "FrostBox" (552 : Nat) ({ cls := "FrostBox", name := "labelsOf", desc := "(II)I" } : Jvm.MethodName)) ∈ lw_all := lw_g (lw_at lw_m5 43 rfl) rfl
theorem q1145 : (Jvm.Cond.privateMethod ({ cls := "FrostBox", name := "labelsOf", desc := "(II)I" } : Jvm.MethodName)) ∈ lw_tbl := lw_at lw_m5 44 rfl
theorem q1146 : (Jvm.Cond.instanceMethod ({ cls := "FrostBox", name := "labelsOf", desc := "(II)I" } : Jvm.MethodName)) ∈ lw_all := lw_g (lw_at lw_m5 45 rfl) rfl
theorem q1147 : (Jvm.Cond.code ({ cls := "FrostBox", name := "labelsOf", desc := "(II)I" } : Jvm.MethodName) prog_1_method_122_code (3 : Nat) (Option.some Jvm.ClassFile.FieldType.int)) ∈ lw_all := lw_g (lw_at lw_m5 46 rfl) rfl
theorem q1149 : (Jvm.Cond.instanceMethod ({ cls := "FrostBox", name := "rests", desc := "(I)I" } : Jvm.MethodName)) ∈ lw_all := lw_g (lw_at lw_m5 48 rfl) rfl
theorem q1150 : (Jvm.Cond.selects "FrostBox" ({ cls := "FrostBox", name := "rests", desc := "(I)I" } : Jvm.MethodName) ({ cls := "FrostBox", name := "rests", desc := "(I)I" } : Jvm.MethodName)) ∈ lw_all := lw_g (lw_at lw_m5 49 rfl) rfl
theorem q1151 : (Jvm.Cond.code ({ cls := "FrostBox", name := "rests", desc := "(I)I" } : Jvm.MethodName) prog_1_method_124_code (5 : Nat) (Option.some Jvm.ClassFile.FieldType.int)) ∈ lw_all := lw_g (lw_at lw_m5 50 rfl) rfl
theorem q1153 : (Jvm.Cond.instanceMethod ({ cls := "FrostBox", name := "most", desc := "(I)I" } : Jvm.MethodName)) ∈ lw_all := lw_g (lw_at lw_m5 52 rfl) rfl
theorem q1154 : (Jvm.Cond.selects "FrostBox" ({ cls := "FrostBox", name := "most", desc := "(I)I" } : Jvm.MethodName) ({ cls := "FrostBox", name := "most", desc := "(I)I" } : Jvm.MethodName)) ∈ lw_all := lw_g (lw_at lw_m5 53 rfl) rfl
theorem q1155 : (Jvm.Cond.code ({ cls := "FrostBox", name := "most", desc := "(I)I" } : Jvm.MethodName) prog_1_method_125_code (5 : Nat) (Option.some Jvm.ClassFile.FieldType.int)) ∈ lw_all := lw_g (lw_at lw_m5 54 rfl) rfl
theorem q1157 : (Jvm.Cond.instanceMethod ({ cls := "FrostBox", name := "spoilt", desc := "()I" } : Jvm.MethodName)) ∈ lw_all := lw_g (lw_at lw_m5 56 rfl) rfl
theorem q1158 : (Jvm.Cond.selects "FrostBox" ({ cls := "FrostBox", name := "spoilt", desc := "()I" } : Jvm.MethodName) ({ cls := "FrostBox", name := "spoilt", desc := "()I" } : Jvm.MethodName)) ∈ lw_all := lw_g (lw_at lw_m5 57 rfl) rfl
theorem q1159 : (Jvm.Cond.code ({ cls := "FrostBox", name := "spoilt", desc := "()I" } : Jvm.MethodName) prog_1_method_126_code (3 : Nat) (Option.some Jvm.ClassFile.FieldType.int)) ∈ lw_all := lw_g (lw_at lw_m5 58 rfl) rfl
theorem q1161 : (Jvm.Cond.instanceMethod ({ cls := "FrostBox", name := "buried", desc := "(I)I" } : Jvm.MethodName)) ∈ lw_all := lw_g (lw_at lw_m5 60 rfl) rfl
theorem q1162 : (Jvm.Cond.selects "FrostBox" ({ cls := "FrostBox", name := "buried", desc := "(I)I" } : Jvm.MethodName) ({ cls := "FrostBox", name := "buried", desc := "(I)I" } : Jvm.MethodName)) ∈ lw_all := lw_g (lw_at lw_m5 61 rfl) rfl
theorem q1163 : (Jvm.Cond.code ({ cls := "FrostBox", name := "buried", desc := "(I)I" } : Jvm.MethodName) prog_1_method_127_code (2 : Nat) (Option.some Jvm.ClassFile.FieldType.int)) ∈ lw_all := lw_g (lw_at lw_m5 62 rfl) rfl
theorem q1165 : (Jvm.Cond.instanceMethod ({ cls := "FrostBox", name := "goes", desc := "(I)I" } : Jvm.MethodName)) ∈ lw_all := lw_g (lw_at lw_m5 64 rfl) rfl
theorem q1166 : (Jvm.Cond.selects "FrostBox" ({ cls := "FrostBox", name := "goes", desc := "(I)I" } : Jvm.MethodName) ({ cls := "FrostBox", name := "goes", desc := "(I)I" } : Jvm.MethodName)) ∈ lw_all := lw_g (lw_at lw_m5 65 rfl) rfl
theorem q1167 : (Jvm.Cond.code ({ cls := "FrostBox", name := "goes", desc := "(I)I" } : Jvm.MethodName) prog_1_method_128_code (4 : Nat) (Option.some Jvm.ClassFile.FieldType.int)) ∈ lw_all := lw_g (lw_at lw_m5 66 rfl) rfl
theorem q1169 : (Jvm.Cond.instanceMethod ({ cls := "FrostBox", name := "soonest", desc := "(I)I" } : Jvm.MethodName)) ∈ lw_all := lw_g (lw_at lw_m5 68 rfl) rfl
theorem q1170 : (Jvm.Cond.selects "FrostBox" ({ cls := "FrostBox", name := "soonest", desc := "(I)I" } : Jvm.MethodName) ({ cls := "FrostBox", name := "soonest", desc := "(I)I" } : Jvm.MethodName)) ∈ lw_all := lw_g (lw_at lw_m5 69 rfl) rfl
theorem q1171 : (Jvm.Cond.code ({ cls := "FrostBox", name := "soonest", desc := "(I)I" } : Jvm.MethodName) prog_1_method_129_code (3 : Nat) (Option.some Jvm.ClassFile.FieldType.int)) ∈ lw_all := lw_g (lw_at lw_m5 70 rfl) rfl
theorem q1173 : (Jvm.Cond.instanceMethod ({ cls := "FrostBox", name := "monthly", desc := "(I)I" } : Jvm.MethodName)) ∈ lw_all := lw_g (lw_at lw_m5 72 rfl) rfl
theorem q1174 : (Jvm.Cond.selects "FrostBox" ({ cls := "FrostBox", name := "monthly", desc := "(I)I" } : Jvm.MethodName) ({ cls := "FrostBox", name := "monthly", desc := "(I)I" } : Jvm.MethodName)) ∈ lw_all := lw_g (lw_at lw_m5 73 rfl) rfl
theorem q1175 : (Jvm.Cond.code ({ cls := "FrostBox", name := "monthly", desc := "(I)I" } : Jvm.MethodName) prog_1_method_130_code (4 : Nat) (Option.some Jvm.ClassFile.FieldType.int)) ∈ lw_all := lw_g (lw_at lw_m5 74 rfl) rfl
theorem q1177 : (Jvm.Cond.instanceMethod ({ cls := "FrostBox", name := "make", desc := "(II)I" } : Jvm.MethodName)) ∈ lw_all := lw_g (lw_at lw_m5 76 rfl) rfl
theorem q1178 : (Jvm.Cond.selects "FrostBox" ({ cls := "FrostBox", name := "make", desc := "(II)I" } : Jvm.MethodName) ({ cls := "FrostBox", name := "make", desc := "(II)I" } : Jvm.MethodName)) ∈ lw_all := lw_g (lw_at lw_m5 77 rfl) rfl
theorem q1179 : (Jvm.Cond.code ({ cls := "FrostBox", name := "make", desc := "(II)I" } : Jvm.MethodName) prog_1_method_131_code (3 : Nat) (Option.some Jvm.ClassFile.FieldType.int)) ∈ lw_all := lw_g (lw_at lw_m5 78 rfl) rfl
theorem q1181 : (Jvm.Cond.instanceMethod ({ cls := "FrostBox", name := "image", desc := "()I" } : Jvm.MethodName)) ∈ lw_all := lw_g (lw_at lw_m5 80 rfl) rfl
theorem q1182 : (Jvm.Cond.selects "FrostBox" ({ cls := "FrostBox", name := "image", desc := "()I" } : Jvm.MethodName) ({ cls := "FrostBox", name := "image", desc := "()I" } : Jvm.MethodName)) ∈ lw_all := lw_g (lw_at lw_m5 81 rfl) rfl
theorem q1183 : (Jvm.Cond.code ({ cls := "FrostBox", name := "image", desc := "()I" } : Jvm.MethodName) prog_1_method_132_code (2 : Nat) (Option.some Jvm.ClassFile.FieldType.int)) ∈ lw_all := lw_g (lw_at lw_m5 82 rfl) rfl
theorem q1185 : (Jvm.Cond.instanceMethod ({ cls := "FrostBox", name := "back", desc := "()I" } : Jvm.MethodName)) ∈ lw_all := lw_g (lw_at lw_m5 84 rfl) rfl
theorem q1186 : (Jvm.Cond.selects "FrostBox" ({ cls := "FrostBox", name := "back", desc := "()I" } : Jvm.MethodName) ({ cls := "FrostBox", name := "back", desc := "()I" } : Jvm.MethodName)) ∈ lw_all := lw_g (lw_at lw_m5 85 rfl) rfl
theorem q1187 : (Jvm.Cond.code ({ cls := "FrostBox", name := "back", desc := "()I" } : Jvm.MethodName) prog_1_method_133_code (2 : Nat) (Option.some Jvm.ClassFile.FieldType.int)) ∈ lw_all := lw_g (lw_at lw_m5 86 rfl) rfl
theorem q1189 : (Jvm.Cond.instanceMethod ({ cls := "FrostBox", name := "count", desc := "(I)I" } : Jvm.MethodName)) ∈ lw_all := lw_g (lw_at lw_m5 88 rfl) rfl
theorem q1190 : (Jvm.Cond.selects "FrostBox" ({ cls := "FrostBox", name := "count", desc := "(I)I" } : Jvm.MethodName) ({ cls := "FrostBox", name := "count", desc := "(I)I" } : Jvm.MethodName)) ∈ lw_all := lw_g (lw_at lw_m5 89 rfl) rfl
theorem q1191 : (Jvm.Cond.code ({ cls := "FrostBox", name := "count", desc := "(I)I" } : Jvm.MethodName) prog_1_method_135_code (2 : Nat) (Option.some Jvm.ClassFile.FieldType.int)) ∈ lw_all := lw_g (lw_at lw_m5 90 rfl) rfl
theorem q1192 : (Jvm.Cond.methodLink "FrostBox" (555 : Nat) ({ cls := "FrostBox", name := "eatenAll", desc := "()I" } : Jvm.MethodName)) ∈ lw_all := lw_g (lw_at lw_m5 91 rfl) rfl
theorem q1193 : (Jvm.Cond.privateMethod ({ cls := "FrostBox", name := "eatenAll", desc := "()I" } : Jvm.MethodName)) ∈ lw_tbl := lw_at lw_m5 92 rfl
theorem q1194 : (Jvm.Cond.instanceMethod ({ cls := "FrostBox", name := "eatenAll", desc := "()I" } : Jvm.MethodName)) ∈ lw_all := lw_g (lw_at lw_m5 93 rfl) rfl
theorem q1195 : (Jvm.Cond.code ({ cls := "FrostBox", name := "eatenAll", desc := "()I" } : Jvm.MethodName) prog_1_method_134_code (3 : Nat) (Option.some Jvm.ClassFile.FieldType.int)) ∈ lw_all := lw_g (lw_at lw_m5 94 rfl) rfl
theorem q1201 : (Jvm.Cond.instanceMethod ({ cls := "FrostBox", name := "box", desc := "(II)I" } : Jvm.MethodName)) ∈ lw_all := lw_g (lw_at lw_m5 100 rfl) rfl
theorem q1202 : (Jvm.Cond.selects "FrostBox" ({ cls := "FrostBox", name := "box", desc := "(II)I" } : Jvm.MethodName) ({ cls := "FrostBox", name := "box", desc := "(II)I" } : Jvm.MethodName)) ∈ lw_all := lw_g (lw_at lw_m5 101 rfl) rfl
theorem q1203 : (Jvm.Cond.code ({ cls := "FrostBox", name := "box", desc := "(II)I" } : Jvm.MethodName) prog_1_method_61_code (3 : Nat) (Option.some Jvm.ClassFile.FieldType.int)) ∈ lw_all := lw_g (lw_at lw_m5 102 rfl) rfl
theorem q1204 : (Jvm.Cond.classLink "FrostBox" (396 : Nat) "java/util/NoSuchElementException") ∈ lw_all := lw_g (lw_at lw_m5 103 rfl) rfl
theorem q1215 : (Jvm.Cond.methodLink "FrostBox" (398 : Nat) ({ cls := "java/util/NoSuchElementException", name := "<init>", desc := "()V" } : Jvm.MethodName)) ∈ lw_all := lw_g (lw_at lw_m5 114 rfl) rfl
theorem q1916 : (Jvm.Cond.castable "FrostBox" "java/lang/Object") ∈ lw_tbl := lw_at lw_m8 95 rfl
theorem in_X1 : ∀ w ∈ wsX10, w ∈ lw_all := lw_in wsX10 [275, 277, 279, 281, 283, 285, 287, 289, 291, 293, 295, 297, 299, 301, 303, 305, 307, 309, 311, 313, 315, 317, 319, 321, 323, 325, 327, 329, 331, 333, 335, 337, 339, 341, 343, 345, 347, 349, 351, 353, 355, 357] (by decide +kernel) (by decide +kernel)
