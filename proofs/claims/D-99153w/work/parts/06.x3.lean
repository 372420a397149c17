/-! FrostBoxModel -/
set_option maxRecDepth 100000
def RX3 : String := "FrostBoxModel"
def TX3 : u_T := fun k => match k with
  | 0 => ("FrostBoxModel", "thrown", "I", false)
  | 1 => ("FrostBoxModel", "tape", "[B", true)
  | 2 => ("FrostBoxModel", "texts", "[B", true)
  | 3 => ("FrostBoxModel", "textLong", "[I", true)
  | 4 => ("FrostBoxModel", "letters", "[I", true)
  | 5 => ("FrostBoxModel", "text", "[B", false)
  | 6 => ("FrostBoxModel", "length", "I", false)
  | 7 => ("FrostBoxModel", "lawMany", "I", false)
  | 8 => ("FrostBoxModel", "begins", "I", false)
  | 9 => ("FrostBoxModel", "ends", "I", false)
  | 10 => ("FrostBoxModel", "at", "I", false)
  | 11 => ("FrostBoxModel", "fault", "I", false)
  | 12 => ("FrostBoxModel", "deep", "I", false)
  | 13 => ("FrostBoxModel", "label", "I", false)
  | 14 => ("FrostBoxModel", "found", "I", false)
  | 15 => ("FrostBoxModel", "labels", "Ljava/lang/String;", true)
  | 16 => ("FrostBoxModel", "allowed", "Ljava/lang/String;", true)
  | 17 => ("FrostBoxModel", "hasFound", "Z", false)
  | 18 => ("FrostBoxModel", "rule", "[I", true)
  | 19 => ("FrostBoxModel", "ruleRead", "[I", true)
  | 20 => ("FrostBoxModel", "kind", "[I", true)
  | 21 => ("FrostBoxModel", "kindRead", "[I", true)
  | 22 => ("FrostBoxModel", "boxRead", "[I", true)
  | 23 => ("FrostBoxModel", "plan", "[I", true)
  | 24 => ("FrostBoxModel", "planLong", "[I", true)
  | 25 => ("FrostBoxModel", "kinds", "I", false)
  | 26 => ("FrostBoxModel", "kindsRead", "I", false)
  | 27 => ("FrostBoxModel", "boxesRead", "I", false)
  | 28 => ("FrostBoxModel", "plans", "I", false)
  | 29 => ("FrostBoxModel", "hasRules", "Z", false)
  | 30 => ("FrostBoxModel", "now", "[I", true)
  | 31 => ("FrostBoxModel", "trial", "[I", true)
  | 32 => ("FrostBoxModel", "law", "I", false)
  | 33 => ("FrostBoxModel", "habit", "I", false)
  | 34 => ("FrostBoxModel", "memoKey", "[J", true)
  | 35 => ("FrostBoxModel", "memoWorth", "[I", true)
  | 36 => ("FrostBoxModel", "undoRow", "[I", true)
  | 37 => ("FrostBoxModel", "acts", "I", false)
  | 38 => ("FrostBoxModel", "x", "J", false)
  | 39 => ("FrostBoxModel", "eatMost", "I", false)
  | 40 => ("FrostBoxModel", "eatDigits", "I", false)
  | 41 => ("FrostBoxModel", "lookSort", "[I", true)
  | 42 => ("FrostBoxModel", "lookSeemed", "[I", true)
  | 43 => ("FrostBoxModel", "looks", "I", false)
  | 44 => ("FrostBoxModel", "foundBox", "[I", true)
  | 45 => ("FrostBoxModel", "foundKind", "[I", true)
  | 46 => ("FrostBoxModel", "often", "[I", true)
  | 47 => ("FrostBoxModel", "historyRow", "[I", true)
  | 48 => ("FrostBoxModel", "shared", "[I", true)
  | 49 => ("FrostBoxModel", "foundIs", "[Z", true)
  | 50 => ("FrostBoxModel", "founds", "I", false)
  | 51 => ("FrostBoxModel", "rows", "I", false)
  | 52 => ("FrostBoxModel", "rowFound", "I", false)
  | 53 => ("FrostBoxModel", "sharedBits", "I", false)
  | 54 => ("FrostBoxModel", "imageRow", "[I", true)
  | _ => ("FrostBoxModel", "hasImage", "Z", false)
def tyX3 : Nat → FieldType := fun k => match k with
  | 0 => .int
  | 1 => .array .byte
  | 2 => .array .byte
  | 3 => .array .int
  | 4 => .array .int
  | 5 => .array .byte
  | 6 => .int
  | 7 => .int
  | 8 => .int
  | 9 => .int
  | 10 => .int
  | 11 => .int
  | 12 => .int
  | 13 => .int
  | 14 => .int
  | 15 => .object "java/lang/String"
  | 16 => .object "java/lang/String"
  | 17 => .boolean
  | 18 => .array .int
  | 19 => .array .int
  | 20 => .array .int
  | 21 => .array .int
  | 22 => .array .int
  | 23 => .array .int
  | 24 => .array .int
  | 25 => .int
  | 26 => .int
  | 27 => .int
  | 28 => .int
  | 29 => .boolean
  | 30 => .array .int
  | 31 => .array .int
  | 32 => .int
  | 33 => .int
  | 34 => .array .long
  | 35 => .array .int
  | 36 => .array .int
  | 37 => .int
  | 38 => .long
  | 39 => .int
  | 40 => .int
  | 41 => .array .int
  | 42 => .array .int
  | 43 => .int
  | 44 => .array .int
  | 45 => .array .int
  | 46 => .array .int
  | 47 => .array .int
  | 48 => .array .int
  | 49 => .array .boolean
  | 50 => .int
  | 51 => .int
  | 52 => .int
  | 53 => .int
  | 54 => .array .int
  | _ => .boolean
abbrev wsX30 : List Cond := u_ws RX3 TX3 56
set_option maxRecDepth 100000 in
theorem nmX3 : ∀ a, a < 56 → ∀ b, b < 56 → a ≠ b → (TX3 a).2.1 ≠ (TX3 b).2.1 := by decide +kernel
set_option maxRecDepth 100000 in
theorem tyX3_ok : ∀ k, k < 56 → parseFieldDescriptor (TX3 k).2.2.1 = some (tyX3 k) := by decide +kernel
abbrev cX3_init : ByteArray := prog_14_method_1_code
def yX3_init : MethodName := ⟨RX3, "<init>", "()V"⟩
def dkwX3_init_10 : List UInt8 := [188, 10, 181, 0, 106, 177]
abbrev dktX3_init_10 : List UInt8 := dkwX3_init_10 ++ []
def dkwX3_init_9 : List UInt8 := [181, 0, 96, 42, 16, 6, 188, 10, 181, 0, 99, 42, 16, 10, 188, 4, 181, 0, 102, 42, 17, 1, 27]
abbrev dktX3_init_9 : List UInt8 := dkwX3_init_9 ++ dktX3_init_10
def dkwX3_init_8 : List UInt8 := [181, 0, 87, 42, 16, 10, 188, 10, 181, 0, 90, 42, 16, 6, 188, 10, 181, 0, 93, 42, 16, 6, 188, 10]
abbrev dktX3_init_8 : List UInt8 := dkwX3_init_8 ++ dktX3_init_9
def dkwX3_init_7 : List UInt8 := [181, 0, 78, 42, 16, 12, 188, 10, 181, 0, 81, 42, 16, 12, 188, 10, 181, 0, 84, 42, 16, 10, 188, 10]
abbrev dktX3_init_7 : List UInt8 := dkwX3_init_7 ++ dktX3_init_8
def dkwX3_init_6 : List UInt8 := [42, 17, 31, 255, 188, 11, 181, 0, 71, 42, 17, 31, 255, 188, 10, 181, 0, 75, 42, 17, 44, 56, 188, 10]
abbrev dktX3_init_6 : List UInt8 := dkwX3_init_6 ++ dktX3_init_7
def dkwX3_init_5 : List UInt8 := [188, 10, 181, 0, 58, 42, 17, 1, 27, 188, 10, 181, 0, 61, 42, 2, 181, 0, 64, 42, 8, 181, 0, 68]
abbrev dktX3_init_5 : List UInt8 := dkwX3_init_5 ++ dktX3_init_6
def dkwX3_init_4 : List UInt8 := [181, 0, 49, 42, 17, 1, 64, 188, 10, 181, 0, 52, 42, 8, 188, 10, 181, 0, 55, 42, 17, 1, 27]
abbrev dktX3_init_4 : List UInt8 := dkwX3_init_4 ++ dktX3_init_5
def dkwX3_init_3 : List UInt8 := [181, 0, 40, 42, 16, 30, 188, 10, 181, 0, 43, 42, 16, 30, 188, 10, 181, 0, 46, 42, 16, 32, 188, 10]
abbrev dktX3_init_3 : List UInt8 := dkwX3_init_3 ++ dktX3_init_4
def dkwX3_init_2 : List UInt8 := [18, 26, 181, 0, 28, 42, 18, 32, 181, 0, 34, 42, 7, 188, 10, 181, 0, 37, 42, 7, 188, 10]
abbrev dktX3_init_2 : List UInt8 := dkwX3_init_2 ++ dktX3_init_3
def dkwX3_init_1 : List UInt8 := [188, 10, 181, 0, 16, 42, 17, 0, 128, 188, 10, 181, 0, 20, 42, 42, 180, 0, 9, 181, 0, 23, 42]
abbrev dktX3_init_1 : List UInt8 := dkwX3_init_1 ++ dktX3_init_2
def dkwX3_init_0 : List UInt8 := [42, 183, 0, 3, 42, 17, 0, 240, 188, 8, 181, 0, 9, 42, 17, 3, 192, 188, 8, 181, 0, 13, 42, 7]
abbrev dktX3_init_0 : List UInt8 := dkwX3_init_0 ++ dktX3_init_1
theorem dksX3_init_0 : cX3_init.data.toList.drop 0 = dktX3_init_0 := by decide +kernel
theorem dksX3_init_1 : cX3_init.data.toList.drop 24 = dktX3_init_1 := dk_seg dksX3_init_0 24 rfl rfl
theorem dksX3_init_2 : cX3_init.data.toList.drop 47 = dktX3_init_2 := dk_seg dksX3_init_1 23 rfl rfl
theorem dksX3_init_3 : cX3_init.data.toList.drop 69 = dktX3_init_3 := dk_seg dksX3_init_2 22 rfl rfl
theorem dksX3_init_4 : cX3_init.data.toList.drop 93 = dktX3_init_4 := dk_seg dksX3_init_3 24 rfl rfl
theorem dksX3_init_5 : cX3_init.data.toList.drop 116 = dktX3_init_5 := dk_seg dksX3_init_4 23 rfl rfl
theorem dksX3_init_6 : cX3_init.data.toList.drop 140 = dktX3_init_6 := dk_seg dksX3_init_5 24 rfl rfl
theorem dksX3_init_7 : cX3_init.data.toList.drop 164 = dktX3_init_7 := dk_seg dksX3_init_6 24 rfl rfl
theorem dksX3_init_8 : cX3_init.data.toList.drop 188 = dktX3_init_8 := dk_seg dksX3_init_7 24 rfl rfl
theorem dksX3_init_9 : cX3_init.data.toList.drop 212 = dktX3_init_9 := dk_seg dksX3_init_8 24 rfl rfl
theorem dksX3_init_10 : cX3_init.data.toList.drop 235 = dktX3_init_10 := dk_seg dksX3_init_9 23 rfl rfl
theorem dX3_init_0 : decode cX3_init 0 = .ok (.aload_n 0, 1) := dk_42 (dk_at dksX3_init_0 0 rfl rfl)
theorem dX3_init_1 : decode cX3_init 1 = .ok (.invokespecial 3, 3) := dk_183 0 3 (dk_at dksX3_init_0 1 rfl rfl)
theorem dX3_init_4 : decode cX3_init 4 = .ok (.aload_n 0, 1) := dk_42 (dk_at dksX3_init_0 4 rfl rfl)
theorem dX3_init_5 : decode cX3_init 5 = .ok (.sipush 240, 3) := dk_17 0 240 (dk_at dksX3_init_0 5 rfl rfl)
theorem dX3_init_8 : decode cX3_init 8 = .ok (.newarray .byte, 2) := dk_188_8 (dk_at dksX3_init_0 8 rfl rfl)
theorem dX3_init_10 : decode cX3_init 10 = .ok (.putfield 9, 3) := dk_181 0 9 (dk_at dksX3_init_0 10 rfl rfl)
theorem dX3_init_13 : decode cX3_init 13 = .ok (.aload_n 0, 1) := dk_42 (dk_at dksX3_init_0 13 rfl rfl)
theorem dX3_init_14 : decode cX3_init 14 = .ok (.sipush 960, 3) := dk_17 3 192 (dk_at dksX3_init_0 14 rfl rfl)
theorem dX3_init_17 : decode cX3_init 17 = .ok (.newarray .byte, 2) := dk_188_8 (dk_at dksX3_init_0 17 rfl rfl)
theorem dX3_init_19 : decode cX3_init 19 = .ok (.putfield 13, 3) := dk_181 0 13 (dk_at dksX3_init_0 19 rfl rfl)
theorem dX3_init_22 : decode cX3_init 22 = .ok (.aload_n 0, 1) := dk_42 (dk_at dksX3_init_0 22 rfl rfl)
theorem dX3_init_23 : decode cX3_init 23 = .ok (.iconst 4, 1) := dk_7 (dk_at dksX3_init_0 23 rfl rfl)
theorem dX3_init_24 : decode cX3_init 24 = .ok (.newarray .int, 2) := dk_188_10 (dk_at dksX3_init_1 0 rfl rfl)
theorem dX3_init_26 : decode cX3_init 26 = .ok (.putfield 16, 3) := dk_181 0 16 (dk_at dksX3_init_1 2 rfl rfl)
theorem dX3_init_29 : decode cX3_init 29 = .ok (.aload_n 0, 1) := dk_42 (dk_at dksX3_init_1 5 rfl rfl)
theorem dX3_init_30 : decode cX3_init 30 = .ok (.sipush 128, 3) := dk_17 0 128 (dk_at dksX3_init_1 6 rfl rfl)
theorem dX3_init_33 : decode cX3_init 33 = .ok (.newarray .int, 2) := dk_188_10 (dk_at dksX3_init_1 9 rfl rfl)
theorem dX3_init_35 : decode cX3_init 35 = .ok (.putfield 20, 3) := dk_181 0 20 (dk_at dksX3_init_1 11 rfl rfl)
theorem dX3_init_38 : decode cX3_init 38 = .ok (.aload_n 0, 1) := dk_42 (dk_at dksX3_init_1 14 rfl rfl)
theorem dX3_init_39 : decode cX3_init 39 = .ok (.aload_n 0, 1) := dk_42 (dk_at dksX3_init_1 15 rfl rfl)
theorem dX3_init_40 : decode cX3_init 40 = .ok (.getfield 9, 3) := dk_180 0 9 (dk_at dksX3_init_1 16 rfl rfl)
theorem dX3_init_43 : decode cX3_init 43 = .ok (.putfield 23, 3) := dk_181 0 23 (dk_at dksX3_init_1 19 rfl rfl)
theorem dX3_init_46 : decode cX3_init 46 = .ok (.aload_n 0, 1) := dk_42 (dk_at dksX3_init_1 22 rfl rfl)
theorem dX3_init_47 : decode cX3_init 47 = .ok (.ldc 26, 2) := dk_18 26 (dk_at dksX3_init_2 0 rfl rfl)
theorem dX3_init_49 : decode cX3_init 49 = .ok (.putfield 28, 3) := dk_181 0 28 (dk_at dksX3_init_2 2 rfl rfl)
theorem dX3_init_52 : decode cX3_init 52 = .ok (.aload_n 0, 1) := dk_42 (dk_at dksX3_init_2 5 rfl rfl)
theorem dX3_init_53 : decode cX3_init 53 = .ok (.ldc 32, 2) := dk_18 32 (dk_at dksX3_init_2 6 rfl rfl)
theorem dX3_init_55 : decode cX3_init 55 = .ok (.putfield 34, 3) := dk_181 0 34 (dk_at dksX3_init_2 8 rfl rfl)
theorem dX3_init_58 : decode cX3_init 58 = .ok (.aload_n 0, 1) := dk_42 (dk_at dksX3_init_2 11 rfl rfl)
theorem dX3_init_59 : decode cX3_init 59 = .ok (.iconst 4, 1) := dk_7 (dk_at dksX3_init_2 12 rfl rfl)
theorem dX3_init_60 : decode cX3_init 60 = .ok (.newarray .int, 2) := dk_188_10 (dk_at dksX3_init_2 13 rfl rfl)
theorem dX3_init_62 : decode cX3_init 62 = .ok (.putfield 37, 3) := dk_181 0 37 (dk_at dksX3_init_2 15 rfl rfl)
theorem dX3_init_65 : decode cX3_init 65 = .ok (.aload_n 0, 1) := dk_42 (dk_at dksX3_init_2 18 rfl rfl)
theorem dX3_init_66 : decode cX3_init 66 = .ok (.iconst 4, 1) := dk_7 (dk_at dksX3_init_2 19 rfl rfl)
theorem dX3_init_67 : decode cX3_init 67 = .ok (.newarray .int, 2) := dk_188_10 (dk_at dksX3_init_2 20 rfl rfl)
theorem dX3_init_69 : decode cX3_init 69 = .ok (.putfield 40, 3) := dk_181 0 40 (dk_at dksX3_init_3 0 rfl rfl)
theorem dX3_init_72 : decode cX3_init 72 = .ok (.aload_n 0, 1) := dk_42 (dk_at dksX3_init_3 3 rfl rfl)
theorem dX3_init_73 : decode cX3_init 73 = .ok (.bipush 30, 2) := dk_16 30 (dk_at dksX3_init_3 4 rfl rfl)
theorem dX3_init_75 : decode cX3_init 75 = .ok (.newarray .int, 2) := dk_188_10 (dk_at dksX3_init_3 6 rfl rfl)
theorem dX3_init_77 : decode cX3_init 77 = .ok (.putfield 43, 3) := dk_181 0 43 (dk_at dksX3_init_3 8 rfl rfl)
theorem dX3_init_80 : decode cX3_init 80 = .ok (.aload_n 0, 1) := dk_42 (dk_at dksX3_init_3 11 rfl rfl)
theorem dX3_init_81 : decode cX3_init 81 = .ok (.bipush 30, 2) := dk_16 30 (dk_at dksX3_init_3 12 rfl rfl)
theorem dX3_init_83 : decode cX3_init 83 = .ok (.newarray .int, 2) := dk_188_10 (dk_at dksX3_init_3 14 rfl rfl)
theorem dX3_init_85 : decode cX3_init 85 = .ok (.putfield 46, 3) := dk_181 0 46 (dk_at dksX3_init_3 16 rfl rfl)
theorem dX3_init_88 : decode cX3_init 88 = .ok (.aload_n 0, 1) := dk_42 (dk_at dksX3_init_3 19 rfl rfl)
theorem dX3_init_89 : decode cX3_init 89 = .ok (.bipush 32, 2) := dk_16 32 (dk_at dksX3_init_3 20 rfl rfl)
theorem dX3_init_91 : decode cX3_init 91 = .ok (.newarray .int, 2) := dk_188_10 (dk_at dksX3_init_3 22 rfl rfl)
theorem dX3_init_93 : decode cX3_init 93 = .ok (.putfield 49, 3) := dk_181 0 49 (dk_at dksX3_init_4 0 rfl rfl)
theorem dX3_init_96 : decode cX3_init 96 = .ok (.aload_n 0, 1) := dk_42 (dk_at dksX3_init_4 3 rfl rfl)
theorem dX3_init_97 : decode cX3_init 97 = .ok (.sipush 320, 3) := dk_17 1 64 (dk_at dksX3_init_4 4 rfl rfl)
theorem dX3_init_100 : decode cX3_init 100 = .ok (.newarray .int, 2) := dk_188_10 (dk_at dksX3_init_4 7 rfl rfl)
theorem dX3_init_102 : decode cX3_init 102 = .ok (.putfield 52, 3) := dk_181 0 52 (dk_at dksX3_init_4 9 rfl rfl)
theorem dX3_init_105 : decode cX3_init 105 = .ok (.aload_n 0, 1) := dk_42 (dk_at dksX3_init_4 12 rfl rfl)
theorem dX3_init_106 : decode cX3_init 106 = .ok (.iconst 5, 1) := dk_8 (dk_at dksX3_init_4 13 rfl rfl)
theorem dX3_init_107 : decode cX3_init 107 = .ok (.newarray .int, 2) := dk_188_10 (dk_at dksX3_init_4 14 rfl rfl)
theorem dX3_init_109 : decode cX3_init 109 = .ok (.putfield 55, 3) := dk_181 0 55 (dk_at dksX3_init_4 16 rfl rfl)
theorem dX3_init_112 : decode cX3_init 112 = .ok (.aload_n 0, 1) := dk_42 (dk_at dksX3_init_4 19 rfl rfl)
theorem dX3_init_113 : decode cX3_init 113 = .ok (.sipush 283, 3) := dk_17 1 27 (dk_at dksX3_init_4 20 rfl rfl)
theorem dX3_init_116 : decode cX3_init 116 = .ok (.newarray .int, 2) := dk_188_10 (dk_at dksX3_init_5 0 rfl rfl)
theorem dX3_init_118 : decode cX3_init 118 = .ok (.putfield 58, 3) := dk_181 0 58 (dk_at dksX3_init_5 2 rfl rfl)
theorem dX3_init_121 : decode cX3_init 121 = .ok (.aload_n 0, 1) := dk_42 (dk_at dksX3_init_5 5 rfl rfl)
theorem dX3_init_122 : decode cX3_init 122 = .ok (.sipush 283, 3) := dk_17 1 27 (dk_at dksX3_init_5 6 rfl rfl)
theorem dX3_init_125 : decode cX3_init 125 = .ok (.newarray .int, 2) := dk_188_10 (dk_at dksX3_init_5 9 rfl rfl)
theorem dX3_init_127 : decode cX3_init 127 = .ok (.putfield 61, 3) := dk_181 0 61 (dk_at dksX3_init_5 11 rfl rfl)
theorem dX3_init_130 : decode cX3_init 130 = .ok (.aload_n 0, 1) := dk_42 (dk_at dksX3_init_5 14 rfl rfl)
theorem dX3_init_131 : decode cX3_init 131 = .ok (.iconst (-1), 1) := dk_2 (dk_at dksX3_init_5 15 rfl rfl)
theorem dX3_init_132 : decode cX3_init 132 = .ok (.putfield 64, 3) := dk_181 0 64 (dk_at dksX3_init_5 16 rfl rfl)
theorem dX3_init_135 : decode cX3_init 135 = .ok (.aload_n 0, 1) := dk_42 (dk_at dksX3_init_5 19 rfl rfl)
theorem dX3_init_136 : decode cX3_init 136 = .ok (.iconst 5, 1) := dk_8 (dk_at dksX3_init_5 20 rfl rfl)
theorem dX3_init_137 : decode cX3_init 137 = .ok (.putfield 68, 3) := dk_181 0 68 (dk_at dksX3_init_5 21 rfl rfl)
theorem dX3_init_140 : decode cX3_init 140 = .ok (.aload_n 0, 1) := dk_42 (dk_at dksX3_init_6 0 rfl rfl)
theorem dX3_init_141 : decode cX3_init 141 = .ok (.sipush 8191, 3) := dk_17 31 255 (dk_at dksX3_init_6 1 rfl rfl)
theorem dX3_init_144 : decode cX3_init 144 = .ok (.newarray .long, 2) := dk_188_11 (dk_at dksX3_init_6 4 rfl rfl)
theorem dX3_init_146 : decode cX3_init 146 = .ok (.putfield 71, 3) := dk_181 0 71 (dk_at dksX3_init_6 6 rfl rfl)
theorem dX3_init_149 : decode cX3_init 149 = .ok (.aload_n 0, 1) := dk_42 (dk_at dksX3_init_6 9 rfl rfl)
theorem dX3_init_150 : decode cX3_init 150 = .ok (.sipush 8191, 3) := dk_17 31 255 (dk_at dksX3_init_6 10 rfl rfl)
theorem dX3_init_153 : decode cX3_init 153 = .ok (.newarray .int, 2) := dk_188_10 (dk_at dksX3_init_6 13 rfl rfl)
theorem dX3_init_155 : decode cX3_init 155 = .ok (.putfield 75, 3) := dk_181 0 75 (dk_at dksX3_init_6 15 rfl rfl)
theorem dX3_init_158 : decode cX3_init 158 = .ok (.aload_n 0, 1) := dk_42 (dk_at dksX3_init_6 18 rfl rfl)
theorem dX3_init_159 : decode cX3_init 159 = .ok (.sipush 11320, 3) := dk_17 44 56 (dk_at dksX3_init_6 19 rfl rfl)
theorem dX3_init_162 : decode cX3_init 162 = .ok (.newarray .int, 2) := dk_188_10 (dk_at dksX3_init_6 22 rfl rfl)
theorem dX3_init_164 : decode cX3_init 164 = .ok (.putfield 78, 3) := dk_181 0 78 (dk_at dksX3_init_7 0 rfl rfl)
theorem dX3_init_167 : decode cX3_init 167 = .ok (.aload_n 0, 1) := dk_42 (dk_at dksX3_init_7 3 rfl rfl)
theorem dX3_init_168 : decode cX3_init 168 = .ok (.bipush 12, 2) := dk_16 12 (dk_at dksX3_init_7 4 rfl rfl)
theorem dX3_init_170 : decode cX3_init 170 = .ok (.newarray .int, 2) := dk_188_10 (dk_at dksX3_init_7 6 rfl rfl)
theorem dX3_init_172 : decode cX3_init 172 = .ok (.putfield 81, 3) := dk_181 0 81 (dk_at dksX3_init_7 8 rfl rfl)
theorem dX3_init_175 : decode cX3_init 175 = .ok (.aload_n 0, 1) := dk_42 (dk_at dksX3_init_7 11 rfl rfl)
theorem dX3_init_176 : decode cX3_init 176 = .ok (.bipush 12, 2) := dk_16 12 (dk_at dksX3_init_7 12 rfl rfl)
theorem dX3_init_178 : decode cX3_init 178 = .ok (.newarray .int, 2) := dk_188_10 (dk_at dksX3_init_7 14 rfl rfl)
theorem dX3_init_180 : decode cX3_init 180 = .ok (.putfield 84, 3) := dk_181 0 84 (dk_at dksX3_init_7 16 rfl rfl)
theorem dX3_init_183 : decode cX3_init 183 = .ok (.aload_n 0, 1) := dk_42 (dk_at dksX3_init_7 19 rfl rfl)
theorem dX3_init_184 : decode cX3_init 184 = .ok (.bipush 10, 2) := dk_16 10 (dk_at dksX3_init_7 20 rfl rfl)
theorem dX3_init_186 : decode cX3_init 186 = .ok (.newarray .int, 2) := dk_188_10 (dk_at dksX3_init_7 22 rfl rfl)
theorem dX3_init_188 : decode cX3_init 188 = .ok (.putfield 87, 3) := dk_181 0 87 (dk_at dksX3_init_8 0 rfl rfl)
theorem dX3_init_191 : decode cX3_init 191 = .ok (.aload_n 0, 1) := dk_42 (dk_at dksX3_init_8 3 rfl rfl)
theorem dX3_init_192 : decode cX3_init 192 = .ok (.bipush 10, 2) := dk_16 10 (dk_at dksX3_init_8 4 rfl rfl)
theorem dX3_init_194 : decode cX3_init 194 = .ok (.newarray .int, 2) := dk_188_10 (dk_at dksX3_init_8 6 rfl rfl)
theorem dX3_init_196 : decode cX3_init 196 = .ok (.putfield 90, 3) := dk_181 0 90 (dk_at dksX3_init_8 8 rfl rfl)
theorem dX3_init_199 : decode cX3_init 199 = .ok (.aload_n 0, 1) := dk_42 (dk_at dksX3_init_8 11 rfl rfl)
theorem dX3_init_200 : decode cX3_init 200 = .ok (.bipush 6, 2) := dk_16 6 (dk_at dksX3_init_8 12 rfl rfl)
theorem dX3_init_202 : decode cX3_init 202 = .ok (.newarray .int, 2) := dk_188_10 (dk_at dksX3_init_8 14 rfl rfl)
theorem dX3_init_204 : decode cX3_init 204 = .ok (.putfield 93, 3) := dk_181 0 93 (dk_at dksX3_init_8 16 rfl rfl)
theorem dX3_init_207 : decode cX3_init 207 = .ok (.aload_n 0, 1) := dk_42 (dk_at dksX3_init_8 19 rfl rfl)
theorem dX3_init_208 : decode cX3_init 208 = .ok (.bipush 6, 2) := dk_16 6 (dk_at dksX3_init_8 20 rfl rfl)
theorem dX3_init_210 : decode cX3_init 210 = .ok (.newarray .int, 2) := dk_188_10 (dk_at dksX3_init_8 22 rfl rfl)
theorem dX3_init_212 : decode cX3_init 212 = .ok (.putfield 96, 3) := dk_181 0 96 (dk_at dksX3_init_9 0 rfl rfl)
theorem dX3_init_215 : decode cX3_init 215 = .ok (.aload_n 0, 1) := dk_42 (dk_at dksX3_init_9 3 rfl rfl)
theorem dX3_init_216 : decode cX3_init 216 = .ok (.bipush 6, 2) := dk_16 6 (dk_at dksX3_init_9 4 rfl rfl)
theorem dX3_init_218 : decode cX3_init 218 = .ok (.newarray .int, 2) := dk_188_10 (dk_at dksX3_init_9 6 rfl rfl)
theorem dX3_init_220 : decode cX3_init 220 = .ok (.putfield 99, 3) := dk_181 0 99 (dk_at dksX3_init_9 8 rfl rfl)
theorem dX3_init_223 : decode cX3_init 223 = .ok (.aload_n 0, 1) := dk_42 (dk_at dksX3_init_9 11 rfl rfl)
theorem dX3_init_224 : decode cX3_init 224 = .ok (.bipush 10, 2) := dk_16 10 (dk_at dksX3_init_9 12 rfl rfl)
theorem dX3_init_226 : decode cX3_init 226 = .ok (.newarray .boolean, 2) := dk_188_4 (dk_at dksX3_init_9 14 rfl rfl)
theorem dX3_init_228 : decode cX3_init 228 = .ok (.putfield 102, 3) := dk_181 0 102 (dk_at dksX3_init_9 16 rfl rfl)
theorem dX3_init_231 : decode cX3_init 231 = .ok (.aload_n 0, 1) := dk_42 (dk_at dksX3_init_9 19 rfl rfl)
theorem dX3_init_232 : decode cX3_init 232 = .ok (.sipush 283, 3) := dk_17 1 27 (dk_at dksX3_init_9 20 rfl rfl)
theorem dX3_init_235 : decode cX3_init 235 = .ok (.newarray .int, 2) := dk_188_10 (dk_at dksX3_init_10 0 rfl rfl)
theorem dX3_init_237 : decode cX3_init 237 = .ok (.putfield 106, 3) := dk_181 0 106 (dk_at dksX3_init_10 2 rfl rfl)
theorem dX3_init_240 : decode cX3_init 240 = .ok (.return_, 1) := dk_177 (dk_at dksX3_init_10 5 rfl rfl)
abbrev cX3_thrown : ByteArray := prog_14_method_2_code
def yX3_thrown : MethodName := ⟨RX3, "thrown", "()I"⟩
theorem dX3_thrown_0 : decode cX3_thrown 0 = .ok (.aload_n 0, 1) := by decide +kernel
theorem dX3_thrown_1 : decode cX3_thrown 1 = .ok (.getfield 109, 3) := by decide +kernel
theorem dX3_thrown_4 : decode cX3_thrown 4 = .ok (.ireturn, 1) := by decide +kernel
abbrev cX3_feed : ByteArray := prog_14_method_8_code
def yX3_feed : MethodName := ⟨RX3, "feed", "(IIIII)I"⟩
def dkwX3_feed_3 : List UInt8 := [182, 0, 128, 42, 180, 0, 122, 172]
abbrev dktX3_feed_3 : List UInt8 := dkwX3_feed_3 ++ []
def dkwX3_feed_2 : List UInt8 := [182, 0, 128, 42, 28, 182, 0, 128, 42, 29, 182, 0, 128, 42, 21, 4, 182, 0, 128, 42, 21, 5]
abbrev dktX3_feed_2 : List UInt8 := dkwX3_feed_2 ++ dktX3_feed_3
def dkwX3_feed_1 : List UInt8 := [21, 4, 184, 0, 124, 96, 21, 5, 184, 0, 124, 96, 17, 0, 240, 164, 0, 5, 2, 172, 42, 27]
abbrev dktX3_feed_1 : List UInt8 := dkwX3_feed_1 ++ dktX3_feed_2
def dkwX3_feed_0 : List UInt8 := [42, 3, 181, 0, 109, 42, 180, 0, 122, 27, 184, 0, 124, 96, 28, 184, 0, 124, 96, 29, 184, 0, 124, 96]
abbrev dktX3_feed_0 : List UInt8 := dkwX3_feed_0 ++ dktX3_feed_1
theorem dksX3_feed_0 : cX3_feed.data.toList.drop 0 = dktX3_feed_0 := by decide +kernel
theorem dksX3_feed_1 : cX3_feed.data.toList.drop 24 = dktX3_feed_1 := dk_seg dksX3_feed_0 24 rfl rfl
theorem dksX3_feed_2 : cX3_feed.data.toList.drop 46 = dktX3_feed_2 := dk_seg dksX3_feed_1 22 rfl rfl
theorem dksX3_feed_3 : cX3_feed.data.toList.drop 68 = dktX3_feed_3 := dk_seg dksX3_feed_2 22 rfl rfl
theorem dX3_feed_0 : decode cX3_feed 0 = .ok (.aload_n 0, 1) := dk_42 (dk_at dksX3_feed_0 0 rfl rfl)
theorem dX3_feed_1 : decode cX3_feed 1 = .ok (.iconst 0, 1) := dk_3 (dk_at dksX3_feed_0 1 rfl rfl)
theorem dX3_feed_2 : decode cX3_feed 2 = .ok (.putfield 109, 3) := dk_181 0 109 (dk_at dksX3_feed_0 2 rfl rfl)
theorem dX3_feed_5 : decode cX3_feed 5 = .ok (.aload_n 0, 1) := dk_42 (dk_at dksX3_feed_0 5 rfl rfl)
theorem dX3_feed_6 : decode cX3_feed 6 = .ok (.getfield 122, 3) := dk_180 0 122 (dk_at dksX3_feed_0 6 rfl rfl)
theorem dX3_feed_9 : decode cX3_feed 9 = .ok (.iload_n 1, 1) := dk_27 (dk_at dksX3_feed_0 9 rfl rfl)
theorem dX3_feed_10 : decode cX3_feed 10 = .ok (.invokestatic 124, 3) := dk_184 0 124 (dk_at dksX3_feed_0 10 rfl rfl)
theorem dX3_feed_13 : decode cX3_feed 13 = .ok (.iadd, 1) := dk_96 (dk_at dksX3_feed_0 13 rfl rfl)
theorem dX3_feed_14 : decode cX3_feed 14 = .ok (.iload_n 2, 1) := dk_28 (dk_at dksX3_feed_0 14 rfl rfl)
theorem dX3_feed_15 : decode cX3_feed 15 = .ok (.invokestatic 124, 3) := dk_184 0 124 (dk_at dksX3_feed_0 15 rfl rfl)
theorem dX3_feed_18 : decode cX3_feed 18 = .ok (.iadd, 1) := dk_96 (dk_at dksX3_feed_0 18 rfl rfl)
theorem dX3_feed_19 : decode cX3_feed 19 = .ok (.iload_n 3, 1) := dk_29 (dk_at dksX3_feed_0 19 rfl rfl)
theorem dX3_feed_20 : decode cX3_feed 20 = .ok (.invokestatic 124, 3) := dk_184 0 124 (dk_at dksX3_feed_0 20 rfl rfl)
theorem dX3_feed_23 : decode cX3_feed 23 = .ok (.iadd, 1) := dk_96 (dk_at dksX3_feed_0 23 rfl rfl)
theorem dX3_feed_24 : decode cX3_feed 24 = .ok (.iload 4, 2) := dk_21 4 (dk_at dksX3_feed_1 0 rfl rfl)
theorem dX3_feed_26 : decode cX3_feed 26 = .ok (.invokestatic 124, 3) := dk_184 0 124 (dk_at dksX3_feed_1 2 rfl rfl)
theorem dX3_feed_29 : decode cX3_feed 29 = .ok (.iadd, 1) := dk_96 (dk_at dksX3_feed_1 5 rfl rfl)
theorem dX3_feed_30 : decode cX3_feed 30 = .ok (.iload 5, 2) := dk_21 5 (dk_at dksX3_feed_1 6 rfl rfl)
theorem dX3_feed_32 : decode cX3_feed 32 = .ok (.invokestatic 124, 3) := dk_184 0 124 (dk_at dksX3_feed_1 8 rfl rfl)
theorem dX3_feed_35 : decode cX3_feed 35 = .ok (.iadd, 1) := dk_96 (dk_at dksX3_feed_1 11 rfl rfl)
theorem dX3_feed_36 : decode cX3_feed 36 = .ok (.sipush 240, 3) := dk_17 0 240 (dk_at dksX3_feed_1 12 rfl rfl)
theorem dX3_feed_39 : decode cX3_feed 39 = .ok (.if_icmp .le 5, 3) := dk_164 0 5 (dk_at dksX3_feed_1 15 rfl rfl)
theorem dX3_feed_42 : decode cX3_feed 42 = .ok (.iconst (-1), 1) := dk_2 (dk_at dksX3_feed_1 18 rfl rfl)
theorem dX3_feed_43 : decode cX3_feed 43 = .ok (.ireturn, 1) := dk_172 (dk_at dksX3_feed_1 19 rfl rfl)
theorem dX3_feed_44 : decode cX3_feed 44 = .ok (.aload_n 0, 1) := dk_42 (dk_at dksX3_feed_1 20 rfl rfl)
theorem dX3_feed_45 : decode cX3_feed 45 = .ok (.iload_n 1, 1) := dk_27 (dk_at dksX3_feed_1 21 rfl rfl)
theorem dX3_feed_46 : decode cX3_feed 46 = .ok (.invokevirtual 128, 3) := dk_182 0 128 (dk_at dksX3_feed_2 0 rfl rfl)
theorem dX3_feed_49 : decode cX3_feed 49 = .ok (.aload_n 0, 1) := dk_42 (dk_at dksX3_feed_2 3 rfl rfl)
theorem dX3_feed_50 : decode cX3_feed 50 = .ok (.iload_n 2, 1) := dk_28 (dk_at dksX3_feed_2 4 rfl rfl)
theorem dX3_feed_51 : decode cX3_feed 51 = .ok (.invokevirtual 128, 3) := dk_182 0 128 (dk_at dksX3_feed_2 5 rfl rfl)
theorem dX3_feed_54 : decode cX3_feed 54 = .ok (.aload_n 0, 1) := dk_42 (dk_at dksX3_feed_2 8 rfl rfl)
theorem dX3_feed_55 : decode cX3_feed 55 = .ok (.iload_n 3, 1) := dk_29 (dk_at dksX3_feed_2 9 rfl rfl)
theorem dX3_feed_56 : decode cX3_feed 56 = .ok (.invokevirtual 128, 3) := dk_182 0 128 (dk_at dksX3_feed_2 10 rfl rfl)
theorem dX3_feed_59 : decode cX3_feed 59 = .ok (.aload_n 0, 1) := dk_42 (dk_at dksX3_feed_2 13 rfl rfl)
theorem dX3_feed_60 : decode cX3_feed 60 = .ok (.iload 4, 2) := dk_21 4 (dk_at dksX3_feed_2 14 rfl rfl)
theorem dX3_feed_62 : decode cX3_feed 62 = .ok (.invokevirtual 128, 3) := dk_182 0 128 (dk_at dksX3_feed_2 16 rfl rfl)
theorem dX3_feed_65 : decode cX3_feed 65 = .ok (.aload_n 0, 1) := dk_42 (dk_at dksX3_feed_2 19 rfl rfl)
theorem dX3_feed_66 : decode cX3_feed 66 = .ok (.iload 5, 2) := dk_21 5 (dk_at dksX3_feed_2 20 rfl rfl)
theorem dX3_feed_68 : decode cX3_feed 68 = .ok (.invokevirtual 128, 3) := dk_182 0 128 (dk_at dksX3_feed_3 0 rfl rfl)
theorem dX3_feed_71 : decode cX3_feed 71 = .ok (.aload_n 0, 1) := dk_42 (dk_at dksX3_feed_3 3 rfl rfl)
theorem dX3_feed_72 : decode cX3_feed 72 = .ok (.getfield 122, 3) := dk_180 0 122 (dk_at dksX3_feed_3 4 rfl rfl)
theorem dX3_feed_75 : decode cX3_feed 75 = .ok (.ireturn, 1) := dk_172 (dk_at dksX3_feed_3 7 rfl rfl)
abbrev cX3_bytesIn : ByteArray := prog_14_method_6_code
def yX3_bytesIn : MethodName := ⟨RX3, "bytesIn", "(I)I"⟩
def dkwX3_bytesIn_1 : List UInt8 := [3, 96, 60, 132, 2, 248, 167, 255, 231, 27, 172]
abbrev dktX3_bytesIn_1 : List UInt8 := dkwX3_bytesIn_1 ++ []
def dkwX3_bytesIn_0 : List UInt8 := [3, 60, 16, 24, 61, 28, 155, 0, 27, 27, 26, 28, 122, 17, 0, 255, 126, 153, 0, 7, 4, 167, 0, 4]
abbrev dktX3_bytesIn_0 : List UInt8 := dkwX3_bytesIn_0 ++ dktX3_bytesIn_1
theorem dksX3_bytesIn_0 : cX3_bytesIn.data.toList.drop 0 = dktX3_bytesIn_0 := by decide +kernel
theorem dksX3_bytesIn_1 : cX3_bytesIn.data.toList.drop 24 = dktX3_bytesIn_1 := dk_seg dksX3_bytesIn_0 24 rfl rfl
theorem dX3_bytesIn_0 : decode cX3_bytesIn 0 = .ok (.iconst 0, 1) := dk_3 (dk_at dksX3_bytesIn_0 0 rfl rfl)
theorem dX3_bytesIn_1 : decode cX3_bytesIn 1 = .ok (.istore_n 1, 1) := dk_60 (dk_at dksX3_bytesIn_0 1 rfl rfl)
theorem dX3_bytesIn_2 : decode cX3_bytesIn 2 = .ok (.bipush 24, 2) := dk_16 24 (dk_at dksX3_bytesIn_0 2 rfl rfl)
theorem dX3_bytesIn_4 : decode cX3_bytesIn 4 = .ok (.istore_n 2, 1) := dk_61 (dk_at dksX3_bytesIn_0 4 rfl rfl)
theorem dX3_bytesIn_5 : decode cX3_bytesIn 5 = .ok (.iload_n 2, 1) := dk_28 (dk_at dksX3_bytesIn_0 5 rfl rfl)
theorem dX3_bytesIn_6 : decode cX3_bytesIn 6 = .ok (.ifCond .lt 27, 3) := dk_155 0 27 (dk_at dksX3_bytesIn_0 6 rfl rfl)
theorem dX3_bytesIn_9 : decode cX3_bytesIn 9 = .ok (.iload_n 1, 1) := dk_27 (dk_at dksX3_bytesIn_0 9 rfl rfl)
theorem dX3_bytesIn_10 : decode cX3_bytesIn 10 = .ok (.iload_n 0, 1) := dk_26 (dk_at dksX3_bytesIn_0 10 rfl rfl)
theorem dX3_bytesIn_11 : decode cX3_bytesIn 11 = .ok (.iload_n 2, 1) := dk_28 (dk_at dksX3_bytesIn_0 11 rfl rfl)
theorem dX3_bytesIn_12 : decode cX3_bytesIn 12 = .ok (.ishr, 1) := dk_122 (dk_at dksX3_bytesIn_0 12 rfl rfl)
theorem dX3_bytesIn_13 : decode cX3_bytesIn 13 = .ok (.sipush 255, 3) := dk_17 0 255 (dk_at dksX3_bytesIn_0 13 rfl rfl)
theorem dX3_bytesIn_16 : decode cX3_bytesIn 16 = .ok (.iand, 1) := dk_126 (dk_at dksX3_bytesIn_0 16 rfl rfl)
theorem dX3_bytesIn_17 : decode cX3_bytesIn 17 = .ok (.ifCond .eq 7, 3) := dk_153 0 7 (dk_at dksX3_bytesIn_0 17 rfl rfl)
theorem dX3_bytesIn_20 : decode cX3_bytesIn 20 = .ok (.iconst 1, 1) := dk_4 (dk_at dksX3_bytesIn_0 20 rfl rfl)
theorem dX3_bytesIn_21 : decode cX3_bytesIn 21 = .ok (.goto 4, 3) := dk_167 0 4 (dk_at dksX3_bytesIn_0 21 rfl rfl)
theorem dX3_bytesIn_24 : decode cX3_bytesIn 24 = .ok (.iconst 0, 1) := dk_3 (dk_at dksX3_bytesIn_1 0 rfl rfl)
theorem dX3_bytesIn_25 : decode cX3_bytesIn 25 = .ok (.iadd, 1) := dk_96 (dk_at dksX3_bytesIn_1 1 rfl rfl)
theorem dX3_bytesIn_26 : decode cX3_bytesIn 26 = .ok (.istore_n 1, 1) := dk_60 (dk_at dksX3_bytesIn_1 2 rfl rfl)
theorem dX3_bytesIn_27 : decode cX3_bytesIn 27 = .ok (.iinc 2 (-8), 3) := dk_132 2 248 (dk_at dksX3_bytesIn_1 3 rfl rfl)
theorem dX3_bytesIn_30 : decode cX3_bytesIn 30 = .ok (.goto (-25), 3) := dk_167 255 231 (dk_at dksX3_bytesIn_1 6 rfl rfl)
theorem dX3_bytesIn_33 : decode cX3_bytesIn 33 = .ok (.iload_n 1, 1) := dk_27 (dk_at dksX3_bytesIn_1 9 rfl rfl)
theorem dX3_bytesIn_34 : decode cX3_bytesIn 34 = .ok (.ireturn, 1) := dk_172 (dk_at dksX3_bytesIn_1 10 rfl rfl)
abbrev cX3_put : ByteArray := prog_14_method_7_code
def yX3_put : MethodName := ⟨RX3, "put", "(I)V"⟩
def dkwX3_put_2 : List UInt8 := [167, 255, 213, 177]
abbrev dktX3_put_2 : List UInt8 := dkwX3_put_2 ++ []
def dkwX3_put_1 : List UInt8 := [42, 180, 0, 122, 27, 28, 122, 145, 84, 42, 89, 180, 0, 122, 4, 96, 181, 0, 122, 132, 2, 248]
abbrev dktX3_put_1 : List UInt8 := dkwX3_put_1 ++ dktX3_put_2
def dkwX3_put_0 : List UInt8 := [16, 24, 61, 28, 155, 0, 45, 27, 28, 122, 17, 0, 255, 126, 154, 0, 6, 167, 0, 26, 42, 180, 0, 9]
abbrev dktX3_put_0 : List UInt8 := dkwX3_put_0 ++ dktX3_put_1
theorem dksX3_put_0 : cX3_put.data.toList.drop 0 = dktX3_put_0 := by decide +kernel
theorem dksX3_put_1 : cX3_put.data.toList.drop 24 = dktX3_put_1 := dk_seg dksX3_put_0 24 rfl rfl
theorem dksX3_put_2 : cX3_put.data.toList.drop 46 = dktX3_put_2 := dk_seg dksX3_put_1 22 rfl rfl
theorem dX3_put_0 : decode cX3_put 0 = .ok (.bipush 24, 2) := dk_16 24 (dk_at dksX3_put_0 0 rfl rfl)
theorem dX3_put_2 : decode cX3_put 2 = .ok (.istore_n 2, 1) := dk_61 (dk_at dksX3_put_0 2 rfl rfl)
theorem dX3_put_3 : decode cX3_put 3 = .ok (.iload_n 2, 1) := dk_28 (dk_at dksX3_put_0 3 rfl rfl)
theorem dX3_put_4 : decode cX3_put 4 = .ok (.ifCond .lt 45, 3) := dk_155 0 45 (dk_at dksX3_put_0 4 rfl rfl)
theorem dX3_put_7 : decode cX3_put 7 = .ok (.iload_n 1, 1) := dk_27 (dk_at dksX3_put_0 7 rfl rfl)
theorem dX3_put_8 : decode cX3_put 8 = .ok (.iload_n 2, 1) := dk_28 (dk_at dksX3_put_0 8 rfl rfl)
theorem dX3_put_9 : decode cX3_put 9 = .ok (.ishr, 1) := dk_122 (dk_at dksX3_put_0 9 rfl rfl)
theorem dX3_put_10 : decode cX3_put 10 = .ok (.sipush 255, 3) := dk_17 0 255 (dk_at dksX3_put_0 10 rfl rfl)
theorem dX3_put_13 : decode cX3_put 13 = .ok (.iand, 1) := dk_126 (dk_at dksX3_put_0 13 rfl rfl)
theorem dX3_put_14 : decode cX3_put 14 = .ok (.ifCond .ne 6, 3) := dk_154 0 6 (dk_at dksX3_put_0 14 rfl rfl)
theorem dX3_put_17 : decode cX3_put 17 = .ok (.goto 26, 3) := dk_167 0 26 (dk_at dksX3_put_0 17 rfl rfl)
theorem dX3_put_20 : decode cX3_put 20 = .ok (.aload_n 0, 1) := dk_42 (dk_at dksX3_put_0 20 rfl rfl)
theorem dX3_put_21 : decode cX3_put 21 = .ok (.getfield 9, 3) := dk_180 0 9 (dk_at dksX3_put_0 21 rfl rfl)
theorem dX3_put_24 : decode cX3_put 24 = .ok (.aload_n 0, 1) := dk_42 (dk_at dksX3_put_1 0 rfl rfl)
theorem dX3_put_25 : decode cX3_put 25 = .ok (.getfield 122, 3) := dk_180 0 122 (dk_at dksX3_put_1 1 rfl rfl)
theorem dX3_put_28 : decode cX3_put 28 = .ok (.iload_n 1, 1) := dk_27 (dk_at dksX3_put_1 4 rfl rfl)
theorem dX3_put_29 : decode cX3_put 29 = .ok (.iload_n 2, 1) := dk_28 (dk_at dksX3_put_1 5 rfl rfl)
theorem dX3_put_30 : decode cX3_put 30 = .ok (.ishr, 1) := dk_122 (dk_at dksX3_put_1 6 rfl rfl)
theorem dX3_put_31 : decode cX3_put 31 = .ok (.i2b, 1) := dk_145 (dk_at dksX3_put_1 7 rfl rfl)
theorem dX3_put_32 : decode cX3_put 32 = .ok (.bastore, 1) := dk_84 (dk_at dksX3_put_1 8 rfl rfl)
theorem dX3_put_33 : decode cX3_put 33 = .ok (.aload_n 0, 1) := dk_42 (dk_at dksX3_put_1 9 rfl rfl)
theorem dX3_put_34 : decode cX3_put 34 = .ok (.dup, 1) := dk_89 (dk_at dksX3_put_1 10 rfl rfl)
theorem dX3_put_35 : decode cX3_put 35 = .ok (.getfield 122, 3) := dk_180 0 122 (dk_at dksX3_put_1 11 rfl rfl)
theorem dX3_put_38 : decode cX3_put 38 = .ok (.iconst 1, 1) := dk_4 (dk_at dksX3_put_1 14 rfl rfl)
theorem dX3_put_39 : decode cX3_put 39 = .ok (.iadd, 1) := dk_96 (dk_at dksX3_put_1 15 rfl rfl)
theorem dX3_put_40 : decode cX3_put 40 = .ok (.putfield 122, 3) := dk_181 0 122 (dk_at dksX3_put_1 16 rfl rfl)
theorem dX3_put_43 : decode cX3_put 43 = .ok (.iinc 2 (-8), 3) := dk_132 2 248 (dk_at dksX3_put_1 19 rfl rfl)
theorem dX3_put_46 : decode cX3_put 46 = .ok (.goto (-43), 3) := dk_167 255 213 (dk_at dksX3_put_2 0 rfl rfl)
theorem dX3_put_49 : decode cX3_put 49 = .ok (.return_, 1) := dk_177 (dk_at dksX3_put_2 3 rfl rfl)
abbrev cX3_end : ByteArray := prog_14_method_9_code
def yX3_end : MethodName := ⟨RX3, "end", "(I)Z"⟩
def dkwX3_end_1 : List UInt8 := [4, 172]
abbrev dktX3_end_1 : List UInt8 := dkwX3_end_1 ++ []
def dkwX3_end_0 : List UInt8 := [42, 3, 181, 0, 109, 27, 155, 0, 11, 27, 42, 180, 0, 122, 164, 0, 5, 3, 172, 42, 27, 181, 0, 122]
abbrev dktX3_end_0 : List UInt8 := dkwX3_end_0 ++ dktX3_end_1
theorem dksX3_end_0 : cX3_end.data.toList.drop 0 = dktX3_end_0 := by decide +kernel
theorem dksX3_end_1 : cX3_end.data.toList.drop 24 = dktX3_end_1 := dk_seg dksX3_end_0 24 rfl rfl
theorem dX3_end_0 : decode cX3_end 0 = .ok (.aload_n 0, 1) := dk_42 (dk_at dksX3_end_0 0 rfl rfl)
theorem dX3_end_1 : decode cX3_end 1 = .ok (.iconst 0, 1) := dk_3 (dk_at dksX3_end_0 1 rfl rfl)
theorem dX3_end_2 : decode cX3_end 2 = .ok (.putfield 109, 3) := dk_181 0 109 (dk_at dksX3_end_0 2 rfl rfl)
theorem dX3_end_5 : decode cX3_end 5 = .ok (.iload_n 1, 1) := dk_27 (dk_at dksX3_end_0 5 rfl rfl)
theorem dX3_end_6 : decode cX3_end 6 = .ok (.ifCond .lt 11, 3) := dk_155 0 11 (dk_at dksX3_end_0 6 rfl rfl)
theorem dX3_end_9 : decode cX3_end 9 = .ok (.iload_n 1, 1) := dk_27 (dk_at dksX3_end_0 9 rfl rfl)
theorem dX3_end_10 : decode cX3_end 10 = .ok (.aload_n 0, 1) := dk_42 (dk_at dksX3_end_0 10 rfl rfl)
theorem dX3_end_11 : decode cX3_end 11 = .ok (.getfield 122, 3) := dk_180 0 122 (dk_at dksX3_end_0 11 rfl rfl)
theorem dX3_end_14 : decode cX3_end 14 = .ok (.if_icmp .le 5, 3) := dk_164 0 5 (dk_at dksX3_end_0 14 rfl rfl)
theorem dX3_end_17 : decode cX3_end 17 = .ok (.iconst 0, 1) := dk_3 (dk_at dksX3_end_0 17 rfl rfl)
theorem dX3_end_18 : decode cX3_end 18 = .ok (.ireturn, 1) := dk_172 (dk_at dksX3_end_0 18 rfl rfl)
theorem dX3_end_19 : decode cX3_end 19 = .ok (.aload_n 0, 1) := dk_42 (dk_at dksX3_end_0 19 rfl rfl)
theorem dX3_end_20 : decode cX3_end 20 = .ok (.iload_n 1, 1) := dk_27 (dk_at dksX3_end_0 20 rfl rfl)
theorem dX3_end_21 : decode cX3_end 21 = .ok (.putfield 122, 3) := dk_181 0 122 (dk_at dksX3_end_0 21 rfl rfl)
theorem dX3_end_24 : decode cX3_end 24 = .ok (.iconst 1, 1) := dk_4 (dk_at dksX3_end_1 0 rfl rfl)
theorem dX3_end_25 : decode cX3_end 25 = .ok (.ireturn, 1) := dk_172 (dk_at dksX3_end_1 1 rfl rfl)
abbrev cX3_fault : ByteArray := prog_14_method_40_code
def yX3_fault : MethodName := ⟨RX3, "fault", "(I)I"⟩
def dkwX3_fault_2 : List UInt8 := [160, 0, 7, 42, 182, 1, 40, 42, 180, 0, 141, 172]
abbrev dktX3_fault_2 : List UInt8 := dkwX3_fault_2 ++ []
def dkwX3_fault_1 : List UInt8 := [42, 182, 1, 34, 27, 4, 160, 0, 16, 42, 42, 180, 0, 9, 3, 42, 180, 0, 122, 182, 1, 37, 27, 5]
abbrev dktX3_fault_1 : List UInt8 := dkwX3_fault_1 ++ dktX3_fault_2
def dkwX3_fault_0 : List UInt8 := [42, 3, 181, 0, 109, 27, 133, 9, 20, 1, 32, 184, 0, 230, 154, 0, 6, 16, 254, 172, 27, 154, 0, 7]
abbrev dktX3_fault_0 : List UInt8 := dkwX3_fault_0 ++ dktX3_fault_1
theorem dksX3_fault_0 : cX3_fault.data.toList.drop 0 = dktX3_fault_0 := by decide +kernel
theorem dksX3_fault_1 : cX3_fault.data.toList.drop 24 = dktX3_fault_1 := dk_seg dksX3_fault_0 24 rfl rfl
theorem dksX3_fault_2 : cX3_fault.data.toList.drop 48 = dktX3_fault_2 := dk_seg dksX3_fault_1 24 rfl rfl
theorem dX3_fault_0 : decode cX3_fault 0 = .ok (.aload_n 0, 1) := dk_42 (dk_at dksX3_fault_0 0 rfl rfl)
theorem dX3_fault_1 : decode cX3_fault 1 = .ok (.iconst 0, 1) := dk_3 (dk_at dksX3_fault_0 1 rfl rfl)
theorem dX3_fault_2 : decode cX3_fault 2 = .ok (.putfield 109, 3) := dk_181 0 109 (dk_at dksX3_fault_0 2 rfl rfl)
theorem dX3_fault_5 : decode cX3_fault 5 = .ok (.iload_n 1, 1) := dk_27 (dk_at dksX3_fault_0 5 rfl rfl)
theorem dX3_fault_6 : decode cX3_fault 6 = .ok (.i2l, 1) := dk_133 (dk_at dksX3_fault_0 6 rfl rfl)
theorem dX3_fault_7 : decode cX3_fault 7 = .ok (.lconst 0, 1) := dk_9 (dk_at dksX3_fault_0 7 rfl rfl)
theorem dX3_fault_8 : decode cX3_fault 8 = .ok (.ldc2_w 288, 3) := dk_20 1 32 (dk_at dksX3_fault_0 8 rfl rfl)
theorem dX3_fault_11 : decode cX3_fault 11 = .ok (.invokestatic 230, 3) := dk_184 0 230 (dk_at dksX3_fault_0 11 rfl rfl)
theorem dX3_fault_14 : decode cX3_fault 14 = .ok (.ifCond .ne 6, 3) := dk_154 0 6 (dk_at dksX3_fault_0 14 rfl rfl)
theorem dX3_fault_17 : decode cX3_fault 17 = .ok (.bipush (-2), 2) := dk_16 254 (dk_at dksX3_fault_0 17 rfl rfl)
theorem dX3_fault_19 : decode cX3_fault 19 = .ok (.ireturn, 1) := dk_172 (dk_at dksX3_fault_0 19 rfl rfl)
theorem dX3_fault_20 : decode cX3_fault 20 = .ok (.iload_n 1, 1) := dk_27 (dk_at dksX3_fault_0 20 rfl rfl)
theorem dX3_fault_21 : decode cX3_fault 21 = .ok (.ifCond .ne 7, 3) := dk_154 0 7 (dk_at dksX3_fault_0 21 rfl rfl)
theorem dX3_fault_24 : decode cX3_fault 24 = .ok (.aload_n 0, 1) := dk_42 (dk_at dksX3_fault_1 0 rfl rfl)
theorem dX3_fault_25 : decode cX3_fault 25 = .ok (.invokevirtual 290, 3) := dk_182 1 34 (dk_at dksX3_fault_1 1 rfl rfl)
theorem dX3_fault_28 : decode cX3_fault 28 = .ok (.iload_n 1, 1) := dk_27 (dk_at dksX3_fault_1 4 rfl rfl)
theorem dX3_fault_29 : decode cX3_fault 29 = .ok (.iconst 1, 1) := dk_4 (dk_at dksX3_fault_1 5 rfl rfl)
theorem dX3_fault_30 : decode cX3_fault 30 = .ok (.if_icmp .ne 16, 3) := dk_160 0 16 (dk_at dksX3_fault_1 6 rfl rfl)
theorem dX3_fault_33 : decode cX3_fault 33 = .ok (.aload_n 0, 1) := dk_42 (dk_at dksX3_fault_1 9 rfl rfl)
theorem dX3_fault_34 : decode cX3_fault 34 = .ok (.aload_n 0, 1) := dk_42 (dk_at dksX3_fault_1 10 rfl rfl)
theorem dX3_fault_35 : decode cX3_fault 35 = .ok (.getfield 9, 3) := dk_180 0 9 (dk_at dksX3_fault_1 11 rfl rfl)
theorem dX3_fault_38 : decode cX3_fault 38 = .ok (.iconst 0, 1) := dk_3 (dk_at dksX3_fault_1 14 rfl rfl)
theorem dX3_fault_39 : decode cX3_fault 39 = .ok (.aload_n 0, 1) := dk_42 (dk_at dksX3_fault_1 15 rfl rfl)
theorem dX3_fault_40 : decode cX3_fault 40 = .ok (.getfield 122, 3) := dk_180 0 122 (dk_at dksX3_fault_1 16 rfl rfl)
theorem dX3_fault_43 : decode cX3_fault 43 = .ok (.invokevirtual 293, 3) := dk_182 1 37 (dk_at dksX3_fault_1 19 rfl rfl)
theorem dX3_fault_46 : decode cX3_fault 46 = .ok (.iload_n 1, 1) := dk_27 (dk_at dksX3_fault_1 22 rfl rfl)
theorem dX3_fault_47 : decode cX3_fault 47 = .ok (.iconst 2, 1) := dk_5 (dk_at dksX3_fault_1 23 rfl rfl)
theorem dX3_fault_48 : decode cX3_fault 48 = .ok (.if_icmp .ne 7, 3) := dk_160 0 7 (dk_at dksX3_fault_2 0 rfl rfl)
theorem dX3_fault_51 : decode cX3_fault 51 = .ok (.aload_n 0, 1) := dk_42 (dk_at dksX3_fault_2 3 rfl rfl)
theorem dX3_fault_52 : decode cX3_fault 52 = .ok (.invokevirtual 296, 3) := dk_182 1 40 (dk_at dksX3_fault_2 4 rfl rfl)
theorem dX3_fault_55 : decode cX3_fault 55 = .ok (.aload_n 0, 1) := dk_42 (dk_at dksX3_fault_2 7 rfl rfl)
theorem dX3_fault_56 : decode cX3_fault 56 = .ok (.getfield 141, 3) := dk_180 0 141 (dk_at dksX3_fault_2 8 rfl rfl)
theorem dX3_fault_59 : decode cX3_fault 59 = .ok (.ireturn, 1) := dk_172 (dk_at dksX3_fault_2 11 rfl rfl)
abbrev cX3_isIn : ByteArray := prog_14_method_3_code
def yX3_isIn : MethodName := ⟨RX3, "isIn", "(JJJ)Z"⟩
def dkwX3_isIn_0 : List UInt8 := [30, 32, 148, 155, 0, 14, 30, 22, 4, 148, 157, 0, 7, 4, 167, 0, 4, 3, 172]
abbrev dktX3_isIn_0 : List UInt8 := dkwX3_isIn_0 ++ []
theorem dksX3_isIn_0 : cX3_isIn.data.toList.drop 0 = dktX3_isIn_0 := by decide +kernel
theorem dX3_isIn_0 : decode cX3_isIn 0 = .ok (.lload_n 0, 1) := dk_30 (dk_at dksX3_isIn_0 0 rfl rfl)
theorem dX3_isIn_1 : decode cX3_isIn 1 = .ok (.lload_n 2, 1) := dk_32 (dk_at dksX3_isIn_0 1 rfl rfl)
theorem dX3_isIn_2 : decode cX3_isIn 2 = .ok (.lcmp, 1) := dk_148 (dk_at dksX3_isIn_0 2 rfl rfl)
theorem dX3_isIn_3 : decode cX3_isIn 3 = .ok (.ifCond .lt 14, 3) := dk_155 0 14 (dk_at dksX3_isIn_0 3 rfl rfl)
theorem dX3_isIn_6 : decode cX3_isIn 6 = .ok (.lload_n 0, 1) := dk_30 (dk_at dksX3_isIn_0 6 rfl rfl)
theorem dX3_isIn_7 : decode cX3_isIn 7 = .ok (.lload 4, 2) := dk_22 4 (dk_at dksX3_isIn_0 7 rfl rfl)
theorem dX3_isIn_9 : decode cX3_isIn 9 = .ok (.lcmp, 1) := dk_148 (dk_at dksX3_isIn_0 9 rfl rfl)
theorem dX3_isIn_10 : decode cX3_isIn 10 = .ok (.ifCond .gt 7, 3) := dk_157 0 7 (dk_at dksX3_isIn_0 10 rfl rfl)
theorem dX3_isIn_13 : decode cX3_isIn 13 = .ok (.iconst 1, 1) := dk_4 (dk_at dksX3_isIn_0 13 rfl rfl)
theorem dX3_isIn_14 : decode cX3_isIn 14 = .ok (.goto 4, 3) := dk_167 0 4 (dk_at dksX3_isIn_0 14 rfl rfl)
theorem dX3_isIn_17 : decode cX3_isIn 17 = .ok (.iconst 0, 1) := dk_3 (dk_at dksX3_isIn_0 17 rfl rfl)
theorem dX3_isIn_18 : decode cX3_isIn 18 = .ok (.ireturn, 1) := dk_172 (dk_at dksX3_isIn_0 18 rfl rfl)
abbrev cX3_readHouse : ByteArray := prog_14_method_36_code
def yX3_readHouse : MethodName := ⟨RX3, "readHouse", "()V"⟩
def dkwX3_readHouse_5 : List UInt8 := [42, 182, 0, 151, 2, 160, 0, 10, 42, 182, 1, 21, 154, 0, 8, 42, 182, 0, 147, 87, 177]
abbrev dktX3_readHouse_5 : List UInt8 := dkwX3_readHouse_5 ++ []
def dkwX3_readHouse_4 : List UInt8 := [153, 255, 216, 42, 89, 180, 0, 132, 4, 96, 181, 0, 132, 167, 255, 203, 42, 180, 0, 141, 2, 160, 0, 23]
abbrev dktX3_readHouse_4 : List UInt8 := dkwX3_readHouse_4 ++ dktX3_readHouse_5
def dkwX3_readHouse_3 : List UInt8 := [42, 180, 0, 141, 2, 160, 0, 16, 42, 182, 0, 151, 16, 59, 160, 0, 7, 4, 167, 0, 4, 3, 60, 27]
abbrev dktX3_readHouse_3 : List UInt8 := dkwX3_readHouse_3 ++ dktX3_readHouse_4
def dkwX3_readHouse_2 : List UInt8 := [132, 1, 1, 167, 255, 236, 4, 60, 27, 153, 0, 55, 42, 180, 0, 141, 2, 160, 0, 47, 42, 182, 1, 18]
abbrev dktX3_readHouse_2 : List UInt8 := dkwX3_readHouse_2 ++ dktX3_readHouse_3
def dkwX3_readHouse_1 : List UInt8 := [3, 181, 0, 255, 3, 60, 27, 7, 162, 0, 21, 42, 180, 0, 40, 27, 16, 115, 27, 184, 0, 234, 79]
abbrev dktX3_readHouse_1 : List UInt8 := dkwX3_readHouse_1 ++ dktX3_readHouse_2
def dkwX3_readHouse_0 : List UInt8 := [42, 42, 180, 0, 9, 3, 42, 180, 0, 122, 182, 0, 220, 42, 3, 181, 1, 2, 42, 3, 181, 1, 5, 42]
abbrev dktX3_readHouse_0 : List UInt8 := dkwX3_readHouse_0 ++ dktX3_readHouse_1
theorem dksX3_readHouse_0 : cX3_readHouse.data.toList.drop 0 = dktX3_readHouse_0 := by decide +kernel
theorem dksX3_readHouse_1 : cX3_readHouse.data.toList.drop 24 = dktX3_readHouse_1 := dk_seg dksX3_readHouse_0 24 rfl rfl
theorem dksX3_readHouse_2 : cX3_readHouse.data.toList.drop 47 = dktX3_readHouse_2 := dk_seg dksX3_readHouse_1 23 rfl rfl
theorem dksX3_readHouse_3 : cX3_readHouse.data.toList.drop 71 = dktX3_readHouse_3 := dk_seg dksX3_readHouse_2 24 rfl rfl
theorem dksX3_readHouse_4 : cX3_readHouse.data.toList.drop 95 = dktX3_readHouse_4 := dk_seg dksX3_readHouse_3 24 rfl rfl
theorem dksX3_readHouse_5 : cX3_readHouse.data.toList.drop 119 = dktX3_readHouse_5 := dk_seg dksX3_readHouse_4 24 rfl rfl
theorem dX3_readHouse_0 : decode cX3_readHouse 0 = .ok (.aload_n 0, 1) := dk_42 (dk_at dksX3_readHouse_0 0 rfl rfl)
theorem dX3_readHouse_1 : decode cX3_readHouse 1 = .ok (.aload_n 0, 1) := dk_42 (dk_at dksX3_readHouse_0 1 rfl rfl)
theorem dX3_readHouse_2 : decode cX3_readHouse 2 = .ok (.getfield 9, 3) := dk_180 0 9 (dk_at dksX3_readHouse_0 2 rfl rfl)
theorem dX3_readHouse_5 : decode cX3_readHouse 5 = .ok (.iconst 0, 1) := dk_3 (dk_at dksX3_readHouse_0 5 rfl rfl)
theorem dX3_readHouse_6 : decode cX3_readHouse 6 = .ok (.aload_n 0, 1) := dk_42 (dk_at dksX3_readHouse_0 6 rfl rfl)
theorem dX3_readHouse_7 : decode cX3_readHouse 7 = .ok (.getfield 122, 3) := dk_180 0 122 (dk_at dksX3_readHouse_0 7 rfl rfl)
theorem dX3_readHouse_10 : decode cX3_readHouse 10 = .ok (.invokevirtual 220, 3) := dk_182 0 220 (dk_at dksX3_readHouse_0 10 rfl rfl)
theorem dX3_readHouse_13 : decode cX3_readHouse 13 = .ok (.aload_n 0, 1) := dk_42 (dk_at dksX3_readHouse_0 13 rfl rfl)
theorem dX3_readHouse_14 : decode cX3_readHouse 14 = .ok (.iconst 0, 1) := dk_3 (dk_at dksX3_readHouse_0 14 rfl rfl)
theorem dX3_readHouse_15 : decode cX3_readHouse 15 = .ok (.putfield 258, 3) := dk_181 1 2 (dk_at dksX3_readHouse_0 15 rfl rfl)
theorem dX3_readHouse_18 : decode cX3_readHouse 18 = .ok (.aload_n 0, 1) := dk_42 (dk_at dksX3_readHouse_0 18 rfl rfl)
theorem dX3_readHouse_19 : decode cX3_readHouse 19 = .ok (.iconst 0, 1) := dk_3 (dk_at dksX3_readHouse_0 19 rfl rfl)
theorem dX3_readHouse_20 : decode cX3_readHouse 20 = .ok (.putfield 261, 3) := dk_181 1 5 (dk_at dksX3_readHouse_0 20 rfl rfl)
theorem dX3_readHouse_23 : decode cX3_readHouse 23 = .ok (.aload_n 0, 1) := dk_42 (dk_at dksX3_readHouse_0 23 rfl rfl)
theorem dX3_readHouse_24 : decode cX3_readHouse 24 = .ok (.iconst 0, 1) := dk_3 (dk_at dksX3_readHouse_1 0 rfl rfl)
theorem dX3_readHouse_25 : decode cX3_readHouse 25 = .ok (.putfield 255, 3) := dk_181 0 255 (dk_at dksX3_readHouse_1 1 rfl rfl)
theorem dX3_readHouse_28 : decode cX3_readHouse 28 = .ok (.iconst 0, 1) := dk_3 (dk_at dksX3_readHouse_1 4 rfl rfl)
theorem dX3_readHouse_29 : decode cX3_readHouse 29 = .ok (.istore_n 1, 1) := dk_60 (dk_at dksX3_readHouse_1 5 rfl rfl)
theorem dX3_readHouse_30 : decode cX3_readHouse 30 = .ok (.iload_n 1, 1) := dk_27 (dk_at dksX3_readHouse_1 6 rfl rfl)
theorem dX3_readHouse_31 : decode cX3_readHouse 31 = .ok (.iconst 4, 1) := dk_7 (dk_at dksX3_readHouse_1 7 rfl rfl)
theorem dX3_readHouse_32 : decode cX3_readHouse 32 = .ok (.if_icmp .ge 21, 3) := dk_162 0 21 (dk_at dksX3_readHouse_1 8 rfl rfl)
theorem dX3_readHouse_35 : decode cX3_readHouse 35 = .ok (.aload_n 0, 1) := dk_42 (dk_at dksX3_readHouse_1 11 rfl rfl)
theorem dX3_readHouse_36 : decode cX3_readHouse 36 = .ok (.getfield 40, 3) := dk_180 0 40 (dk_at dksX3_readHouse_1 12 rfl rfl)
theorem dX3_readHouse_39 : decode cX3_readHouse 39 = .ok (.iload_n 1, 1) := dk_27 (dk_at dksX3_readHouse_1 15 rfl rfl)
theorem dX3_readHouse_40 : decode cX3_readHouse 40 = .ok (.bipush 115, 2) := dk_16 115 (dk_at dksX3_readHouse_1 16 rfl rfl)
theorem dX3_readHouse_42 : decode cX3_readHouse 42 = .ok (.iload_n 1, 1) := dk_27 (dk_at dksX3_readHouse_1 18 rfl rfl)
theorem dX3_readHouse_43 : decode cX3_readHouse 43 = .ok (.invokestatic 234, 3) := dk_184 0 234 (dk_at dksX3_readHouse_1 19 rfl rfl)
theorem dX3_readHouse_46 : decode cX3_readHouse 46 = .ok (.iastore, 1) := dk_79 (dk_at dksX3_readHouse_1 22 rfl rfl)
theorem dX3_readHouse_47 : decode cX3_readHouse 47 = .ok (.iinc 1 1, 3) := dk_132 1 1 (dk_at dksX3_readHouse_2 0 rfl rfl)
theorem dX3_readHouse_50 : decode cX3_readHouse 50 = .ok (.goto (-20), 3) := dk_167 255 236 (dk_at dksX3_readHouse_2 3 rfl rfl)
theorem dX3_readHouse_53 : decode cX3_readHouse 53 = .ok (.iconst 1, 1) := dk_4 (dk_at dksX3_readHouse_2 6 rfl rfl)
theorem dX3_readHouse_54 : decode cX3_readHouse 54 = .ok (.istore_n 1, 1) := dk_60 (dk_at dksX3_readHouse_2 7 rfl rfl)
theorem dX3_readHouse_55 : decode cX3_readHouse 55 = .ok (.iload_n 1, 1) := dk_27 (dk_at dksX3_readHouse_2 8 rfl rfl)
theorem dX3_readHouse_56 : decode cX3_readHouse 56 = .ok (.ifCond .eq 55, 3) := dk_153 0 55 (dk_at dksX3_readHouse_2 9 rfl rfl)
theorem dX3_readHouse_59 : decode cX3_readHouse 59 = .ok (.aload_n 0, 1) := dk_42 (dk_at dksX3_readHouse_2 12 rfl rfl)
theorem dX3_readHouse_60 : decode cX3_readHouse 60 = .ok (.getfield 141, 3) := dk_180 0 141 (dk_at dksX3_readHouse_2 13 rfl rfl)
theorem dX3_readHouse_63 : decode cX3_readHouse 63 = .ok (.iconst (-1), 1) := dk_2 (dk_at dksX3_readHouse_2 16 rfl rfl)
theorem dX3_readHouse_64 : decode cX3_readHouse 64 = .ok (.if_icmp .ne 47, 3) := dk_160 0 47 (dk_at dksX3_readHouse_2 17 rfl rfl)
theorem dX3_readHouse_67 : decode cX3_readHouse 67 = .ok (.aload_n 0, 1) := dk_42 (dk_at dksX3_readHouse_2 20 rfl rfl)
theorem dX3_readHouse_68 : decode cX3_readHouse 68 = .ok (.invokevirtual 274, 3) := dk_182 1 18 (dk_at dksX3_readHouse_2 21 rfl rfl)
theorem dX3_readHouse_71 : decode cX3_readHouse 71 = .ok (.aload_n 0, 1) := dk_42 (dk_at dksX3_readHouse_3 0 rfl rfl)
theorem dX3_readHouse_72 : decode cX3_readHouse 72 = .ok (.getfield 141, 3) := dk_180 0 141 (dk_at dksX3_readHouse_3 1 rfl rfl)
theorem dX3_readHouse_75 : decode cX3_readHouse 75 = .ok (.iconst (-1), 1) := dk_2 (dk_at dksX3_readHouse_3 4 rfl rfl)
theorem dX3_readHouse_76 : decode cX3_readHouse 76 = .ok (.if_icmp .ne 16, 3) := dk_160 0 16 (dk_at dksX3_readHouse_3 5 rfl rfl)
theorem dX3_readHouse_79 : decode cX3_readHouse 79 = .ok (.aload_n 0, 1) := dk_42 (dk_at dksX3_readHouse_3 8 rfl rfl)
theorem dX3_readHouse_80 : decode cX3_readHouse 80 = .ok (.invokevirtual 151, 3) := dk_182 0 151 (dk_at dksX3_readHouse_3 9 rfl rfl)
theorem dX3_readHouse_83 : decode cX3_readHouse 83 = .ok (.bipush 59, 2) := dk_16 59 (dk_at dksX3_readHouse_3 12 rfl rfl)
theorem dX3_readHouse_85 : decode cX3_readHouse 85 = .ok (.if_icmp .ne 7, 3) := dk_160 0 7 (dk_at dksX3_readHouse_3 14 rfl rfl)
theorem dX3_readHouse_88 : decode cX3_readHouse 88 = .ok (.iconst 1, 1) := dk_4 (dk_at dksX3_readHouse_3 17 rfl rfl)
theorem dX3_readHouse_89 : decode cX3_readHouse 89 = .ok (.goto 4, 3) := dk_167 0 4 (dk_at dksX3_readHouse_3 18 rfl rfl)
theorem dX3_readHouse_92 : decode cX3_readHouse 92 = .ok (.iconst 0, 1) := dk_3 (dk_at dksX3_readHouse_3 21 rfl rfl)
theorem dX3_readHouse_93 : decode cX3_readHouse 93 = .ok (.istore_n 1, 1) := dk_60 (dk_at dksX3_readHouse_3 22 rfl rfl)
theorem dX3_readHouse_94 : decode cX3_readHouse 94 = .ok (.iload_n 1, 1) := dk_27 (dk_at dksX3_readHouse_3 23 rfl rfl)
theorem dX3_readHouse_95 : decode cX3_readHouse 95 = .ok (.ifCond .eq (-40), 3) := dk_153 255 216 (dk_at dksX3_readHouse_4 0 rfl rfl)
theorem dX3_readHouse_98 : decode cX3_readHouse 98 = .ok (.aload_n 0, 1) := dk_42 (dk_at dksX3_readHouse_4 3 rfl rfl)
theorem dX3_readHouse_99 : decode cX3_readHouse 99 = .ok (.dup, 1) := dk_89 (dk_at dksX3_readHouse_4 4 rfl rfl)
theorem dX3_readHouse_100 : decode cX3_readHouse 100 = .ok (.getfield 132, 3) := dk_180 0 132 (dk_at dksX3_readHouse_4 5 rfl rfl)
theorem dX3_readHouse_103 : decode cX3_readHouse 103 = .ok (.iconst 1, 1) := dk_4 (dk_at dksX3_readHouse_4 8 rfl rfl)
theorem dX3_readHouse_104 : decode cX3_readHouse 104 = .ok (.iadd, 1) := dk_96 (dk_at dksX3_readHouse_4 9 rfl rfl)
theorem dX3_readHouse_105 : decode cX3_readHouse 105 = .ok (.putfield 132, 3) := dk_181 0 132 (dk_at dksX3_readHouse_4 10 rfl rfl)
theorem dX3_readHouse_108 : decode cX3_readHouse 108 = .ok (.goto (-53), 3) := dk_167 255 203 (dk_at dksX3_readHouse_4 13 rfl rfl)
theorem dX3_readHouse_111 : decode cX3_readHouse 111 = .ok (.aload_n 0, 1) := dk_42 (dk_at dksX3_readHouse_4 16 rfl rfl)
theorem dX3_readHouse_112 : decode cX3_readHouse 112 = .ok (.getfield 141, 3) := dk_180 0 141 (dk_at dksX3_readHouse_4 17 rfl rfl)
theorem dX3_readHouse_115 : decode cX3_readHouse 115 = .ok (.iconst (-1), 1) := dk_2 (dk_at dksX3_readHouse_4 20 rfl rfl)
theorem dX3_readHouse_116 : decode cX3_readHouse 116 = .ok (.if_icmp .ne 23, 3) := dk_160 0 23 (dk_at dksX3_readHouse_4 21 rfl rfl)
theorem dX3_readHouse_119 : decode cX3_readHouse 119 = .ok (.aload_n 0, 1) := dk_42 (dk_at dksX3_readHouse_5 0 rfl rfl)
theorem dX3_readHouse_120 : decode cX3_readHouse 120 = .ok (.invokevirtual 151, 3) := dk_182 0 151 (dk_at dksX3_readHouse_5 1 rfl rfl)
theorem dX3_readHouse_123 : decode cX3_readHouse 123 = .ok (.iconst (-1), 1) := dk_2 (dk_at dksX3_readHouse_5 4 rfl rfl)
theorem dX3_readHouse_124 : decode cX3_readHouse 124 = .ok (.if_icmp .ne 10, 3) := dk_160 0 10 (dk_at dksX3_readHouse_5 5 rfl rfl)
theorem dX3_readHouse_127 : decode cX3_readHouse 127 = .ok (.aload_n 0, 1) := dk_42 (dk_at dksX3_readHouse_5 8 rfl rfl)
theorem dX3_readHouse_128 : decode cX3_readHouse 128 = .ok (.invokevirtual 277, 3) := dk_182 1 21 (dk_at dksX3_readHouse_5 9 rfl rfl)
theorem dX3_readHouse_131 : decode cX3_readHouse 131 = .ok (.ifCond .ne 8, 3) := dk_154 0 8 (dk_at dksX3_readHouse_5 12 rfl rfl)
theorem dX3_readHouse_134 : decode cX3_readHouse 134 = .ok (.aload_n 0, 1) := dk_42 (dk_at dksX3_readHouse_5 15 rfl rfl)
theorem dX3_readHouse_135 : decode cX3_readHouse 135 = .ok (.invokevirtual 147, 3) := dk_182 0 147 (dk_at dksX3_readHouse_5 16 rfl rfl)
theorem dX3_readHouse_138 : decode cX3_readHouse 138 = .ok (.pop, 1) := dk_87 (dk_at dksX3_readHouse_5 19 rfl rfl)
theorem dX3_readHouse_139 : decode cX3_readHouse 139 = .ok (.return_, 1) := dk_177 (dk_at dksX3_readHouse_5 20 rfl rfl)
abbrev cX3_starts : ByteArray := prog_14_method_25_code
def yX3_starts : MethodName := ⟨RX3, "starts", "([BII)V"⟩
def dkwX3_starts_1 : List UInt8 := [181, 0, 141, 177]
abbrev dktX3_starts_1 : List UInt8 := dkwX3_starts_1 ++ []
def dkwX3_starts_0 : List UInt8 := [42, 43, 181, 0, 23, 42, 28, 181, 0, 138, 42, 29, 181, 0, 135, 42, 3, 181, 0, 132, 42, 2]
abbrev dktX3_starts_0 : List UInt8 := dkwX3_starts_0 ++ dktX3_starts_1
theorem dksX3_starts_0 : cX3_starts.data.toList.drop 0 = dktX3_starts_0 := by decide +kernel
theorem dksX3_starts_1 : cX3_starts.data.toList.drop 22 = dktX3_starts_1 := dk_seg dksX3_starts_0 22 rfl rfl
theorem dX3_starts_0 : decode cX3_starts 0 = .ok (.aload_n 0, 1) := dk_42 (dk_at dksX3_starts_0 0 rfl rfl)
theorem dX3_starts_1 : decode cX3_starts 1 = .ok (.aload_n 1, 1) := dk_43 (dk_at dksX3_starts_0 1 rfl rfl)
theorem dX3_starts_2 : decode cX3_starts 2 = .ok (.putfield 23, 3) := dk_181 0 23 (dk_at dksX3_starts_0 2 rfl rfl)
theorem dX3_starts_5 : decode cX3_starts 5 = .ok (.aload_n 0, 1) := dk_42 (dk_at dksX3_starts_0 5 rfl rfl)
theorem dX3_starts_6 : decode cX3_starts 6 = .ok (.iload_n 2, 1) := dk_28 (dk_at dksX3_starts_0 6 rfl rfl)
theorem dX3_starts_7 : decode cX3_starts 7 = .ok (.putfield 138, 3) := dk_181 0 138 (dk_at dksX3_starts_0 7 rfl rfl)
theorem dX3_starts_10 : decode cX3_starts 10 = .ok (.aload_n 0, 1) := dk_42 (dk_at dksX3_starts_0 10 rfl rfl)
theorem dX3_starts_11 : decode cX3_starts 11 = .ok (.iload_n 3, 1) := dk_29 (dk_at dksX3_starts_0 11 rfl rfl)
theorem dX3_starts_12 : decode cX3_starts 12 = .ok (.putfield 135, 3) := dk_181 0 135 (dk_at dksX3_starts_0 12 rfl rfl)
theorem dX3_starts_15 : decode cX3_starts 15 = .ok (.aload_n 0, 1) := dk_42 (dk_at dksX3_starts_0 15 rfl rfl)
theorem dX3_starts_16 : decode cX3_starts 16 = .ok (.iconst 0, 1) := dk_3 (dk_at dksX3_starts_0 16 rfl rfl)
theorem dX3_starts_17 : decode cX3_starts 17 = .ok (.putfield 132, 3) := dk_181 0 132 (dk_at dksX3_starts_0 17 rfl rfl)
theorem dX3_starts_20 : decode cX3_starts 20 = .ok (.aload_n 0, 1) := dk_42 (dk_at dksX3_starts_0 20 rfl rfl)
theorem dX3_starts_21 : decode cX3_starts 21 = .ok (.iconst (-1), 1) := dk_2 (dk_at dksX3_starts_0 21 rfl rfl)
theorem dX3_starts_22 : decode cX3_starts 22 = .ok (.putfield 141, 3) := dk_181 0 141 (dk_at dksX3_starts_1 0 rfl rfl)
theorem dX3_starts_25 : decode cX3_starts 25 = .ok (.return_, 1) := dk_177 (dk_at dksX3_starts_1 3 rfl rfl)
abbrev cX3_usual : ByteArray := prog_14_method_32_code
def yX3_usual : MethodName := ⟨RX3, "usual", "(II)I"⟩
def dkwX3_usual_4 : List UInt8 := [3, 172, 16, 12, 172, 16, 6, 172, 6, 172]
abbrev dktX3_usual_4 : List UInt8 := dkwX3_usual_4 ++ []
def dkwX3_usual_3 : List UInt8 := [170, 0, 0, 0, 41, 0, 0, 0, 0, 0, 0, 0, 4, 0, 0, 0, 33, 0, 0, 0, 41, 0, 0, 0, 35, 0, 0, 0, 41, 0, 0, 0, 38]
abbrev dktX3_usual_3 : List UInt8 := dkwX3_usual_3 ++ dktX3_usual_4
def dkwX3_usual_2 : List UInt8 := [160, 0, 7, 5, 167, 0, 4, 3, 172, 27]
abbrev dktX3_usual_2 : List UInt8 := dkwX3_usual_2 ++ dktX3_usual_3
def dkwX3_usual_1 : List UInt8 := [167, 0, 14, 27, 5, 160, 0, 8, 16, 6, 167, 0, 4, 4, 172, 26, 16, 98, 160, 0, 14, 27, 4]
abbrev dktX3_usual_1 : List UInt8 := dkwX3_usual_1 ++ dktX3_usual_2
def dkwX3_usual_0 : List UInt8 := [26, 16, 115, 160, 0, 34, 27, 154, 0, 8, 16, 40, 167, 0, 24, 27, 4, 160, 0, 8, 16, 9]
abbrev dktX3_usual_0 : List UInt8 := dkwX3_usual_0 ++ dktX3_usual_1
theorem dksX3_usual_0 : cX3_usual.data.toList.drop 0 = dktX3_usual_0 := by decide +kernel
theorem dksX3_usual_1 : cX3_usual.data.toList.drop 22 = dktX3_usual_1 := dk_seg dksX3_usual_0 22 rfl rfl
theorem dksX3_usual_2 : cX3_usual.data.toList.drop 45 = dktX3_usual_2 := dk_seg dksX3_usual_1 23 rfl rfl
theorem dksX3_usual_3 : cX3_usual.data.toList.drop 55 = dktX3_usual_3 := dk_seg dksX3_usual_2 10 rfl rfl
theorem dksX3_usual_4 : cX3_usual.data.toList.drop 88 = dktX3_usual_4 := dk_seg dksX3_usual_3 33 rfl rfl
theorem dX3_usual_0 : decode cX3_usual 0 = .ok (.iload_n 0, 1) := dk_26 (dk_at dksX3_usual_0 0 rfl rfl)
theorem dX3_usual_1 : decode cX3_usual 1 = .ok (.bipush 115, 2) := dk_16 115 (dk_at dksX3_usual_0 1 rfl rfl)
theorem dX3_usual_3 : decode cX3_usual 3 = .ok (.if_icmp .ne 34, 3) := dk_160 0 34 (dk_at dksX3_usual_0 3 rfl rfl)
theorem dX3_usual_6 : decode cX3_usual 6 = .ok (.iload_n 1, 1) := dk_27 (dk_at dksX3_usual_0 6 rfl rfl)
theorem dX3_usual_7 : decode cX3_usual 7 = .ok (.ifCond .ne 8, 3) := dk_154 0 8 (dk_at dksX3_usual_0 7 rfl rfl)
theorem dX3_usual_10 : decode cX3_usual 10 = .ok (.bipush 40, 2) := dk_16 40 (dk_at dksX3_usual_0 10 rfl rfl)
theorem dX3_usual_12 : decode cX3_usual 12 = .ok (.goto 24, 3) := dk_167 0 24 (dk_at dksX3_usual_0 12 rfl rfl)
theorem dX3_usual_15 : decode cX3_usual 15 = .ok (.iload_n 1, 1) := dk_27 (dk_at dksX3_usual_0 15 rfl rfl)
theorem dX3_usual_16 : decode cX3_usual 16 = .ok (.iconst 1, 1) := dk_4 (dk_at dksX3_usual_0 16 rfl rfl)
theorem dX3_usual_17 : decode cX3_usual 17 = .ok (.if_icmp .ne 8, 3) := dk_160 0 8 (dk_at dksX3_usual_0 17 rfl rfl)
theorem dX3_usual_20 : decode cX3_usual 20 = .ok (.bipush 9, 2) := dk_16 9 (dk_at dksX3_usual_0 20 rfl rfl)
theorem dX3_usual_22 : decode cX3_usual 22 = .ok (.goto 14, 3) := dk_167 0 14 (dk_at dksX3_usual_1 0 rfl rfl)
theorem dX3_usual_25 : decode cX3_usual 25 = .ok (.iload_n 1, 1) := dk_27 (dk_at dksX3_usual_1 3 rfl rfl)
theorem dX3_usual_26 : decode cX3_usual 26 = .ok (.iconst 2, 1) := dk_5 (dk_at dksX3_usual_1 4 rfl rfl)
theorem dX3_usual_27 : decode cX3_usual 27 = .ok (.if_icmp .ne 8, 3) := dk_160 0 8 (dk_at dksX3_usual_1 5 rfl rfl)
theorem dX3_usual_30 : decode cX3_usual 30 = .ok (.bipush 6, 2) := dk_16 6 (dk_at dksX3_usual_1 8 rfl rfl)
theorem dX3_usual_32 : decode cX3_usual 32 = .ok (.goto 4, 3) := dk_167 0 4 (dk_at dksX3_usual_1 10 rfl rfl)
theorem dX3_usual_35 : decode cX3_usual 35 = .ok (.iconst 1, 1) := dk_4 (dk_at dksX3_usual_1 13 rfl rfl)
theorem dX3_usual_36 : decode cX3_usual 36 = .ok (.ireturn, 1) := dk_172 (dk_at dksX3_usual_1 14 rfl rfl)
theorem dX3_usual_37 : decode cX3_usual 37 = .ok (.iload_n 0, 1) := dk_26 (dk_at dksX3_usual_1 15 rfl rfl)
theorem dX3_usual_38 : decode cX3_usual 38 = .ok (.bipush 98, 2) := dk_16 98 (dk_at dksX3_usual_1 16 rfl rfl)
theorem dX3_usual_40 : decode cX3_usual 40 = .ok (.if_icmp .ne 14, 3) := dk_160 0 14 (dk_at dksX3_usual_1 18 rfl rfl)
theorem dX3_usual_43 : decode cX3_usual 43 = .ok (.iload_n 1, 1) := dk_27 (dk_at dksX3_usual_1 21 rfl rfl)
theorem dX3_usual_44 : decode cX3_usual 44 = .ok (.iconst 1, 1) := dk_4 (dk_at dksX3_usual_1 22 rfl rfl)
theorem dX3_usual_45 : decode cX3_usual 45 = .ok (.if_icmp .ne 7, 3) := dk_160 0 7 (dk_at dksX3_usual_2 0 rfl rfl)
theorem dX3_usual_48 : decode cX3_usual 48 = .ok (.iconst 2, 1) := dk_5 (dk_at dksX3_usual_2 3 rfl rfl)
theorem dX3_usual_49 : decode cX3_usual 49 = .ok (.goto 4, 3) := dk_167 0 4 (dk_at dksX3_usual_2 4 rfl rfl)
theorem dX3_usual_52 : decode cX3_usual 52 = .ok (.iconst 0, 1) := dk_3 (dk_at dksX3_usual_2 7 rfl rfl)
theorem dX3_usual_53 : decode cX3_usual 53 = .ok (.ireturn, 1) := dk_172 (dk_at dksX3_usual_2 8 rfl rfl)
theorem dX3_usual_54 : decode cX3_usual 54 = .ok (.iload_n 1, 1) := dk_27 (dk_at dksX3_usual_2 9 rfl rfl)
theorem dX3_usual_55 : decode cX3_usual 55 = .ok (.tableswitch 41 0 4 #[33, 41, 35, 41, 38], 33) := by decide +kernel
theorem dX3_usual_88 : decode cX3_usual 88 = .ok (.iconst 0, 1) := dk_3 (dk_at dksX3_usual_4 0 rfl rfl)
theorem dX3_usual_89 : decode cX3_usual 89 = .ok (.ireturn, 1) := dk_172 (dk_at dksX3_usual_4 1 rfl rfl)
theorem dX3_usual_90 : decode cX3_usual 90 = .ok (.bipush 12, 2) := dk_16 12 (dk_at dksX3_usual_4 2 rfl rfl)
theorem dX3_usual_92 : decode cX3_usual 92 = .ok (.ireturn, 1) := dk_172 (dk_at dksX3_usual_4 4 rfl rfl)
theorem dX3_usual_93 : decode cX3_usual 93 = .ok (.bipush 6, 2) := dk_16 6 (dk_at dksX3_usual_4 5 rfl rfl)
theorem dX3_usual_95 : decode cX3_usual 95 = .ok (.ireturn, 1) := dk_172 (dk_at dksX3_usual_4 7 rfl rfl)
theorem dX3_usual_96 : decode cX3_usual 96 = .ok (.iconst 3, 1) := dk_6 (dk_at dksX3_usual_4 8 rfl rfl)
theorem dX3_usual_97 : decode cX3_usual 97 = .ok (.ireturn, 1) := dk_172 (dk_at dksX3_usual_4 9 rfl rfl)
abbrev cX3_readClause : ByteArray := prog_14_method_34_code
def yX3_readClause : MethodName := ⟨RX3, "readClause", "()V"⟩
def dkwX3_readClause_7 : List UInt8 := [19, 1, 16, 182, 1, 10, 177]
abbrev dktX3_readClause_7 : List UInt8 := dkwX3_readClause_7 ++ []
def dkwX3_readClause_6 : List UInt8 := [180, 1, 5, 4, 96, 181, 1, 5, 42, 27, 42, 180, 0, 49, 7, 42, 180, 1, 5, 4, 100, 104]
abbrev dktX3_readClause_6 : List UInt8 := dkwX3_readClause_6 ++ dktX3_readClause_7
def dkwX3_readClause_5 : List UInt8 := [42, 180, 0, 46, 8, 42, 180, 1, 2, 4, 100, 104, 19, 1, 14, 182, 1, 10, 167, 0, 33, 42, 89]
abbrev dktX3_readClause_5 : List UInt8 := dkwX3_readClause_5 ++ dktX3_readClause_6
def dkwX3_readClause_4 : List UInt8 := [182, 1, 10, 167, 0, 72, 27, 16, 107, 160, 0, 36, 42, 89, 180, 1, 2, 4, 96, 181, 1, 2, 42, 27]
abbrev dktX3_readClause_4 : List UInt8 := dkwX3_readClause_4 ++ dktX3_readClause_5
def dkwX3_readClause_3 : List UInt8 := [181, 0, 132, 27, 16, 115, 160, 0, 24, 42, 4, 181, 0, 255, 42, 27, 42, 180, 0, 40, 3, 19, 1, 8]
abbrev dktX3_readClause_3 : List UInt8 := dkwX3_readClause_3 ++ dktX3_readClause_4
def dkwX3_readClause_2 : List UInt8 := [4, 167, 0, 4, 3, 61, 28, 154, 0, 9, 42, 182, 0, 147, 87, 177, 42, 89, 180, 0, 132, 4, 96]
abbrev dktX3_readClause_2 : List UInt8 := dkwX3_readClause_2 ++ dktX3_readClause_3
def dkwX3_readClause_1 : List UInt8 := [42, 180, 1, 2, 16, 6, 161, 0, 18, 27, 16, 98, 160, 0, 16, 42, 180, 1, 5, 16, 8, 162, 0, 7]
abbrev dktX3_readClause_1 : List UInt8 := dkwX3_readClause_1 ++ dktX3_readClause_2
def dkwX3_readClause_0 : List UInt8 := [42, 182, 0, 151, 60, 27, 16, 115, 160, 0, 10, 42, 180, 0, 255, 153, 0, 33, 27, 16, 107, 160, 0, 12]
abbrev dktX3_readClause_0 : List UInt8 := dkwX3_readClause_0 ++ dktX3_readClause_1
theorem dksX3_readClause_0 : cX3_readClause.data.toList.drop 0 = dktX3_readClause_0 := by decide +kernel
theorem dksX3_readClause_1 : cX3_readClause.data.toList.drop 24 = dktX3_readClause_1 := dk_seg dksX3_readClause_0 24 rfl rfl
theorem dksX3_readClause_2 : cX3_readClause.data.toList.drop 48 = dktX3_readClause_2 := dk_seg dksX3_readClause_1 24 rfl rfl
theorem dksX3_readClause_3 : cX3_readClause.data.toList.drop 71 = dktX3_readClause_3 := dk_seg dksX3_readClause_2 23 rfl rfl
theorem dksX3_readClause_4 : cX3_readClause.data.toList.drop 95 = dktX3_readClause_4 := dk_seg dksX3_readClause_3 24 rfl rfl
theorem dksX3_readClause_5 : cX3_readClause.data.toList.drop 119 = dktX3_readClause_5 := dk_seg dksX3_readClause_4 24 rfl rfl
theorem dksX3_readClause_6 : cX3_readClause.data.toList.drop 142 = dktX3_readClause_6 := dk_seg dksX3_readClause_5 23 rfl rfl
theorem dksX3_readClause_7 : cX3_readClause.data.toList.drop 164 = dktX3_readClause_7 := dk_seg dksX3_readClause_6 22 rfl rfl
theorem dX3_readClause_0 : decode cX3_readClause 0 = .ok (.aload_n 0, 1) := dk_42 (dk_at dksX3_readClause_0 0 rfl rfl)
theorem dX3_readClause_1 : decode cX3_readClause 1 = .ok (.invokevirtual 151, 3) := dk_182 0 151 (dk_at dksX3_readClause_0 1 rfl rfl)
theorem dX3_readClause_4 : decode cX3_readClause 4 = .ok (.istore_n 1, 1) := dk_60 (dk_at dksX3_readClause_0 4 rfl rfl)
theorem dX3_readClause_5 : decode cX3_readClause 5 = .ok (.iload_n 1, 1) := dk_27 (dk_at dksX3_readClause_0 5 rfl rfl)
theorem dX3_readClause_6 : decode cX3_readClause 6 = .ok (.bipush 115, 2) := dk_16 115 (dk_at dksX3_readClause_0 6 rfl rfl)
theorem dX3_readClause_8 : decode cX3_readClause 8 = .ok (.if_icmp .ne 10, 3) := dk_160 0 10 (dk_at dksX3_readClause_0 8 rfl rfl)
theorem dX3_readClause_11 : decode cX3_readClause 11 = .ok (.aload_n 0, 1) := dk_42 (dk_at dksX3_readClause_0 11 rfl rfl)
theorem dX3_readClause_12 : decode cX3_readClause 12 = .ok (.getfield 255, 3) := dk_180 0 255 (dk_at dksX3_readClause_0 12 rfl rfl)
theorem dX3_readClause_15 : decode cX3_readClause 15 = .ok (.ifCond .eq 33, 3) := dk_153 0 33 (dk_at dksX3_readClause_0 15 rfl rfl)
theorem dX3_readClause_18 : decode cX3_readClause 18 = .ok (.iload_n 1, 1) := dk_27 (dk_at dksX3_readClause_0 18 rfl rfl)
theorem dX3_readClause_19 : decode cX3_readClause 19 = .ok (.bipush 107, 2) := dk_16 107 (dk_at dksX3_readClause_0 19 rfl rfl)
theorem dX3_readClause_21 : decode cX3_readClause 21 = .ok (.if_icmp .ne 12, 3) := dk_160 0 12 (dk_at dksX3_readClause_0 21 rfl rfl)
theorem dX3_readClause_24 : decode cX3_readClause 24 = .ok (.aload_n 0, 1) := dk_42 (dk_at dksX3_readClause_1 0 rfl rfl)
theorem dX3_readClause_25 : decode cX3_readClause 25 = .ok (.getfield 258, 3) := dk_180 1 2 (dk_at dksX3_readClause_1 1 rfl rfl)
theorem dX3_readClause_28 : decode cX3_readClause 28 = .ok (.bipush 6, 2) := dk_16 6 (dk_at dksX3_readClause_1 4 rfl rfl)
theorem dX3_readClause_30 : decode cX3_readClause 30 = .ok (.if_icmp .lt 18, 3) := dk_161 0 18 (dk_at dksX3_readClause_1 6 rfl rfl)
theorem dX3_readClause_33 : decode cX3_readClause 33 = .ok (.iload_n 1, 1) := dk_27 (dk_at dksX3_readClause_1 9 rfl rfl)
theorem dX3_readClause_34 : decode cX3_readClause 34 = .ok (.bipush 98, 2) := dk_16 98 (dk_at dksX3_readClause_1 10 rfl rfl)
theorem dX3_readClause_36 : decode cX3_readClause 36 = .ok (.if_icmp .ne 16, 3) := dk_160 0 16 (dk_at dksX3_readClause_1 12 rfl rfl)
theorem dX3_readClause_39 : decode cX3_readClause 39 = .ok (.aload_n 0, 1) := dk_42 (dk_at dksX3_readClause_1 15 rfl rfl)
theorem dX3_readClause_40 : decode cX3_readClause 40 = .ok (.getfield 261, 3) := dk_180 1 5 (dk_at dksX3_readClause_1 16 rfl rfl)
theorem dX3_readClause_43 : decode cX3_readClause 43 = .ok (.bipush 8, 2) := dk_16 8 (dk_at dksX3_readClause_1 19 rfl rfl)
theorem dX3_readClause_45 : decode cX3_readClause 45 = .ok (.if_icmp .ge 7, 3) := dk_162 0 7 (dk_at dksX3_readClause_1 21 rfl rfl)
theorem dX3_readClause_48 : decode cX3_readClause 48 = .ok (.iconst 1, 1) := dk_4 (dk_at dksX3_readClause_2 0 rfl rfl)
theorem dX3_readClause_49 : decode cX3_readClause 49 = .ok (.goto 4, 3) := dk_167 0 4 (dk_at dksX3_readClause_2 1 rfl rfl)
theorem dX3_readClause_52 : decode cX3_readClause 52 = .ok (.iconst 0, 1) := dk_3 (dk_at dksX3_readClause_2 4 rfl rfl)
theorem dX3_readClause_53 : decode cX3_readClause 53 = .ok (.istore_n 2, 1) := dk_61 (dk_at dksX3_readClause_2 5 rfl rfl)
theorem dX3_readClause_54 : decode cX3_readClause 54 = .ok (.iload_n 2, 1) := dk_28 (dk_at dksX3_readClause_2 6 rfl rfl)
theorem dX3_readClause_55 : decode cX3_readClause 55 = .ok (.ifCond .ne 9, 3) := dk_154 0 9 (dk_at dksX3_readClause_2 7 rfl rfl)
theorem dX3_readClause_58 : decode cX3_readClause 58 = .ok (.aload_n 0, 1) := dk_42 (dk_at dksX3_readClause_2 10 rfl rfl)
theorem dX3_readClause_59 : decode cX3_readClause 59 = .ok (.invokevirtual 147, 3) := dk_182 0 147 (dk_at dksX3_readClause_2 11 rfl rfl)
theorem dX3_readClause_62 : decode cX3_readClause 62 = .ok (.pop, 1) := dk_87 (dk_at dksX3_readClause_2 14 rfl rfl)
theorem dX3_readClause_63 : decode cX3_readClause 63 = .ok (.return_, 1) := dk_177 (dk_at dksX3_readClause_2 15 rfl rfl)
theorem dX3_readClause_64 : decode cX3_readClause 64 = .ok (.aload_n 0, 1) := dk_42 (dk_at dksX3_readClause_2 16 rfl rfl)
theorem dX3_readClause_65 : decode cX3_readClause 65 = .ok (.dup, 1) := dk_89 (dk_at dksX3_readClause_2 17 rfl rfl)
theorem dX3_readClause_66 : decode cX3_readClause 66 = .ok (.getfield 132, 3) := dk_180 0 132 (dk_at dksX3_readClause_2 18 rfl rfl)
theorem dX3_readClause_69 : decode cX3_readClause 69 = .ok (.iconst 1, 1) := dk_4 (dk_at dksX3_readClause_2 21 rfl rfl)
theorem dX3_readClause_70 : decode cX3_readClause 70 = .ok (.iadd, 1) := dk_96 (dk_at dksX3_readClause_2 22 rfl rfl)
theorem dX3_readClause_71 : decode cX3_readClause 71 = .ok (.putfield 132, 3) := dk_181 0 132 (dk_at dksX3_readClause_3 0 rfl rfl)
theorem dX3_readClause_74 : decode cX3_readClause 74 = .ok (.iload_n 1, 1) := dk_27 (dk_at dksX3_readClause_3 3 rfl rfl)
theorem dX3_readClause_75 : decode cX3_readClause 75 = .ok (.bipush 115, 2) := dk_16 115 (dk_at dksX3_readClause_3 4 rfl rfl)
theorem dX3_readClause_77 : decode cX3_readClause 77 = .ok (.if_icmp .ne 24, 3) := dk_160 0 24 (dk_at dksX3_readClause_3 6 rfl rfl)
theorem dX3_readClause_80 : decode cX3_readClause 80 = .ok (.aload_n 0, 1) := dk_42 (dk_at dksX3_readClause_3 9 rfl rfl)
theorem dX3_readClause_81 : decode cX3_readClause 81 = .ok (.iconst 1, 1) := dk_4 (dk_at dksX3_readClause_3 10 rfl rfl)
theorem dX3_readClause_82 : decode cX3_readClause 82 = .ok (.putfield 255, 3) := dk_181 0 255 (dk_at dksX3_readClause_3 11 rfl rfl)
theorem dX3_readClause_85 : decode cX3_readClause 85 = .ok (.aload_n 0, 1) := dk_42 (dk_at dksX3_readClause_3 14 rfl rfl)
theorem dX3_readClause_86 : decode cX3_readClause 86 = .ok (.iload_n 1, 1) := dk_27 (dk_at dksX3_readClause_3 15 rfl rfl)
theorem dX3_readClause_87 : decode cX3_readClause 87 = .ok (.aload_n 0, 1) := dk_42 (dk_at dksX3_readClause_3 16 rfl rfl)
theorem dX3_readClause_88 : decode cX3_readClause 88 = .ok (.getfield 40, 3) := dk_180 0 40 (dk_at dksX3_readClause_3 17 rfl rfl)
theorem dX3_readClause_91 : decode cX3_readClause 91 = .ok (.iconst 0, 1) := dk_3 (dk_at dksX3_readClause_3 20 rfl rfl)
theorem dX3_readClause_92 : decode cX3_readClause 92 = .ok (.ldc_w 264, 3) := dk_19 1 8 (dk_at dksX3_readClause_3 21 rfl rfl)
theorem dX3_readClause_95 : decode cX3_readClause 95 = .ok (.invokevirtual 266, 3) := dk_182 1 10 (dk_at dksX3_readClause_4 0 rfl rfl)
theorem dX3_readClause_98 : decode cX3_readClause 98 = .ok (.goto 72, 3) := dk_167 0 72 (dk_at dksX3_readClause_4 3 rfl rfl)
theorem dX3_readClause_101 : decode cX3_readClause 101 = .ok (.iload_n 1, 1) := dk_27 (dk_at dksX3_readClause_4 6 rfl rfl)
theorem dX3_readClause_102 : decode cX3_readClause 102 = .ok (.bipush 107, 2) := dk_16 107 (dk_at dksX3_readClause_4 7 rfl rfl)
theorem dX3_readClause_104 : decode cX3_readClause 104 = .ok (.if_icmp .ne 36, 3) := dk_160 0 36 (dk_at dksX3_readClause_4 9 rfl rfl)
theorem dX3_readClause_107 : decode cX3_readClause 107 = .ok (.aload_n 0, 1) := dk_42 (dk_at dksX3_readClause_4 12 rfl rfl)
theorem dX3_readClause_108 : decode cX3_readClause 108 = .ok (.dup, 1) := dk_89 (dk_at dksX3_readClause_4 13 rfl rfl)
theorem dX3_readClause_109 : decode cX3_readClause 109 = .ok (.getfield 258, 3) := dk_180 1 2 (dk_at dksX3_readClause_4 14 rfl rfl)
theorem dX3_readClause_112 : decode cX3_readClause 112 = .ok (.iconst 1, 1) := dk_4 (dk_at dksX3_readClause_4 17 rfl rfl)
theorem dX3_readClause_113 : decode cX3_readClause 113 = .ok (.iadd, 1) := dk_96 (dk_at dksX3_readClause_4 18 rfl rfl)
theorem dX3_readClause_114 : decode cX3_readClause 114 = .ok (.putfield 258, 3) := dk_181 1 2 (dk_at dksX3_readClause_4 19 rfl rfl)
theorem dX3_readClause_117 : decode cX3_readClause 117 = .ok (.aload_n 0, 1) := dk_42 (dk_at dksX3_readClause_4 22 rfl rfl)
theorem dX3_readClause_118 : decode cX3_readClause 118 = .ok (.iload_n 1, 1) := dk_27 (dk_at dksX3_readClause_4 23 rfl rfl)
theorem dX3_readClause_119 : decode cX3_readClause 119 = .ok (.aload_n 0, 1) := dk_42 (dk_at dksX3_readClause_5 0 rfl rfl)
theorem dX3_readClause_120 : decode cX3_readClause 120 = .ok (.getfield 46, 3) := dk_180 0 46 (dk_at dksX3_readClause_5 1 rfl rfl)
theorem dX3_readClause_123 : decode cX3_readClause 123 = .ok (.iconst 5, 1) := dk_8 (dk_at dksX3_readClause_5 4 rfl rfl)
theorem dX3_readClause_124 : decode cX3_readClause 124 = .ok (.aload_n 0, 1) := dk_42 (dk_at dksX3_readClause_5 5 rfl rfl)
theorem dX3_readClause_125 : decode cX3_readClause 125 = .ok (.getfield 258, 3) := dk_180 1 2 (dk_at dksX3_readClause_5 6 rfl rfl)
theorem dX3_readClause_128 : decode cX3_readClause 128 = .ok (.iconst 1, 1) := dk_4 (dk_at dksX3_readClause_5 9 rfl rfl)
theorem dX3_readClause_129 : decode cX3_readClause 129 = .ok (.isub, 1) := dk_100 (dk_at dksX3_readClause_5 10 rfl rfl)
theorem dX3_readClause_130 : decode cX3_readClause 130 = .ok (.imul, 1) := dk_104 (dk_at dksX3_readClause_5 11 rfl rfl)
theorem dX3_readClause_131 : decode cX3_readClause 131 = .ok (.ldc_w 270, 3) := dk_19 1 14 (dk_at dksX3_readClause_5 12 rfl rfl)
theorem dX3_readClause_134 : decode cX3_readClause 134 = .ok (.invokevirtual 266, 3) := dk_182 1 10 (dk_at dksX3_readClause_5 15 rfl rfl)
theorem dX3_readClause_137 : decode cX3_readClause 137 = .ok (.goto 33, 3) := dk_167 0 33 (dk_at dksX3_readClause_5 18 rfl rfl)
theorem dX3_readClause_140 : decode cX3_readClause 140 = .ok (.aload_n 0, 1) := dk_42 (dk_at dksX3_readClause_5 21 rfl rfl)
theorem dX3_readClause_141 : decode cX3_readClause 141 = .ok (.dup, 1) := dk_89 (dk_at dksX3_readClause_5 22 rfl rfl)
theorem dX3_readClause_142 : decode cX3_readClause 142 = .ok (.getfield 261, 3) := dk_180 1 5 (dk_at dksX3_readClause_6 0 rfl rfl)
theorem dX3_readClause_145 : decode cX3_readClause 145 = .ok (.iconst 1, 1) := dk_4 (dk_at dksX3_readClause_6 3 rfl rfl)
theorem dX3_readClause_146 : decode cX3_readClause 146 = .ok (.iadd, 1) := dk_96 (dk_at dksX3_readClause_6 4 rfl rfl)
theorem dX3_readClause_147 : decode cX3_readClause 147 = .ok (.putfield 261, 3) := dk_181 1 5 (dk_at dksX3_readClause_6 5 rfl rfl)
theorem dX3_readClause_150 : decode cX3_readClause 150 = .ok (.aload_n 0, 1) := dk_42 (dk_at dksX3_readClause_6 8 rfl rfl)
theorem dX3_readClause_151 : decode cX3_readClause 151 = .ok (.iload_n 1, 1) := dk_27 (dk_at dksX3_readClause_6 9 rfl rfl)
theorem dX3_readClause_152 : decode cX3_readClause 152 = .ok (.aload_n 0, 1) := dk_42 (dk_at dksX3_readClause_6 10 rfl rfl)
theorem dX3_readClause_153 : decode cX3_readClause 153 = .ok (.getfield 49, 3) := dk_180 0 49 (dk_at dksX3_readClause_6 11 rfl rfl)
theorem dX3_readClause_156 : decode cX3_readClause 156 = .ok (.iconst 4, 1) := dk_7 (dk_at dksX3_readClause_6 14 rfl rfl)
theorem dX3_readClause_157 : decode cX3_readClause 157 = .ok (.aload_n 0, 1) := dk_42 (dk_at dksX3_readClause_6 15 rfl rfl)
theorem dX3_readClause_158 : decode cX3_readClause 158 = .ok (.getfield 261, 3) := dk_180 1 5 (dk_at dksX3_readClause_6 16 rfl rfl)
theorem dX3_readClause_161 : decode cX3_readClause 161 = .ok (.iconst 1, 1) := dk_4 (dk_at dksX3_readClause_6 19 rfl rfl)
theorem dX3_readClause_162 : decode cX3_readClause 162 = .ok (.isub, 1) := dk_100 (dk_at dksX3_readClause_6 20 rfl rfl)
theorem dX3_readClause_163 : decode cX3_readClause 163 = .ok (.imul, 1) := dk_104 (dk_at dksX3_readClause_6 21 rfl rfl)
theorem dX3_readClause_164 : decode cX3_readClause 164 = .ok (.ldc_w 272, 3) := dk_19 1 16 (dk_at dksX3_readClause_7 0 rfl rfl)
theorem dX3_readClause_167 : decode cX3_readClause 167 = .ok (.invokevirtual 266, 3) := dk_182 1 10 (dk_at dksX3_readClause_7 3 rfl rfl)
theorem dX3_readClause_170 : decode cX3_readClause 170 = .ok (.return_, 1) := dk_177 (dk_at dksX3_readClause_7 6 rfl rfl)
abbrev cX3_look : ByteArray := prog_14_method_10_code
def yX3_look : MethodName := ⟨RX3, "look", "()I"⟩
def dkwX3_look_3 : List UInt8 := [167, 0, 4, 2, 172]
abbrev dktX3_look_3 : List UInt8 := dkwX3_look_3 ++ []
def dkwX3_look_2 : List UInt8 := [180, 0, 135, 162, 0, 24, 42, 180, 0, 23, 42, 180, 0, 138, 42, 180, 0, 132, 96, 51, 17, 0, 255, 126]
abbrev dktX3_look_2 : List UInt8 := dkwX3_look_2 ++ dktX3_look_3
def dkwX3_look_1 : List UInt8 := [51, 16, 32, 160, 0, 16, 42, 89, 180, 0, 132, 4, 96, 181, 0, 132, 167, 255, 216, 42, 180, 0, 132, 42]
abbrev dktX3_look_1 : List UInt8 := dkwX3_look_1 ++ dktX3_look_2
def dkwX3_look_0 : List UInt8 := [42, 180, 0, 132, 42, 180, 0, 135, 162, 0, 35, 42, 180, 0, 23, 42, 180, 0, 138, 42, 180, 0, 132, 96]
abbrev dktX3_look_0 : List UInt8 := dkwX3_look_0 ++ dktX3_look_1
theorem dksX3_look_0 : cX3_look.data.toList.drop 0 = dktX3_look_0 := by decide +kernel
theorem dksX3_look_1 : cX3_look.data.toList.drop 24 = dktX3_look_1 := dk_seg dksX3_look_0 24 rfl rfl
theorem dksX3_look_2 : cX3_look.data.toList.drop 48 = dktX3_look_2 := dk_seg dksX3_look_1 24 rfl rfl
theorem dksX3_look_3 : cX3_look.data.toList.drop 72 = dktX3_look_3 := dk_seg dksX3_look_2 24 rfl rfl
theorem dX3_look_0 : decode cX3_look 0 = .ok (.aload_n 0, 1) := dk_42 (dk_at dksX3_look_0 0 rfl rfl)
theorem dX3_look_1 : decode cX3_look 1 = .ok (.getfield 132, 3) := dk_180 0 132 (dk_at dksX3_look_0 1 rfl rfl)
theorem dX3_look_4 : decode cX3_look 4 = .ok (.aload_n 0, 1) := dk_42 (dk_at dksX3_look_0 4 rfl rfl)
theorem dX3_look_5 : decode cX3_look 5 = .ok (.getfield 135, 3) := dk_180 0 135 (dk_at dksX3_look_0 5 rfl rfl)
theorem dX3_look_8 : decode cX3_look 8 = .ok (.if_icmp .ge 35, 3) := dk_162 0 35 (dk_at dksX3_look_0 8 rfl rfl)
theorem dX3_look_11 : decode cX3_look 11 = .ok (.aload_n 0, 1) := dk_42 (dk_at dksX3_look_0 11 rfl rfl)
theorem dX3_look_12 : decode cX3_look 12 = .ok (.getfield 23, 3) := dk_180 0 23 (dk_at dksX3_look_0 12 rfl rfl)
theorem dX3_look_15 : decode cX3_look 15 = .ok (.aload_n 0, 1) := dk_42 (dk_at dksX3_look_0 15 rfl rfl)
theorem dX3_look_16 : decode cX3_look 16 = .ok (.getfield 138, 3) := dk_180 0 138 (dk_at dksX3_look_0 16 rfl rfl)
theorem dX3_look_19 : decode cX3_look 19 = .ok (.aload_n 0, 1) := dk_42 (dk_at dksX3_look_0 19 rfl rfl)
theorem dX3_look_20 : decode cX3_look 20 = .ok (.getfield 132, 3) := dk_180 0 132 (dk_at dksX3_look_0 20 rfl rfl)
theorem dX3_look_23 : decode cX3_look 23 = .ok (.iadd, 1) := dk_96 (dk_at dksX3_look_0 23 rfl rfl)
theorem dX3_look_24 : decode cX3_look 24 = .ok (.baload, 1) := dk_51 (dk_at dksX3_look_1 0 rfl rfl)
theorem dX3_look_25 : decode cX3_look 25 = .ok (.bipush 32, 2) := dk_16 32 (dk_at dksX3_look_1 1 rfl rfl)
theorem dX3_look_27 : decode cX3_look 27 = .ok (.if_icmp .ne 16, 3) := dk_160 0 16 (dk_at dksX3_look_1 3 rfl rfl)
theorem dX3_look_30 : decode cX3_look 30 = .ok (.aload_n 0, 1) := dk_42 (dk_at dksX3_look_1 6 rfl rfl)
theorem dX3_look_31 : decode cX3_look 31 = .ok (.dup, 1) := dk_89 (dk_at dksX3_look_1 7 rfl rfl)
theorem dX3_look_32 : decode cX3_look 32 = .ok (.getfield 132, 3) := dk_180 0 132 (dk_at dksX3_look_1 8 rfl rfl)
theorem dX3_look_35 : decode cX3_look 35 = .ok (.iconst 1, 1) := dk_4 (dk_at dksX3_look_1 11 rfl rfl)
theorem dX3_look_36 : decode cX3_look 36 = .ok (.iadd, 1) := dk_96 (dk_at dksX3_look_1 12 rfl rfl)
theorem dX3_look_37 : decode cX3_look 37 = .ok (.putfield 132, 3) := dk_181 0 132 (dk_at dksX3_look_1 13 rfl rfl)
theorem dX3_look_40 : decode cX3_look 40 = .ok (.goto (-40), 3) := dk_167 255 216 (dk_at dksX3_look_1 16 rfl rfl)
theorem dX3_look_43 : decode cX3_look 43 = .ok (.aload_n 0, 1) := dk_42 (dk_at dksX3_look_1 19 rfl rfl)
theorem dX3_look_44 : decode cX3_look 44 = .ok (.getfield 132, 3) := dk_180 0 132 (dk_at dksX3_look_1 20 rfl rfl)
theorem dX3_look_47 : decode cX3_look 47 = .ok (.aload_n 0, 1) := dk_42 (dk_at dksX3_look_1 23 rfl rfl)
theorem dX3_look_48 : decode cX3_look 48 = .ok (.getfield 135, 3) := dk_180 0 135 (dk_at dksX3_look_2 0 rfl rfl)
theorem dX3_look_51 : decode cX3_look 51 = .ok (.if_icmp .ge 24, 3) := dk_162 0 24 (dk_at dksX3_look_2 3 rfl rfl)
theorem dX3_look_54 : decode cX3_look 54 = .ok (.aload_n 0, 1) := dk_42 (dk_at dksX3_look_2 6 rfl rfl)
theorem dX3_look_55 : decode cX3_look 55 = .ok (.getfield 23, 3) := dk_180 0 23 (dk_at dksX3_look_2 7 rfl rfl)
theorem dX3_look_58 : decode cX3_look 58 = .ok (.aload_n 0, 1) := dk_42 (dk_at dksX3_look_2 10 rfl rfl)
theorem dX3_look_59 : decode cX3_look 59 = .ok (.getfield 138, 3) := dk_180 0 138 (dk_at dksX3_look_2 11 rfl rfl)
theorem dX3_look_62 : decode cX3_look 62 = .ok (.aload_n 0, 1) := dk_42 (dk_at dksX3_look_2 14 rfl rfl)
theorem dX3_look_63 : decode cX3_look 63 = .ok (.getfield 132, 3) := dk_180 0 132 (dk_at dksX3_look_2 15 rfl rfl)
theorem dX3_look_66 : decode cX3_look 66 = .ok (.iadd, 1) := dk_96 (dk_at dksX3_look_2 18 rfl rfl)
theorem dX3_look_67 : decode cX3_look 67 = .ok (.baload, 1) := dk_51 (dk_at dksX3_look_2 19 rfl rfl)
theorem dX3_look_68 : decode cX3_look 68 = .ok (.sipush 255, 3) := dk_17 0 255 (dk_at dksX3_look_2 20 rfl rfl)
theorem dX3_look_71 : decode cX3_look 71 = .ok (.iand, 1) := dk_126 (dk_at dksX3_look_2 23 rfl rfl)
theorem dX3_look_72 : decode cX3_look 72 = .ok (.goto 4, 3) := dk_167 0 4 (dk_at dksX3_look_3 0 rfl rfl)
theorem dX3_look_75 : decode cX3_look 75 = .ok (.iconst (-1), 1) := dk_2 (dk_at dksX3_look_3 3 rfl rfl)
theorem dX3_look_76 : decode cX3_look 76 = .ok (.ireturn, 1) := dk_172 (dk_at dksX3_look_3 4 rfl rfl)
abbrev cX3_fails : ByteArray := prog_14_method_11_code
def yX3_fails : MethodName := ⟨RX3, "fails", "()Z"⟩
def dkwX3_fails_0 : List UInt8 := [42, 180, 0, 141, 2, 160, 0, 11, 42, 42, 180, 0, 132, 181, 0, 141, 3, 172]
abbrev dktX3_fails_0 : List UInt8 := dkwX3_fails_0 ++ []
theorem dksX3_fails_0 : cX3_fails.data.toList.drop 0 = dktX3_fails_0 := by decide +kernel
theorem dX3_fails_0 : decode cX3_fails 0 = .ok (.aload_n 0, 1) := dk_42 (dk_at dksX3_fails_0 0 rfl rfl)
theorem dX3_fails_1 : decode cX3_fails 1 = .ok (.getfield 141, 3) := dk_180 0 141 (dk_at dksX3_fails_0 1 rfl rfl)
theorem dX3_fails_4 : decode cX3_fails 4 = .ok (.iconst (-1), 1) := dk_2 (dk_at dksX3_fails_0 4 rfl rfl)
theorem dX3_fails_5 : decode cX3_fails 5 = .ok (.if_icmp .ne 11, 3) := dk_160 0 11 (dk_at dksX3_fails_0 5 rfl rfl)
theorem dX3_fails_8 : decode cX3_fails 8 = .ok (.aload_n 0, 1) := dk_42 (dk_at dksX3_fails_0 8 rfl rfl)
theorem dX3_fails_9 : decode cX3_fails 9 = .ok (.aload_n 0, 1) := dk_42 (dk_at dksX3_fails_0 9 rfl rfl)
theorem dX3_fails_10 : decode cX3_fails 10 = .ok (.getfield 132, 3) := dk_180 0 132 (dk_at dksX3_fails_0 10 rfl rfl)
theorem dX3_fails_13 : decode cX3_fails 13 = .ok (.putfield 141, 3) := dk_181 0 141 (dk_at dksX3_fails_0 13 rfl rfl)
theorem dX3_fails_16 : decode cX3_fails 16 = .ok (.iconst 0, 1) := dk_3 (dk_at dksX3_fails_0 16 rfl rfl)
theorem dX3_fails_17 : decode cX3_fails 17 = .ok (.ireturn, 1) := dk_172 (dk_at dksX3_fails_0 17 rfl rfl)
abbrev cX3_readItems : ByteArray := prog_14_method_33_code
def yX3_readItems : MethodName := ⟨RX3, "readItems", "(I[IILjava/lang/String;)V"⟩
def dkwX3_readItems_5 : List UInt8 := [180, 0, 141, 2, 160, 255, 180, 25, 4, 42, 182, 0, 151, 184, 0, 238, 54, 6, 167, 255, 166, 177]
abbrev dktX3_readItems_5 : List UInt8 := dkwX3_readItems_5 ++ []
def dkwX3_readItems_4 : List UInt8 := [44, 29, 21, 6, 96, 42, 27, 21, 6, 184, 0, 246, 27, 21, 6, 184, 0, 249, 182, 0, 252, 79, 42]
abbrev dktX3_readItems_4 : List UInt8 := dkwX3_readItems_4 ++ dktX3_readItems_5
def dkwX3_readItems_3 : List UInt8 := [182, 0, 147, 87, 177, 21, 5, 4, 21, 6, 120, 128, 54, 5, 42, 89, 180, 0, 132, 4, 96, 181, 0, 132]
abbrev dktX3_readItems_3 : List UInt8 := dkwX3_readItems_3 ++ dktX3_readItems_4
def dkwX3_readItems_2 : List UInt8 := [159, 0, 90, 42, 180, 0, 141, 2, 160, 0, 82, 21, 5, 21, 6, 184, 0, 242, 153, 0, 9, 42]
abbrev dktX3_readItems_2 : List UInt8 := dkwX3_readItems_2 ++ dktX3_readItems_3
def dkwX3_readItems_1 : List UInt8 := [79, 132, 5, 1, 167, 255, 231, 3, 54, 5, 25, 4, 42, 182, 0, 151, 184, 0, 238, 54, 6, 21, 6, 2]
abbrev dktX3_readItems_1 : List UInt8 := dkwX3_readItems_1 ++ dktX3_readItems_2
def dkwX3_readItems_0 : List UInt8 := [3, 54, 5, 21, 5, 25, 4, 182, 0, 112, 162, 0, 21, 44, 29, 21, 5, 96, 27, 21, 5, 184, 0, 234]
abbrev dktX3_readItems_0 : List UInt8 := dkwX3_readItems_0 ++ dktX3_readItems_1
theorem dksX3_readItems_0 : cX3_readItems.data.toList.drop 0 = dktX3_readItems_0 := by decide +kernel
theorem dksX3_readItems_1 : cX3_readItems.data.toList.drop 24 = dktX3_readItems_1 := dk_seg dksX3_readItems_0 24 rfl rfl
theorem dksX3_readItems_2 : cX3_readItems.data.toList.drop 48 = dktX3_readItems_2 := dk_seg dksX3_readItems_1 24 rfl rfl
theorem dksX3_readItems_3 : cX3_readItems.data.toList.drop 70 = dktX3_readItems_3 := dk_seg dksX3_readItems_2 22 rfl rfl
theorem dksX3_readItems_4 : cX3_readItems.data.toList.drop 94 = dktX3_readItems_4 := dk_seg dksX3_readItems_3 24 rfl rfl
theorem dksX3_readItems_5 : cX3_readItems.data.toList.drop 117 = dktX3_readItems_5 := dk_seg dksX3_readItems_4 23 rfl rfl
theorem dX3_readItems_0 : decode cX3_readItems 0 = .ok (.iconst 0, 1) := dk_3 (dk_at dksX3_readItems_0 0 rfl rfl)
theorem dX3_readItems_1 : decode cX3_readItems 1 = .ok (.istore 5, 2) := dk_54 5 (dk_at dksX3_readItems_0 1 rfl rfl)
theorem dX3_readItems_3 : decode cX3_readItems 3 = .ok (.iload 5, 2) := dk_21 5 (dk_at dksX3_readItems_0 3 rfl rfl)
theorem dX3_readItems_5 : decode cX3_readItems 5 = .ok (.aload 4, 2) := dk_25 4 (dk_at dksX3_readItems_0 5 rfl rfl)
theorem dX3_readItems_7 : decode cX3_readItems 7 = .ok (.invokevirtual 112, 3) := dk_182 0 112 (dk_at dksX3_readItems_0 7 rfl rfl)
theorem dX3_readItems_10 : decode cX3_readItems 10 = .ok (.if_icmp .ge 21, 3) := dk_162 0 21 (dk_at dksX3_readItems_0 10 rfl rfl)
theorem dX3_readItems_13 : decode cX3_readItems 13 = .ok (.aload_n 2, 1) := dk_44 (dk_at dksX3_readItems_0 13 rfl rfl)
theorem dX3_readItems_14 : decode cX3_readItems 14 = .ok (.iload_n 3, 1) := dk_29 (dk_at dksX3_readItems_0 14 rfl rfl)
theorem dX3_readItems_15 : decode cX3_readItems 15 = .ok (.iload 5, 2) := dk_21 5 (dk_at dksX3_readItems_0 15 rfl rfl)
theorem dX3_readItems_17 : decode cX3_readItems 17 = .ok (.iadd, 1) := dk_96 (dk_at dksX3_readItems_0 17 rfl rfl)
theorem dX3_readItems_18 : decode cX3_readItems 18 = .ok (.iload_n 1, 1) := dk_27 (dk_at dksX3_readItems_0 18 rfl rfl)
theorem dX3_readItems_19 : decode cX3_readItems 19 = .ok (.iload 5, 2) := dk_21 5 (dk_at dksX3_readItems_0 19 rfl rfl)
theorem dX3_readItems_21 : decode cX3_readItems 21 = .ok (.invokestatic 234, 3) := dk_184 0 234 (dk_at dksX3_readItems_0 21 rfl rfl)
theorem dX3_readItems_24 : decode cX3_readItems 24 = .ok (.iastore, 1) := dk_79 (dk_at dksX3_readItems_1 0 rfl rfl)
theorem dX3_readItems_25 : decode cX3_readItems 25 = .ok (.iinc 5 1, 3) := dk_132 5 1 (dk_at dksX3_readItems_1 1 rfl rfl)
theorem dX3_readItems_28 : decode cX3_readItems 28 = .ok (.goto (-25), 3) := dk_167 255 231 (dk_at dksX3_readItems_1 4 rfl rfl)
theorem dX3_readItems_31 : decode cX3_readItems 31 = .ok (.iconst 0, 1) := dk_3 (dk_at dksX3_readItems_1 7 rfl rfl)
theorem dX3_readItems_32 : decode cX3_readItems 32 = .ok (.istore 5, 2) := dk_54 5 (dk_at dksX3_readItems_1 8 rfl rfl)
theorem dX3_readItems_34 : decode cX3_readItems 34 = .ok (.aload 4, 2) := dk_25 4 (dk_at dksX3_readItems_1 10 rfl rfl)
theorem dX3_readItems_36 : decode cX3_readItems 36 = .ok (.aload_n 0, 1) := dk_42 (dk_at dksX3_readItems_1 12 rfl rfl)
theorem dX3_readItems_37 : decode cX3_readItems 37 = .ok (.invokevirtual 151, 3) := dk_182 0 151 (dk_at dksX3_readItems_1 13 rfl rfl)
theorem dX3_readItems_40 : decode cX3_readItems 40 = .ok (.invokestatic 238, 3) := dk_184 0 238 (dk_at dksX3_readItems_1 16 rfl rfl)
theorem dX3_readItems_43 : decode cX3_readItems 43 = .ok (.istore 6, 2) := dk_54 6 (dk_at dksX3_readItems_1 19 rfl rfl)
theorem dX3_readItems_45 : decode cX3_readItems 45 = .ok (.iload 6, 2) := dk_21 6 (dk_at dksX3_readItems_1 21 rfl rfl)
theorem dX3_readItems_47 : decode cX3_readItems 47 = .ok (.iconst (-1), 1) := dk_2 (dk_at dksX3_readItems_1 23 rfl rfl)
theorem dX3_readItems_48 : decode cX3_readItems 48 = .ok (.if_icmp .eq 90, 3) := dk_159 0 90 (dk_at dksX3_readItems_2 0 rfl rfl)
theorem dX3_readItems_51 : decode cX3_readItems 51 = .ok (.aload_n 0, 1) := dk_42 (dk_at dksX3_readItems_2 3 rfl rfl)
theorem dX3_readItems_52 : decode cX3_readItems 52 = .ok (.getfield 141, 3) := dk_180 0 141 (dk_at dksX3_readItems_2 4 rfl rfl)
theorem dX3_readItems_55 : decode cX3_readItems 55 = .ok (.iconst (-1), 1) := dk_2 (dk_at dksX3_readItems_2 7 rfl rfl)
theorem dX3_readItems_56 : decode cX3_readItems 56 = .ok (.if_icmp .ne 82, 3) := dk_160 0 82 (dk_at dksX3_readItems_2 8 rfl rfl)
theorem dX3_readItems_59 : decode cX3_readItems 59 = .ok (.iload 5, 2) := dk_21 5 (dk_at dksX3_readItems_2 11 rfl rfl)
theorem dX3_readItems_61 : decode cX3_readItems 61 = .ok (.iload 6, 2) := dk_21 6 (dk_at dksX3_readItems_2 13 rfl rfl)
theorem dX3_readItems_63 : decode cX3_readItems 63 = .ok (.invokestatic 242, 3) := dk_184 0 242 (dk_at dksX3_readItems_2 15 rfl rfl)
theorem dX3_readItems_66 : decode cX3_readItems 66 = .ok (.ifCond .eq 9, 3) := dk_153 0 9 (dk_at dksX3_readItems_2 18 rfl rfl)
theorem dX3_readItems_69 : decode cX3_readItems 69 = .ok (.aload_n 0, 1) := dk_42 (dk_at dksX3_readItems_2 21 rfl rfl)
theorem dX3_readItems_70 : decode cX3_readItems 70 = .ok (.invokevirtual 147, 3) := dk_182 0 147 (dk_at dksX3_readItems_3 0 rfl rfl)
theorem dX3_readItems_73 : decode cX3_readItems 73 = .ok (.pop, 1) := dk_87 (dk_at dksX3_readItems_3 3 rfl rfl)
theorem dX3_readItems_74 : decode cX3_readItems 74 = .ok (.return_, 1) := dk_177 (dk_at dksX3_readItems_3 4 rfl rfl)
theorem dX3_readItems_75 : decode cX3_readItems 75 = .ok (.iload 5, 2) := dk_21 5 (dk_at dksX3_readItems_3 5 rfl rfl)
theorem dX3_readItems_77 : decode cX3_readItems 77 = .ok (.iconst 1, 1) := dk_4 (dk_at dksX3_readItems_3 7 rfl rfl)
theorem dX3_readItems_78 : decode cX3_readItems 78 = .ok (.iload 6, 2) := dk_21 6 (dk_at dksX3_readItems_3 8 rfl rfl)
theorem dX3_readItems_80 : decode cX3_readItems 80 = .ok (.ishl, 1) := dk_120 (dk_at dksX3_readItems_3 10 rfl rfl)
theorem dX3_readItems_81 : decode cX3_readItems 81 = .ok (.ior, 1) := dk_128 (dk_at dksX3_readItems_3 11 rfl rfl)
theorem dX3_readItems_82 : decode cX3_readItems 82 = .ok (.istore 5, 2) := dk_54 5 (dk_at dksX3_readItems_3 12 rfl rfl)
theorem dX3_readItems_84 : decode cX3_readItems 84 = .ok (.aload_n 0, 1) := dk_42 (dk_at dksX3_readItems_3 14 rfl rfl)
theorem dX3_readItems_85 : decode cX3_readItems 85 = .ok (.dup, 1) := dk_89 (dk_at dksX3_readItems_3 15 rfl rfl)
theorem dX3_readItems_86 : decode cX3_readItems 86 = .ok (.getfield 132, 3) := dk_180 0 132 (dk_at dksX3_readItems_3 16 rfl rfl)
theorem dX3_readItems_89 : decode cX3_readItems 89 = .ok (.iconst 1, 1) := dk_4 (dk_at dksX3_readItems_3 19 rfl rfl)
theorem dX3_readItems_90 : decode cX3_readItems 90 = .ok (.iadd, 1) := dk_96 (dk_at dksX3_readItems_3 20 rfl rfl)
theorem dX3_readItems_91 : decode cX3_readItems 91 = .ok (.putfield 132, 3) := dk_181 0 132 (dk_at dksX3_readItems_3 21 rfl rfl)
theorem dX3_readItems_94 : decode cX3_readItems 94 = .ok (.aload_n 2, 1) := dk_44 (dk_at dksX3_readItems_4 0 rfl rfl)
theorem dX3_readItems_95 : decode cX3_readItems 95 = .ok (.iload_n 3, 1) := dk_29 (dk_at dksX3_readItems_4 1 rfl rfl)
theorem dX3_readItems_96 : decode cX3_readItems 96 = .ok (.iload 6, 2) := dk_21 6 (dk_at dksX3_readItems_4 2 rfl rfl)
theorem dX3_readItems_98 : decode cX3_readItems 98 = .ok (.iadd, 1) := dk_96 (dk_at dksX3_readItems_4 4 rfl rfl)
theorem dX3_readItems_99 : decode cX3_readItems 99 = .ok (.aload_n 0, 1) := dk_42 (dk_at dksX3_readItems_4 5 rfl rfl)
theorem dX3_readItems_100 : decode cX3_readItems 100 = .ok (.iload_n 1, 1) := dk_27 (dk_at dksX3_readItems_4 6 rfl rfl)
theorem dX3_readItems_101 : decode cX3_readItems 101 = .ok (.iload 6, 2) := dk_21 6 (dk_at dksX3_readItems_4 7 rfl rfl)
theorem dX3_readItems_103 : decode cX3_readItems 103 = .ok (.invokestatic 246, 3) := dk_184 0 246 (dk_at dksX3_readItems_4 9 rfl rfl)
theorem dX3_readItems_106 : decode cX3_readItems 106 = .ok (.iload_n 1, 1) := dk_27 (dk_at dksX3_readItems_4 12 rfl rfl)
theorem dX3_readItems_107 : decode cX3_readItems 107 = .ok (.iload 6, 2) := dk_21 6 (dk_at dksX3_readItems_4 13 rfl rfl)
theorem dX3_readItems_109 : decode cX3_readItems 109 = .ok (.invokestatic 249, 3) := dk_184 0 249 (dk_at dksX3_readItems_4 15 rfl rfl)
theorem dX3_readItems_112 : decode cX3_readItems 112 = .ok (.invokevirtual 252, 3) := dk_182 0 252 (dk_at dksX3_readItems_4 18 rfl rfl)
theorem dX3_readItems_115 : decode cX3_readItems 115 = .ok (.iastore, 1) := dk_79 (dk_at dksX3_readItems_4 21 rfl rfl)
theorem dX3_readItems_116 : decode cX3_readItems 116 = .ok (.aload_n 0, 1) := dk_42 (dk_at dksX3_readItems_4 22 rfl rfl)
theorem dX3_readItems_117 : decode cX3_readItems 117 = .ok (.getfield 141, 3) := dk_180 0 141 (dk_at dksX3_readItems_5 0 rfl rfl)
theorem dX3_readItems_120 : decode cX3_readItems 120 = .ok (.iconst (-1), 1) := dk_2 (dk_at dksX3_readItems_5 3 rfl rfl)
theorem dX3_readItems_121 : decode cX3_readItems 121 = .ok (.if_icmp .ne (-76), 3) := dk_160 255 180 (dk_at dksX3_readItems_5 4 rfl rfl)
theorem dX3_readItems_124 : decode cX3_readItems 124 = .ok (.aload 4, 2) := dk_25 4 (dk_at dksX3_readItems_5 7 rfl rfl)
theorem dX3_readItems_126 : decode cX3_readItems 126 = .ok (.aload_n 0, 1) := dk_42 (dk_at dksX3_readItems_5 9 rfl rfl)
theorem dX3_readItems_127 : decode cX3_readItems 127 = .ok (.invokevirtual 151, 3) := dk_182 0 151 (dk_at dksX3_readItems_5 10 rfl rfl)
theorem dX3_readItems_130 : decode cX3_readItems 130 = .ok (.invokestatic 238, 3) := dk_184 0 238 (dk_at dksX3_readItems_5 13 rfl rfl)
theorem dX3_readItems_133 : decode cX3_readItems 133 = .ok (.istore 6, 2) := dk_54 6 (dk_at dksX3_readItems_5 16 rfl rfl)
theorem dX3_readItems_135 : decode cX3_readItems 135 = .ok (.goto (-90), 3) := dk_167 255 166 (dk_at dksX3_readItems_5 18 rfl rfl)
theorem dX3_readItems_138 : decode cX3_readItems 138 = .ok (.return_, 1) := dk_177 (dk_at dksX3_readItems_5 21 rfl rfl)
abbrev cX3_spotOf : ByteArray := prog_14_method_28_code
def yX3_spotOf : MethodName := ⟨RX3, "spotOf", "(Ljava/lang/String;I)I"⟩
def dkwX3_spotOf_1 : List UInt8 := [167, 255, 234, 2, 172]
abbrev dktX3_spotOf_1 : List UInt8 := dkwX3_spotOf_1 ++ []
def dkwX3_spotOf_0 : List UInt8 := [3, 61, 28, 42, 182, 0, 112, 162, 0, 20, 42, 28, 182, 0, 118, 27, 160, 0, 5, 28, 172, 132, 2, 1]
abbrev dktX3_spotOf_0 : List UInt8 := dkwX3_spotOf_0 ++ dktX3_spotOf_1
theorem dksX3_spotOf_0 : cX3_spotOf.data.toList.drop 0 = dktX3_spotOf_0 := by decide +kernel
theorem dksX3_spotOf_1 : cX3_spotOf.data.toList.drop 24 = dktX3_spotOf_1 := dk_seg dksX3_spotOf_0 24 rfl rfl
theorem dX3_spotOf_0 : decode cX3_spotOf 0 = .ok (.iconst 0, 1) := dk_3 (dk_at dksX3_spotOf_0 0 rfl rfl)
theorem dX3_spotOf_1 : decode cX3_spotOf 1 = .ok (.istore_n 2, 1) := dk_61 (dk_at dksX3_spotOf_0 1 rfl rfl)
theorem dX3_spotOf_2 : decode cX3_spotOf 2 = .ok (.iload_n 2, 1) := dk_28 (dk_at dksX3_spotOf_0 2 rfl rfl)
theorem dX3_spotOf_3 : decode cX3_spotOf 3 = .ok (.aload_n 0, 1) := dk_42 (dk_at dksX3_spotOf_0 3 rfl rfl)
theorem dX3_spotOf_4 : decode cX3_spotOf 4 = .ok (.invokevirtual 112, 3) := dk_182 0 112 (dk_at dksX3_spotOf_0 4 rfl rfl)
theorem dX3_spotOf_7 : decode cX3_spotOf 7 = .ok (.if_icmp .ge 20, 3) := dk_162 0 20 (dk_at dksX3_spotOf_0 7 rfl rfl)
theorem dX3_spotOf_10 : decode cX3_spotOf 10 = .ok (.aload_n 0, 1) := dk_42 (dk_at dksX3_spotOf_0 10 rfl rfl)
theorem dX3_spotOf_11 : decode cX3_spotOf 11 = .ok (.iload_n 2, 1) := dk_28 (dk_at dksX3_spotOf_0 11 rfl rfl)
theorem dX3_spotOf_12 : decode cX3_spotOf 12 = .ok (.invokevirtual 118, 3) := dk_182 0 118 (dk_at dksX3_spotOf_0 12 rfl rfl)
theorem dX3_spotOf_15 : decode cX3_spotOf 15 = .ok (.iload_n 1, 1) := dk_27 (dk_at dksX3_spotOf_0 15 rfl rfl)
theorem dX3_spotOf_16 : decode cX3_spotOf 16 = .ok (.if_icmp .ne 5, 3) := dk_160 0 5 (dk_at dksX3_spotOf_0 16 rfl rfl)
theorem dX3_spotOf_19 : decode cX3_spotOf 19 = .ok (.iload_n 2, 1) := dk_28 (dk_at dksX3_spotOf_0 19 rfl rfl)
theorem dX3_spotOf_20 : decode cX3_spotOf 20 = .ok (.ireturn, 1) := dk_172 (dk_at dksX3_spotOf_0 20 rfl rfl)
theorem dX3_spotOf_21 : decode cX3_spotOf 21 = .ok (.iinc 2 1, 3) := dk_132 2 1 (dk_at dksX3_spotOf_0 21 rfl rfl)
theorem dX3_spotOf_24 : decode cX3_spotOf 24 = .ok (.goto (-22), 3) := dk_167 255 234 (dk_at dksX3_spotOf_1 0 rfl rfl)
theorem dX3_spotOf_27 : decode cX3_spotOf 27 = .ok (.iconst (-1), 1) := dk_2 (dk_at dksX3_spotOf_1 3 rfl rfl)
theorem dX3_spotOf_28 : decode cX3_spotOf 28 = .ok (.ireturn, 1) := dk_172 (dk_at dksX3_spotOf_1 4 rfl rfl)
abbrev cX3_has : ByteArray := prog_14_method_4_code
def yX3_has : MethodName := ⟨RX3, "has", "(II)Z"⟩
def dkwX3_has_0 : List UInt8 := [26, 27, 122, 4, 126, 4, 160, 0, 7, 4, 167, 0, 4, 3, 172]
abbrev dktX3_has_0 : List UInt8 := dkwX3_has_0 ++ []
theorem dksX3_has_0 : cX3_has.data.toList.drop 0 = dktX3_has_0 := by decide +kernel
theorem dX3_has_0 : decode cX3_has 0 = .ok (.iload_n 0, 1) := dk_26 (dk_at dksX3_has_0 0 rfl rfl)
theorem dX3_has_1 : decode cX3_has 1 = .ok (.iload_n 1, 1) := dk_27 (dk_at dksX3_has_0 1 rfl rfl)
theorem dX3_has_2 : decode cX3_has 2 = .ok (.ishr, 1) := dk_122 (dk_at dksX3_has_0 2 rfl rfl)
theorem dX3_has_3 : decode cX3_has 3 = .ok (.iconst 1, 1) := dk_4 (dk_at dksX3_has_0 3 rfl rfl)
theorem dX3_has_4 : decode cX3_has 4 = .ok (.iand, 1) := dk_126 (dk_at dksX3_has_0 4 rfl rfl)
theorem dX3_has_5 : decode cX3_has 5 = .ok (.iconst 1, 1) := dk_4 (dk_at dksX3_has_0 5 rfl rfl)
theorem dX3_has_6 : decode cX3_has 6 = .ok (.if_icmp .ne 7, 3) := dk_160 0 7 (dk_at dksX3_has_0 6 rfl rfl)
theorem dX3_has_9 : decode cX3_has 9 = .ok (.iconst 1, 1) := dk_4 (dk_at dksX3_has_0 9 rfl rfl)
theorem dX3_has_10 : decode cX3_has 10 = .ok (.goto 4, 3) := dk_167 0 4 (dk_at dksX3_has_0 10 rfl rfl)
theorem dX3_has_13 : decode cX3_has 13 = .ok (.iconst 0, 1) := dk_3 (dk_at dksX3_has_0 13 rfl rfl)
theorem dX3_has_14 : decode cX3_has 14 = .ok (.ireturn, 1) := dk_172 (dk_at dksX3_has_0 14 rfl rfl)
abbrev cX3_leastOf : ByteArray := prog_14_method_31_code
def yX3_leastOf : MethodName := ⟨RX3, "leastOf", "(II)I"⟩
def dkwX3_leastOf_1 : List UInt8 := [159, 0, 14, 26, 16, 107, 160, 0, 12, 27, 5, 160, 0, 7, 4, 167, 0, 4, 3, 172]
abbrev dktX3_leastOf_1 : List UInt8 := dkwX3_leastOf_1 ++ []
def dkwX3_leastOf_0 : List UInt8 := [26, 16, 115, 160, 0, 18, 27, 153, 0, 8, 27, 5, 160, 0, 7, 4, 167, 0, 4, 3, 172, 27, 4]
abbrev dktX3_leastOf_0 : List UInt8 := dkwX3_leastOf_0 ++ dktX3_leastOf_1
theorem dksX3_leastOf_0 : cX3_leastOf.data.toList.drop 0 = dktX3_leastOf_0 := by decide +kernel
theorem dksX3_leastOf_1 : cX3_leastOf.data.toList.drop 23 = dktX3_leastOf_1 := dk_seg dksX3_leastOf_0 23 rfl rfl
theorem dX3_leastOf_0 : decode cX3_leastOf 0 = .ok (.iload_n 0, 1) := dk_26 (dk_at dksX3_leastOf_0 0 rfl rfl)
theorem dX3_leastOf_1 : decode cX3_leastOf 1 = .ok (.bipush 115, 2) := dk_16 115 (dk_at dksX3_leastOf_0 1 rfl rfl)
theorem dX3_leastOf_3 : decode cX3_leastOf 3 = .ok (.if_icmp .ne 18, 3) := dk_160 0 18 (dk_at dksX3_leastOf_0 3 rfl rfl)
theorem dX3_leastOf_6 : decode cX3_leastOf 6 = .ok (.iload_n 1, 1) := dk_27 (dk_at dksX3_leastOf_0 6 rfl rfl)
theorem dX3_leastOf_7 : decode cX3_leastOf 7 = .ok (.ifCond .eq 8, 3) := dk_153 0 8 (dk_at dksX3_leastOf_0 7 rfl rfl)
theorem dX3_leastOf_10 : decode cX3_leastOf 10 = .ok (.iload_n 1, 1) := dk_27 (dk_at dksX3_leastOf_0 10 rfl rfl)
theorem dX3_leastOf_11 : decode cX3_leastOf 11 = .ok (.iconst 2, 1) := dk_5 (dk_at dksX3_leastOf_0 11 rfl rfl)
theorem dX3_leastOf_12 : decode cX3_leastOf 12 = .ok (.if_icmp .ne 7, 3) := dk_160 0 7 (dk_at dksX3_leastOf_0 12 rfl rfl)
theorem dX3_leastOf_15 : decode cX3_leastOf 15 = .ok (.iconst 1, 1) := dk_4 (dk_at dksX3_leastOf_0 15 rfl rfl)
theorem dX3_leastOf_16 : decode cX3_leastOf 16 = .ok (.goto 4, 3) := dk_167 0 4 (dk_at dksX3_leastOf_0 16 rfl rfl)
theorem dX3_leastOf_19 : decode cX3_leastOf 19 = .ok (.iconst 0, 1) := dk_3 (dk_at dksX3_leastOf_0 19 rfl rfl)
theorem dX3_leastOf_20 : decode cX3_leastOf 20 = .ok (.ireturn, 1) := dk_172 (dk_at dksX3_leastOf_0 20 rfl rfl)
theorem dX3_leastOf_21 : decode cX3_leastOf 21 = .ok (.iload_n 1, 1) := dk_27 (dk_at dksX3_leastOf_0 21 rfl rfl)
theorem dX3_leastOf_22 : decode cX3_leastOf 22 = .ok (.iconst 1, 1) := dk_4 (dk_at dksX3_leastOf_0 22 rfl rfl)
theorem dX3_leastOf_23 : decode cX3_leastOf 23 = .ok (.if_icmp .eq 14, 3) := dk_159 0 14 (dk_at dksX3_leastOf_1 0 rfl rfl)
theorem dX3_leastOf_26 : decode cX3_leastOf 26 = .ok (.iload_n 0, 1) := dk_26 (dk_at dksX3_leastOf_1 3 rfl rfl)
theorem dX3_leastOf_27 : decode cX3_leastOf 27 = .ok (.bipush 107, 2) := dk_16 107 (dk_at dksX3_leastOf_1 4 rfl rfl)
theorem dX3_leastOf_29 : decode cX3_leastOf 29 = .ok (.if_icmp .ne 12, 3) := dk_160 0 12 (dk_at dksX3_leastOf_1 6 rfl rfl)
theorem dX3_leastOf_32 : decode cX3_leastOf 32 = .ok (.iload_n 1, 1) := dk_27 (dk_at dksX3_leastOf_1 9 rfl rfl)
theorem dX3_leastOf_33 : decode cX3_leastOf 33 = .ok (.iconst 2, 1) := dk_5 (dk_at dksX3_leastOf_1 10 rfl rfl)
theorem dX3_leastOf_34 : decode cX3_leastOf 34 = .ok (.if_icmp .ne 7, 3) := dk_160 0 7 (dk_at dksX3_leastOf_1 11 rfl rfl)
theorem dX3_leastOf_37 : decode cX3_leastOf 37 = .ok (.iconst 1, 1) := dk_4 (dk_at dksX3_leastOf_1 14 rfl rfl)
theorem dX3_leastOf_38 : decode cX3_leastOf 38 = .ok (.goto 4, 3) := dk_167 0 4 (dk_at dksX3_leastOf_1 15 rfl rfl)
theorem dX3_leastOf_41 : decode cX3_leastOf 41 = .ok (.iconst 0, 1) := dk_3 (dk_at dksX3_leastOf_1 18 rfl rfl)
theorem dX3_leastOf_42 : decode cX3_leastOf 42 = .ok (.ireturn, 1) := dk_172 (dk_at dksX3_leastOf_1 19 rfl rfl)
abbrev cX3_mostOf : ByteArray := prog_14_method_30_code
def yX3_mostOf : MethodName := ⟨RX3, "mostOf", "(II)I"⟩
def dkwX3_mostOf_4 : List UInt8 := [16, 9, 172]
abbrev dktX3_mostOf_4 : List UInt8 := dkwX3_mostOf_4 ++ []
def dkwX3_mostOf_3 : List UInt8 := [8, 167, 0, 25, 27, 5, 160, 0, 8, 16, 36, 167, 0, 15, 27, 7, 160, 0, 8, 16, 6, 167, 0, 5]
abbrev dktX3_mostOf_3 : List UInt8 := dkwX3_mostOf_3 ++ dktX3_mostOf_4
def dkwX3_mostOf_2 : List UInt8 := [160, 0, 8, 16, 9, 167, 0, 14, 27, 5, 160, 0, 8, 16, 99, 167, 0, 4, 4, 172, 27, 154, 0, 7]
abbrev dktX3_mostOf_2 : List UInt8 := dkwX3_mostOf_2 ++ dktX3_mostOf_3
def dkwX3_mostOf_1 : List UInt8 := [167, 0, 5, 16, 99, 172, 26, 16, 98, 160, 0, 33, 27, 154, 0, 7, 8, 167, 0, 24, 27, 4]
abbrev dktX3_mostOf_1 : List UInt8 := dkwX3_mostOf_1 ++ dktX3_mostOf_2
def dkwX3_mostOf_0 : List UInt8 := [26, 16, 115, 160, 0, 25, 27, 4, 160, 0, 8, 16, 24, 167, 0, 14, 27, 6, 160, 0, 7, 8]
abbrev dktX3_mostOf_0 : List UInt8 := dkwX3_mostOf_0 ++ dktX3_mostOf_1
theorem dksX3_mostOf_0 : cX3_mostOf.data.toList.drop 0 = dktX3_mostOf_0 := by decide +kernel
theorem dksX3_mostOf_1 : cX3_mostOf.data.toList.drop 22 = dktX3_mostOf_1 := dk_seg dksX3_mostOf_0 22 rfl rfl
theorem dksX3_mostOf_2 : cX3_mostOf.data.toList.drop 44 = dktX3_mostOf_2 := dk_seg dksX3_mostOf_1 22 rfl rfl
theorem dksX3_mostOf_3 : cX3_mostOf.data.toList.drop 68 = dktX3_mostOf_3 := dk_seg dksX3_mostOf_2 24 rfl rfl
theorem dksX3_mostOf_4 : cX3_mostOf.data.toList.drop 92 = dktX3_mostOf_4 := dk_seg dksX3_mostOf_3 24 rfl rfl
theorem dX3_mostOf_0 : decode cX3_mostOf 0 = .ok (.iload_n 0, 1) := dk_26 (dk_at dksX3_mostOf_0 0 rfl rfl)
theorem dX3_mostOf_1 : decode cX3_mostOf 1 = .ok (.bipush 115, 2) := dk_16 115 (dk_at dksX3_mostOf_0 1 rfl rfl)
theorem dX3_mostOf_3 : decode cX3_mostOf 3 = .ok (.if_icmp .ne 25, 3) := dk_160 0 25 (dk_at dksX3_mostOf_0 3 rfl rfl)
theorem dX3_mostOf_6 : decode cX3_mostOf 6 = .ok (.iload_n 1, 1) := dk_27 (dk_at dksX3_mostOf_0 6 rfl rfl)
theorem dX3_mostOf_7 : decode cX3_mostOf 7 = .ok (.iconst 1, 1) := dk_4 (dk_at dksX3_mostOf_0 7 rfl rfl)
theorem dX3_mostOf_8 : decode cX3_mostOf 8 = .ok (.if_icmp .ne 8, 3) := dk_160 0 8 (dk_at dksX3_mostOf_0 8 rfl rfl)
theorem dX3_mostOf_11 : decode cX3_mostOf 11 = .ok (.bipush 24, 2) := dk_16 24 (dk_at dksX3_mostOf_0 11 rfl rfl)
theorem dX3_mostOf_13 : decode cX3_mostOf 13 = .ok (.goto 14, 3) := dk_167 0 14 (dk_at dksX3_mostOf_0 13 rfl rfl)
theorem dX3_mostOf_16 : decode cX3_mostOf 16 = .ok (.iload_n 1, 1) := dk_27 (dk_at dksX3_mostOf_0 16 rfl rfl)
theorem dX3_mostOf_17 : decode cX3_mostOf 17 = .ok (.iconst 3, 1) := dk_6 (dk_at dksX3_mostOf_0 17 rfl rfl)
theorem dX3_mostOf_18 : decode cX3_mostOf 18 = .ok (.if_icmp .ne 7, 3) := dk_160 0 7 (dk_at dksX3_mostOf_0 18 rfl rfl)
theorem dX3_mostOf_21 : decode cX3_mostOf 21 = .ok (.iconst 5, 1) := dk_8 (dk_at dksX3_mostOf_0 21 rfl rfl)
theorem dX3_mostOf_22 : decode cX3_mostOf 22 = .ok (.goto 5, 3) := dk_167 0 5 (dk_at dksX3_mostOf_1 0 rfl rfl)
theorem dX3_mostOf_25 : decode cX3_mostOf 25 = .ok (.bipush 99, 2) := dk_16 99 (dk_at dksX3_mostOf_1 3 rfl rfl)
theorem dX3_mostOf_27 : decode cX3_mostOf 27 = .ok (.ireturn, 1) := dk_172 (dk_at dksX3_mostOf_1 5 rfl rfl)
theorem dX3_mostOf_28 : decode cX3_mostOf 28 = .ok (.iload_n 0, 1) := dk_26 (dk_at dksX3_mostOf_1 6 rfl rfl)
theorem dX3_mostOf_29 : decode cX3_mostOf 29 = .ok (.bipush 98, 2) := dk_16 98 (dk_at dksX3_mostOf_1 7 rfl rfl)
theorem dX3_mostOf_31 : decode cX3_mostOf 31 = .ok (.if_icmp .ne 33, 3) := dk_160 0 33 (dk_at dksX3_mostOf_1 9 rfl rfl)
theorem dX3_mostOf_34 : decode cX3_mostOf 34 = .ok (.iload_n 1, 1) := dk_27 (dk_at dksX3_mostOf_1 12 rfl rfl)
theorem dX3_mostOf_35 : decode cX3_mostOf 35 = .ok (.ifCond .ne 7, 3) := dk_154 0 7 (dk_at dksX3_mostOf_1 13 rfl rfl)
theorem dX3_mostOf_38 : decode cX3_mostOf 38 = .ok (.iconst 5, 1) := dk_8 (dk_at dksX3_mostOf_1 16 rfl rfl)
theorem dX3_mostOf_39 : decode cX3_mostOf 39 = .ok (.goto 24, 3) := dk_167 0 24 (dk_at dksX3_mostOf_1 17 rfl rfl)
theorem dX3_mostOf_42 : decode cX3_mostOf 42 = .ok (.iload_n 1, 1) := dk_27 (dk_at dksX3_mostOf_1 20 rfl rfl)
theorem dX3_mostOf_43 : decode cX3_mostOf 43 = .ok (.iconst 1, 1) := dk_4 (dk_at dksX3_mostOf_1 21 rfl rfl)
theorem dX3_mostOf_44 : decode cX3_mostOf 44 = .ok (.if_icmp .ne 8, 3) := dk_160 0 8 (dk_at dksX3_mostOf_2 0 rfl rfl)
theorem dX3_mostOf_47 : decode cX3_mostOf 47 = .ok (.bipush 9, 2) := dk_16 9 (dk_at dksX3_mostOf_2 3 rfl rfl)
theorem dX3_mostOf_49 : decode cX3_mostOf 49 = .ok (.goto 14, 3) := dk_167 0 14 (dk_at dksX3_mostOf_2 5 rfl rfl)
theorem dX3_mostOf_52 : decode cX3_mostOf 52 = .ok (.iload_n 1, 1) := dk_27 (dk_at dksX3_mostOf_2 8 rfl rfl)
theorem dX3_mostOf_53 : decode cX3_mostOf 53 = .ok (.iconst 2, 1) := dk_5 (dk_at dksX3_mostOf_2 9 rfl rfl)
theorem dX3_mostOf_54 : decode cX3_mostOf 54 = .ok (.if_icmp .ne 8, 3) := dk_160 0 8 (dk_at dksX3_mostOf_2 10 rfl rfl)
theorem dX3_mostOf_57 : decode cX3_mostOf 57 = .ok (.bipush 99, 2) := dk_16 99 (dk_at dksX3_mostOf_2 13 rfl rfl)
theorem dX3_mostOf_59 : decode cX3_mostOf 59 = .ok (.goto 4, 3) := dk_167 0 4 (dk_at dksX3_mostOf_2 15 rfl rfl)
theorem dX3_mostOf_62 : decode cX3_mostOf 62 = .ok (.iconst 1, 1) := dk_4 (dk_at dksX3_mostOf_2 18 rfl rfl)
theorem dX3_mostOf_63 : decode cX3_mostOf 63 = .ok (.ireturn, 1) := dk_172 (dk_at dksX3_mostOf_2 19 rfl rfl)
theorem dX3_mostOf_64 : decode cX3_mostOf 64 = .ok (.iload_n 1, 1) := dk_27 (dk_at dksX3_mostOf_2 20 rfl rfl)
theorem dX3_mostOf_65 : decode cX3_mostOf 65 = .ok (.ifCond .ne 7, 3) := dk_154 0 7 (dk_at dksX3_mostOf_2 21 rfl rfl)
theorem dX3_mostOf_68 : decode cX3_mostOf 68 = .ok (.iconst 5, 1) := dk_8 (dk_at dksX3_mostOf_3 0 rfl rfl)
theorem dX3_mostOf_69 : decode cX3_mostOf 69 = .ok (.goto 25, 3) := dk_167 0 25 (dk_at dksX3_mostOf_3 1 rfl rfl)
theorem dX3_mostOf_72 : decode cX3_mostOf 72 = .ok (.iload_n 1, 1) := dk_27 (dk_at dksX3_mostOf_3 4 rfl rfl)
theorem dX3_mostOf_73 : decode cX3_mostOf 73 = .ok (.iconst 2, 1) := dk_5 (dk_at dksX3_mostOf_3 5 rfl rfl)
theorem dX3_mostOf_74 : decode cX3_mostOf 74 = .ok (.if_icmp .ne 8, 3) := dk_160 0 8 (dk_at dksX3_mostOf_3 6 rfl rfl)
theorem dX3_mostOf_77 : decode cX3_mostOf 77 = .ok (.bipush 36, 2) := dk_16 36 (dk_at dksX3_mostOf_3 9 rfl rfl)
theorem dX3_mostOf_79 : decode cX3_mostOf 79 = .ok (.goto 15, 3) := dk_167 0 15 (dk_at dksX3_mostOf_3 11 rfl rfl)
theorem dX3_mostOf_82 : decode cX3_mostOf 82 = .ok (.iload_n 1, 1) := dk_27 (dk_at dksX3_mostOf_3 14 rfl rfl)
theorem dX3_mostOf_83 : decode cX3_mostOf 83 = .ok (.iconst 4, 1) := dk_7 (dk_at dksX3_mostOf_3 15 rfl rfl)
theorem dX3_mostOf_84 : decode cX3_mostOf 84 = .ok (.if_icmp .ne 8, 3) := dk_160 0 8 (dk_at dksX3_mostOf_3 16 rfl rfl)
theorem dX3_mostOf_87 : decode cX3_mostOf 87 = .ok (.bipush 6, 2) := dk_16 6 (dk_at dksX3_mostOf_3 19 rfl rfl)
theorem dX3_mostOf_89 : decode cX3_mostOf 89 = .ok (.goto 5, 3) := dk_167 0 5 (dk_at dksX3_mostOf_3 21 rfl rfl)
theorem dX3_mostOf_92 : decode cX3_mostOf 92 = .ok (.bipush 9, 2) := dk_16 9 (dk_at dksX3_mostOf_4 0 rfl rfl)
theorem dX3_mostOf_94 : decode cX3_mostOf 94 = .ok (.ireturn, 1) := dk_172 (dk_at dksX3_mostOf_4 2 rfl rfl)
abbrev cX3_number : ByteArray := prog_14_method_29_code
def yX3_number : MethodName := ⟨RX3, "number", "(II)I"⟩
def dkwX3_number_4 : List UInt8 := [89, 180, 0, 132, 4, 100, 181, 0, 132, 42, 182, 0, 147, 87, 21, 4, 172]
abbrev dktX3_number_4 : List UInt8 := dkwX3_number_4 ++ []
def dkwX3_number_3 : List UInt8 := [153, 0, 10, 42, 182, 0, 147, 87, 3, 172, 21, 4, 133, 27, 133, 28, 133, 184, 0, 230, 154, 0, 18, 42]
abbrev dktX3_number_3 : List UInt8 := dkwX3_number_3 ++ dktX3_number_4
def dkwX3_number_2 : List UInt8 := [42, 182, 0, 227, 96, 16, 48, 100, 54, 4, 42, 89, 180, 0, 132, 4, 96, 181, 0, 132, 42, 182, 0, 181]
abbrev dktX3_number_2 : List UInt8 := dkwX3_number_2 ++ dktX3_number_3
def dkwX3_number_1 : List UInt8 := [54, 4, 42, 89, 180, 0, 132, 4, 96, 181, 0, 132, 42, 182, 0, 181, 153, 0, 28, 16, 10, 21, 4, 104]
abbrev dktX3_number_1 : List UInt8 := dkwX3_number_1 ++ dktX3_number_2
def dkwX3_number_0 : List UInt8 := [42, 182, 0, 151, 62, 42, 182, 0, 181, 154, 0, 10, 42, 182, 0, 147, 87, 3, 172, 29, 16, 48, 100]
abbrev dktX3_number_0 : List UInt8 := dkwX3_number_0 ++ dktX3_number_1
theorem dksX3_number_0 : cX3_number.data.toList.drop 0 = dktX3_number_0 := by decide +kernel
theorem dksX3_number_1 : cX3_number.data.toList.drop 23 = dktX3_number_1 := dk_seg dksX3_number_0 23 rfl rfl
theorem dksX3_number_2 : cX3_number.data.toList.drop 47 = dktX3_number_2 := dk_seg dksX3_number_1 24 rfl rfl
theorem dksX3_number_3 : cX3_number.data.toList.drop 71 = dktX3_number_3 := dk_seg dksX3_number_2 24 rfl rfl
theorem dksX3_number_4 : cX3_number.data.toList.drop 95 = dktX3_number_4 := dk_seg dksX3_number_3 24 rfl rfl
theorem dX3_number_0 : decode cX3_number 0 = .ok (.aload_n 0, 1) := dk_42 (dk_at dksX3_number_0 0 rfl rfl)
theorem dX3_number_1 : decode cX3_number 1 = .ok (.invokevirtual 151, 3) := dk_182 0 151 (dk_at dksX3_number_0 1 rfl rfl)
theorem dX3_number_4 : decode cX3_number 4 = .ok (.istore_n 3, 1) := dk_62 (dk_at dksX3_number_0 4 rfl rfl)
theorem dX3_number_5 : decode cX3_number 5 = .ok (.aload_n 0, 1) := dk_42 (dk_at dksX3_number_0 5 rfl rfl)
theorem dX3_number_6 : decode cX3_number 6 = .ok (.invokevirtual 181, 3) := dk_182 0 181 (dk_at dksX3_number_0 6 rfl rfl)
theorem dX3_number_9 : decode cX3_number 9 = .ok (.ifCond .ne 10, 3) := dk_154 0 10 (dk_at dksX3_number_0 9 rfl rfl)
theorem dX3_number_12 : decode cX3_number 12 = .ok (.aload_n 0, 1) := dk_42 (dk_at dksX3_number_0 12 rfl rfl)
theorem dX3_number_13 : decode cX3_number 13 = .ok (.invokevirtual 147, 3) := dk_182 0 147 (dk_at dksX3_number_0 13 rfl rfl)
theorem dX3_number_16 : decode cX3_number 16 = .ok (.pop, 1) := dk_87 (dk_at dksX3_number_0 16 rfl rfl)
theorem dX3_number_17 : decode cX3_number 17 = .ok (.iconst 0, 1) := dk_3 (dk_at dksX3_number_0 17 rfl rfl)
theorem dX3_number_18 : decode cX3_number 18 = .ok (.ireturn, 1) := dk_172 (dk_at dksX3_number_0 18 rfl rfl)
theorem dX3_number_19 : decode cX3_number 19 = .ok (.iload_n 3, 1) := dk_29 (dk_at dksX3_number_0 19 rfl rfl)
theorem dX3_number_20 : decode cX3_number 20 = .ok (.bipush 48, 2) := dk_16 48 (dk_at dksX3_number_0 20 rfl rfl)
theorem dX3_number_22 : decode cX3_number 22 = .ok (.isub, 1) := dk_100 (dk_at dksX3_number_0 22 rfl rfl)
theorem dX3_number_23 : decode cX3_number 23 = .ok (.istore 4, 2) := dk_54 4 (dk_at dksX3_number_1 0 rfl rfl)
theorem dX3_number_25 : decode cX3_number 25 = .ok (.aload_n 0, 1) := dk_42 (dk_at dksX3_number_1 2 rfl rfl)
theorem dX3_number_26 : decode cX3_number 26 = .ok (.dup, 1) := dk_89 (dk_at dksX3_number_1 3 rfl rfl)
theorem dX3_number_27 : decode cX3_number 27 = .ok (.getfield 132, 3) := dk_180 0 132 (dk_at dksX3_number_1 4 rfl rfl)
theorem dX3_number_30 : decode cX3_number 30 = .ok (.iconst 1, 1) := dk_4 (dk_at dksX3_number_1 7 rfl rfl)
theorem dX3_number_31 : decode cX3_number 31 = .ok (.iadd, 1) := dk_96 (dk_at dksX3_number_1 8 rfl rfl)
theorem dX3_number_32 : decode cX3_number 32 = .ok (.putfield 132, 3) := dk_181 0 132 (dk_at dksX3_number_1 9 rfl rfl)
theorem dX3_number_35 : decode cX3_number 35 = .ok (.aload_n 0, 1) := dk_42 (dk_at dksX3_number_1 12 rfl rfl)
theorem dX3_number_36 : decode cX3_number 36 = .ok (.invokevirtual 181, 3) := dk_182 0 181 (dk_at dksX3_number_1 13 rfl rfl)
theorem dX3_number_39 : decode cX3_number 39 = .ok (.ifCond .eq 28, 3) := dk_153 0 28 (dk_at dksX3_number_1 16 rfl rfl)
theorem dX3_number_42 : decode cX3_number 42 = .ok (.bipush 10, 2) := dk_16 10 (dk_at dksX3_number_1 19 rfl rfl)
theorem dX3_number_44 : decode cX3_number 44 = .ok (.iload 4, 2) := dk_21 4 (dk_at dksX3_number_1 21 rfl rfl)
theorem dX3_number_46 : decode cX3_number 46 = .ok (.imul, 1) := dk_104 (dk_at dksX3_number_1 23 rfl rfl)
theorem dX3_number_47 : decode cX3_number 47 = .ok (.aload_n 0, 1) := dk_42 (dk_at dksX3_number_2 0 rfl rfl)
theorem dX3_number_48 : decode cX3_number 48 = .ok (.invokevirtual 227, 3) := dk_182 0 227 (dk_at dksX3_number_2 1 rfl rfl)
theorem dX3_number_51 : decode cX3_number 51 = .ok (.iadd, 1) := dk_96 (dk_at dksX3_number_2 4 rfl rfl)
theorem dX3_number_52 : decode cX3_number 52 = .ok (.bipush 48, 2) := dk_16 48 (dk_at dksX3_number_2 5 rfl rfl)
theorem dX3_number_54 : decode cX3_number 54 = .ok (.isub, 1) := dk_100 (dk_at dksX3_number_2 7 rfl rfl)
theorem dX3_number_55 : decode cX3_number 55 = .ok (.istore 4, 2) := dk_54 4 (dk_at dksX3_number_2 8 rfl rfl)
theorem dX3_number_57 : decode cX3_number 57 = .ok (.aload_n 0, 1) := dk_42 (dk_at dksX3_number_2 10 rfl rfl)
theorem dX3_number_58 : decode cX3_number 58 = .ok (.dup, 1) := dk_89 (dk_at dksX3_number_2 11 rfl rfl)
theorem dX3_number_59 : decode cX3_number 59 = .ok (.getfield 132, 3) := dk_180 0 132 (dk_at dksX3_number_2 12 rfl rfl)
theorem dX3_number_62 : decode cX3_number 62 = .ok (.iconst 1, 1) := dk_4 (dk_at dksX3_number_2 15 rfl rfl)
theorem dX3_number_63 : decode cX3_number 63 = .ok (.iadd, 1) := dk_96 (dk_at dksX3_number_2 16 rfl rfl)
theorem dX3_number_64 : decode cX3_number 64 = .ok (.putfield 132, 3) := dk_181 0 132 (dk_at dksX3_number_2 17 rfl rfl)
theorem dX3_number_67 : decode cX3_number 67 = .ok (.aload_n 0, 1) := dk_42 (dk_at dksX3_number_2 20 rfl rfl)
theorem dX3_number_68 : decode cX3_number 68 = .ok (.invokevirtual 181, 3) := dk_182 0 181 (dk_at dksX3_number_2 21 rfl rfl)
theorem dX3_number_71 : decode cX3_number 71 = .ok (.ifCond .eq 10, 3) := dk_153 0 10 (dk_at dksX3_number_3 0 rfl rfl)
theorem dX3_number_74 : decode cX3_number 74 = .ok (.aload_n 0, 1) := dk_42 (dk_at dksX3_number_3 3 rfl rfl)
theorem dX3_number_75 : decode cX3_number 75 = .ok (.invokevirtual 147, 3) := dk_182 0 147 (dk_at dksX3_number_3 4 rfl rfl)
theorem dX3_number_78 : decode cX3_number 78 = .ok (.pop, 1) := dk_87 (dk_at dksX3_number_3 7 rfl rfl)
theorem dX3_number_79 : decode cX3_number 79 = .ok (.iconst 0, 1) := dk_3 (dk_at dksX3_number_3 8 rfl rfl)
theorem dX3_number_80 : decode cX3_number 80 = .ok (.ireturn, 1) := dk_172 (dk_at dksX3_number_3 9 rfl rfl)
theorem dX3_number_81 : decode cX3_number 81 = .ok (.iload 4, 2) := dk_21 4 (dk_at dksX3_number_3 10 rfl rfl)
theorem dX3_number_83 : decode cX3_number 83 = .ok (.i2l, 1) := dk_133 (dk_at dksX3_number_3 12 rfl rfl)
theorem dX3_number_84 : decode cX3_number 84 = .ok (.iload_n 1, 1) := dk_27 (dk_at dksX3_number_3 13 rfl rfl)
theorem dX3_number_85 : decode cX3_number 85 = .ok (.i2l, 1) := dk_133 (dk_at dksX3_number_3 14 rfl rfl)
theorem dX3_number_86 : decode cX3_number 86 = .ok (.iload_n 2, 1) := dk_28 (dk_at dksX3_number_3 15 rfl rfl)
theorem dX3_number_87 : decode cX3_number 87 = .ok (.i2l, 1) := dk_133 (dk_at dksX3_number_3 16 rfl rfl)
theorem dX3_number_88 : decode cX3_number 88 = .ok (.invokestatic 230, 3) := dk_184 0 230 (dk_at dksX3_number_3 17 rfl rfl)
theorem dX3_number_91 : decode cX3_number 91 = .ok (.ifCond .ne 18, 3) := dk_154 0 18 (dk_at dksX3_number_3 20 rfl rfl)
theorem dX3_number_94 : decode cX3_number 94 = .ok (.aload_n 0, 1) := dk_42 (dk_at dksX3_number_3 23 rfl rfl)
theorem dX3_number_95 : decode cX3_number 95 = .ok (.dup, 1) := dk_89 (dk_at dksX3_number_4 0 rfl rfl)
theorem dX3_number_96 : decode cX3_number 96 = .ok (.getfield 132, 3) := dk_180 0 132 (dk_at dksX3_number_4 1 rfl rfl)
theorem dX3_number_99 : decode cX3_number 99 = .ok (.iconst 1, 1) := dk_4 (dk_at dksX3_number_4 4 rfl rfl)
theorem dX3_number_100 : decode cX3_number 100 = .ok (.isub, 1) := dk_100 (dk_at dksX3_number_4 5 rfl rfl)
theorem dX3_number_101 : decode cX3_number 101 = .ok (.putfield 132, 3) := dk_181 0 132 (dk_at dksX3_number_4 6 rfl rfl)
theorem dX3_number_104 : decode cX3_number 104 = .ok (.aload_n 0, 1) := dk_42 (dk_at dksX3_number_4 9 rfl rfl)
theorem dX3_number_105 : decode cX3_number 105 = .ok (.invokevirtual 147, 3) := dk_182 0 147 (dk_at dksX3_number_4 10 rfl rfl)
theorem dX3_number_108 : decode cX3_number 108 = .ok (.pop, 1) := dk_87 (dk_at dksX3_number_4 13 rfl rfl)
theorem dX3_number_109 : decode cX3_number 109 = .ok (.iload 4, 2) := dk_21 4 (dk_at dksX3_number_4 14 rfl rfl)
theorem dX3_number_111 : decode cX3_number 111 = .ok (.ireturn, 1) := dk_172 (dk_at dksX3_number_4 16 rfl rfl)
abbrev cX3_isDigit : ByteArray := prog_14_method_14_code
def yX3_isDigit : MethodName := ⟨RX3, "isDigit", "()Z"⟩
def dkwX3_isDigit_2 : List UInt8 := [163, 0, 7, 4, 167, 0, 4, 3, 172]
abbrev dktX3_isDigit_2 : List UInt8 := dkwX3_isDigit_2 ++ []
def dkwX3_isDigit_1 : List UInt8 := [51, 16, 48, 161, 0, 26, 42, 180, 0, 23, 42, 180, 0, 138, 42, 180, 0, 132, 96, 51, 16, 57]
abbrev dktX3_isDigit_1 : List UInt8 := dkwX3_isDigit_1 ++ dktX3_isDigit_2
def dkwX3_isDigit_0 : List UInt8 := [42, 180, 0, 132, 42, 180, 0, 135, 162, 0, 45, 42, 180, 0, 23, 42, 180, 0, 138, 42, 180, 0, 132, 96]
abbrev dktX3_isDigit_0 : List UInt8 := dkwX3_isDigit_0 ++ dktX3_isDigit_1
theorem dksX3_isDigit_0 : cX3_isDigit.data.toList.drop 0 = dktX3_isDigit_0 := by decide +kernel
theorem dksX3_isDigit_1 : cX3_isDigit.data.toList.drop 24 = dktX3_isDigit_1 := dk_seg dksX3_isDigit_0 24 rfl rfl
theorem dksX3_isDigit_2 : cX3_isDigit.data.toList.drop 46 = dktX3_isDigit_2 := dk_seg dksX3_isDigit_1 22 rfl rfl
theorem dX3_isDigit_0 : decode cX3_isDigit 0 = .ok (.aload_n 0, 1) := dk_42 (dk_at dksX3_isDigit_0 0 rfl rfl)
theorem dX3_isDigit_1 : decode cX3_isDigit 1 = .ok (.getfield 132, 3) := dk_180 0 132 (dk_at dksX3_isDigit_0 1 rfl rfl)
theorem dX3_isDigit_4 : decode cX3_isDigit 4 = .ok (.aload_n 0, 1) := dk_42 (dk_at dksX3_isDigit_0 4 rfl rfl)
theorem dX3_isDigit_5 : decode cX3_isDigit 5 = .ok (.getfield 135, 3) := dk_180 0 135 (dk_at dksX3_isDigit_0 5 rfl rfl)
theorem dX3_isDigit_8 : decode cX3_isDigit 8 = .ok (.if_icmp .ge 45, 3) := dk_162 0 45 (dk_at dksX3_isDigit_0 8 rfl rfl)
theorem dX3_isDigit_11 : decode cX3_isDigit 11 = .ok (.aload_n 0, 1) := dk_42 (dk_at dksX3_isDigit_0 11 rfl rfl)
theorem dX3_isDigit_12 : decode cX3_isDigit 12 = .ok (.getfield 23, 3) := dk_180 0 23 (dk_at dksX3_isDigit_0 12 rfl rfl)
theorem dX3_isDigit_15 : decode cX3_isDigit 15 = .ok (.aload_n 0, 1) := dk_42 (dk_at dksX3_isDigit_0 15 rfl rfl)
theorem dX3_isDigit_16 : decode cX3_isDigit 16 = .ok (.getfield 138, 3) := dk_180 0 138 (dk_at dksX3_isDigit_0 16 rfl rfl)
theorem dX3_isDigit_19 : decode cX3_isDigit 19 = .ok (.aload_n 0, 1) := dk_42 (dk_at dksX3_isDigit_0 19 rfl rfl)
theorem dX3_isDigit_20 : decode cX3_isDigit 20 = .ok (.getfield 132, 3) := dk_180 0 132 (dk_at dksX3_isDigit_0 20 rfl rfl)
theorem dX3_isDigit_23 : decode cX3_isDigit 23 = .ok (.iadd, 1) := dk_96 (dk_at dksX3_isDigit_0 23 rfl rfl)
theorem dX3_isDigit_24 : decode cX3_isDigit 24 = .ok (.baload, 1) := dk_51 (dk_at dksX3_isDigit_1 0 rfl rfl)
theorem dX3_isDigit_25 : decode cX3_isDigit 25 = .ok (.bipush 48, 2) := dk_16 48 (dk_at dksX3_isDigit_1 1 rfl rfl)
theorem dX3_isDigit_27 : decode cX3_isDigit 27 = .ok (.if_icmp .lt 26, 3) := dk_161 0 26 (dk_at dksX3_isDigit_1 3 rfl rfl)
theorem dX3_isDigit_30 : decode cX3_isDigit 30 = .ok (.aload_n 0, 1) := dk_42 (dk_at dksX3_isDigit_1 6 rfl rfl)
theorem dX3_isDigit_31 : decode cX3_isDigit 31 = .ok (.getfield 23, 3) := dk_180 0 23 (dk_at dksX3_isDigit_1 7 rfl rfl)
theorem dX3_isDigit_34 : decode cX3_isDigit 34 = .ok (.aload_n 0, 1) := dk_42 (dk_at dksX3_isDigit_1 10 rfl rfl)
theorem dX3_isDigit_35 : decode cX3_isDigit 35 = .ok (.getfield 138, 3) := dk_180 0 138 (dk_at dksX3_isDigit_1 11 rfl rfl)
theorem dX3_isDigit_38 : decode cX3_isDigit 38 = .ok (.aload_n 0, 1) := dk_42 (dk_at dksX3_isDigit_1 14 rfl rfl)
theorem dX3_isDigit_39 : decode cX3_isDigit 39 = .ok (.getfield 132, 3) := dk_180 0 132 (dk_at dksX3_isDigit_1 15 rfl rfl)
theorem dX3_isDigit_42 : decode cX3_isDigit 42 = .ok (.iadd, 1) := dk_96 (dk_at dksX3_isDigit_1 18 rfl rfl)
theorem dX3_isDigit_43 : decode cX3_isDigit 43 = .ok (.baload, 1) := dk_51 (dk_at dksX3_isDigit_1 19 rfl rfl)
theorem dX3_isDigit_44 : decode cX3_isDigit 44 = .ok (.bipush 57, 2) := dk_16 57 (dk_at dksX3_isDigit_1 20 rfl rfl)
theorem dX3_isDigit_46 : decode cX3_isDigit 46 = .ok (.if_icmp .gt 7, 3) := dk_163 0 7 (dk_at dksX3_isDigit_2 0 rfl rfl)
theorem dX3_isDigit_49 : decode cX3_isDigit 49 = .ok (.iconst 1, 1) := dk_4 (dk_at dksX3_isDigit_2 3 rfl rfl)
theorem dX3_isDigit_50 : decode cX3_isDigit 50 = .ok (.goto 4, 3) := dk_167 0 4 (dk_at dksX3_isDigit_2 4 rfl rfl)
theorem dX3_isDigit_53 : decode cX3_isDigit 53 = .ok (.iconst 0, 1) := dk_3 (dk_at dksX3_isDigit_2 7 rfl rfl)
theorem dX3_isDigit_54 : decode cX3_isDigit 54 = .ok (.ireturn, 1) := dk_172 (dk_at dksX3_isDigit_2 8 rfl rfl)
abbrev cX3_here : ByteArray := prog_14_method_27_code
def yX3_here : MethodName := ⟨RX3, "here", "()I"⟩
def dkwX3_here_1 : List UInt8 := [51, 17, 0, 255, 126, 167, 0, 4, 2, 172]
abbrev dktX3_here_1 : List UInt8 := dkwX3_here_1 ++ []
def dkwX3_here_0 : List UInt8 := [42, 180, 0, 132, 42, 180, 0, 135, 162, 0, 24, 42, 180, 0, 23, 42, 180, 0, 138, 42, 180, 0, 132, 96]
abbrev dktX3_here_0 : List UInt8 := dkwX3_here_0 ++ dktX3_here_1
theorem dksX3_here_0 : cX3_here.data.toList.drop 0 = dktX3_here_0 := by decide +kernel
theorem dksX3_here_1 : cX3_here.data.toList.drop 24 = dktX3_here_1 := dk_seg dksX3_here_0 24 rfl rfl
theorem dX3_here_0 : decode cX3_here 0 = .ok (.aload_n 0, 1) := dk_42 (dk_at dksX3_here_0 0 rfl rfl)
theorem dX3_here_1 : decode cX3_here 1 = .ok (.getfield 132, 3) := dk_180 0 132 (dk_at dksX3_here_0 1 rfl rfl)
theorem dX3_here_4 : decode cX3_here 4 = .ok (.aload_n 0, 1) := dk_42 (dk_at dksX3_here_0 4 rfl rfl)
theorem dX3_here_5 : decode cX3_here 5 = .ok (.getfield 135, 3) := dk_180 0 135 (dk_at dksX3_here_0 5 rfl rfl)
theorem dX3_here_8 : decode cX3_here 8 = .ok (.if_icmp .ge 24, 3) := dk_162 0 24 (dk_at dksX3_here_0 8 rfl rfl)
theorem dX3_here_11 : decode cX3_here 11 = .ok (.aload_n 0, 1) := dk_42 (dk_at dksX3_here_0 11 rfl rfl)
theorem dX3_here_12 : decode cX3_here 12 = .ok (.getfield 23, 3) := dk_180 0 23 (dk_at dksX3_here_0 12 rfl rfl)
theorem dX3_here_15 : decode cX3_here 15 = .ok (.aload_n 0, 1) := dk_42 (dk_at dksX3_here_0 15 rfl rfl)
theorem dX3_here_16 : decode cX3_here 16 = .ok (.getfield 138, 3) := dk_180 0 138 (dk_at dksX3_here_0 16 rfl rfl)
theorem dX3_here_19 : decode cX3_here 19 = .ok (.aload_n 0, 1) := dk_42 (dk_at dksX3_here_0 19 rfl rfl)
theorem dX3_here_20 : decode cX3_here 20 = .ok (.getfield 132, 3) := dk_180 0 132 (dk_at dksX3_here_0 20 rfl rfl)
theorem dX3_here_23 : decode cX3_here 23 = .ok (.iadd, 1) := dk_96 (dk_at dksX3_here_0 23 rfl rfl)
theorem dX3_here_24 : decode cX3_here 24 = .ok (.baload, 1) := dk_51 (dk_at dksX3_here_1 0 rfl rfl)
theorem dX3_here_25 : decode cX3_here 25 = .ok (.sipush 255, 3) := dk_17 0 255 (dk_at dksX3_here_1 1 rfl rfl)
theorem dX3_here_28 : decode cX3_here 28 = .ok (.iand, 1) := dk_126 (dk_at dksX3_here_1 4 rfl rfl)
theorem dX3_here_29 : decode cX3_here 29 = .ok (.goto 4, 3) := dk_167 0 4 (dk_at dksX3_here_1 5 rfl rfl)
theorem dX3_here_32 : decode cX3_here 32 = .ok (.iconst (-1), 1) := dk_2 (dk_at dksX3_here_1 8 rfl rfl)
theorem dX3_here_33 : decode cX3_here 33 = .ok (.ireturn, 1) := dk_172 (dk_at dksX3_here_1 9 rfl rfl)
abbrev cX3_isWhole : ByteArray := prog_14_method_35_code
def yX3_isWhole : MethodName := ⟨RX3, "isWhole", "()Z"⟩
def dkwX3_isWhole_6 : List UInt8 := [167, 0, 4, 3, 172]
abbrev dktX3_isWhole_6 : List UInt8 := dkwX3_isWhole_6 ++ []
def dkwX3_isWhole_5 : List UInt8 := [46, 96, 61, 132, 3, 1, 167, 255, 207, 27, 153, 0, 17, 28, 42, 180, 0, 40, 3, 46, 163, 0, 7, 4]
abbrev dktX3_isWhole_5 : List UInt8 := dkwX3_isWhole_5 ++ dktX3_isWhole_6
def dkwX3_isWhole_4 : List UInt8 := [46, 42, 180, 1, 2, 162, 0, 7, 4, 167, 0, 4, 3, 60, 28, 42, 180, 0, 49, 7, 29, 104, 4, 96]
abbrev dktX3_isWhole_4 : List UInt8 := dkwX3_isWhole_4 ++ dktX3_isWhole_5
def dkwX3_isWhole_3 : List UInt8 := [167, 255, 203, 3, 62, 29, 42, 180, 1, 5, 162, 0, 47, 27, 153, 0, 22, 42, 180, 0, 49, 7, 29, 104]
abbrev dktX3_isWhole_3 : List UInt8 := dkwX3_isWhole_3 ++ dktX3_isWhole_4
def dkwX3_isWhole_2 : List UInt8 := [42, 180, 0, 46, 8, 29, 104, 7, 96, 46, 16, 6, 160, 0, 7, 4, 167, 0, 4, 3, 60, 132, 3, 1]
abbrev dktX3_isWhole_2 : List UInt8 := dkwX3_isWhole_2 ++ dktX3_isWhole_3
def dkwX3_isWhole_1 : List UInt8 := [162, 0, 51, 27, 153, 0, 39, 42, 180, 0, 46, 8, 29, 104, 7, 96, 46, 42, 180, 1, 2, 161, 0, 18]
abbrev dktX3_isWhole_1 : List UInt8 := dkwX3_isWhole_1 ++ dktX3_isWhole_2
def dkwX3_isWhole_0 : List UInt8 := [42, 180, 1, 2, 158, 0, 7, 4, 167, 0, 4, 3, 60, 3, 61, 3, 62, 29, 42, 180, 1, 2]
abbrev dktX3_isWhole_0 : List UInt8 := dkwX3_isWhole_0 ++ dktX3_isWhole_1
theorem dksX3_isWhole_0 : cX3_isWhole.data.toList.drop 0 = dktX3_isWhole_0 := by decide +kernel
theorem dksX3_isWhole_1 : cX3_isWhole.data.toList.drop 22 = dktX3_isWhole_1 := dk_seg dksX3_isWhole_0 22 rfl rfl
theorem dksX3_isWhole_2 : cX3_isWhole.data.toList.drop 46 = dktX3_isWhole_2 := dk_seg dksX3_isWhole_1 24 rfl rfl
theorem dksX3_isWhole_3 : cX3_isWhole.data.toList.drop 70 = dktX3_isWhole_3 := dk_seg dksX3_isWhole_2 24 rfl rfl
theorem dksX3_isWhole_4 : cX3_isWhole.data.toList.drop 94 = dktX3_isWhole_4 := dk_seg dksX3_isWhole_3 24 rfl rfl
theorem dksX3_isWhole_5 : cX3_isWhole.data.toList.drop 118 = dktX3_isWhole_5 := dk_seg dksX3_isWhole_4 24 rfl rfl
theorem dksX3_isWhole_6 : cX3_isWhole.data.toList.drop 142 = dktX3_isWhole_6 := dk_seg dksX3_isWhole_5 24 rfl rfl
theorem dX3_isWhole_0 : decode cX3_isWhole 0 = .ok (.aload_n 0, 1) := dk_42 (dk_at dksX3_isWhole_0 0 rfl rfl)
theorem dX3_isWhole_1 : decode cX3_isWhole 1 = .ok (.getfield 258, 3) := dk_180 1 2 (dk_at dksX3_isWhole_0 1 rfl rfl)
theorem dX3_isWhole_4 : decode cX3_isWhole 4 = .ok (.ifCond .le 7, 3) := dk_158 0 7 (dk_at dksX3_isWhole_0 4 rfl rfl)
theorem dX3_isWhole_7 : decode cX3_isWhole 7 = .ok (.iconst 1, 1) := dk_4 (dk_at dksX3_isWhole_0 7 rfl rfl)
theorem dX3_isWhole_8 : decode cX3_isWhole 8 = .ok (.goto 4, 3) := dk_167 0 4 (dk_at dksX3_isWhole_0 8 rfl rfl)
theorem dX3_isWhole_11 : decode cX3_isWhole 11 = .ok (.iconst 0, 1) := dk_3 (dk_at dksX3_isWhole_0 11 rfl rfl)
theorem dX3_isWhole_12 : decode cX3_isWhole 12 = .ok (.istore_n 1, 1) := dk_60 (dk_at dksX3_isWhole_0 12 rfl rfl)
theorem dX3_isWhole_13 : decode cX3_isWhole 13 = .ok (.iconst 0, 1) := dk_3 (dk_at dksX3_isWhole_0 13 rfl rfl)
theorem dX3_isWhole_14 : decode cX3_isWhole 14 = .ok (.istore_n 2, 1) := dk_61 (dk_at dksX3_isWhole_0 14 rfl rfl)
theorem dX3_isWhole_15 : decode cX3_isWhole 15 = .ok (.iconst 0, 1) := dk_3 (dk_at dksX3_isWhole_0 15 rfl rfl)
theorem dX3_isWhole_16 : decode cX3_isWhole 16 = .ok (.istore_n 3, 1) := dk_62 (dk_at dksX3_isWhole_0 16 rfl rfl)
theorem dX3_isWhole_17 : decode cX3_isWhole 17 = .ok (.iload_n 3, 1) := dk_29 (dk_at dksX3_isWhole_0 17 rfl rfl)
theorem dX3_isWhole_18 : decode cX3_isWhole 18 = .ok (.aload_n 0, 1) := dk_42 (dk_at dksX3_isWhole_0 18 rfl rfl)
theorem dX3_isWhole_19 : decode cX3_isWhole 19 = .ok (.getfield 258, 3) := dk_180 1 2 (dk_at dksX3_isWhole_0 19 rfl rfl)
theorem dX3_isWhole_22 : decode cX3_isWhole 22 = .ok (.if_icmp .ge 51, 3) := dk_162 0 51 (dk_at dksX3_isWhole_1 0 rfl rfl)
theorem dX3_isWhole_25 : decode cX3_isWhole 25 = .ok (.iload_n 1, 1) := dk_27 (dk_at dksX3_isWhole_1 3 rfl rfl)
theorem dX3_isWhole_26 : decode cX3_isWhole 26 = .ok (.ifCond .eq 39, 3) := dk_153 0 39 (dk_at dksX3_isWhole_1 4 rfl rfl)
theorem dX3_isWhole_29 : decode cX3_isWhole 29 = .ok (.aload_n 0, 1) := dk_42 (dk_at dksX3_isWhole_1 7 rfl rfl)
theorem dX3_isWhole_30 : decode cX3_isWhole 30 = .ok (.getfield 46, 3) := dk_180 0 46 (dk_at dksX3_isWhole_1 8 rfl rfl)
theorem dX3_isWhole_33 : decode cX3_isWhole 33 = .ok (.iconst 5, 1) := dk_8 (dk_at dksX3_isWhole_1 11 rfl rfl)
theorem dX3_isWhole_34 : decode cX3_isWhole 34 = .ok (.iload_n 3, 1) := dk_29 (dk_at dksX3_isWhole_1 12 rfl rfl)
theorem dX3_isWhole_35 : decode cX3_isWhole 35 = .ok (.imul, 1) := dk_104 (dk_at dksX3_isWhole_1 13 rfl rfl)
theorem dX3_isWhole_36 : decode cX3_isWhole 36 = .ok (.iconst 4, 1) := dk_7 (dk_at dksX3_isWhole_1 14 rfl rfl)
theorem dX3_isWhole_37 : decode cX3_isWhole 37 = .ok (.iadd, 1) := dk_96 (dk_at dksX3_isWhole_1 15 rfl rfl)
theorem dX3_isWhole_38 : decode cX3_isWhole 38 = .ok (.iaload, 1) := dk_46 (dk_at dksX3_isWhole_1 16 rfl rfl)
theorem dX3_isWhole_39 : decode cX3_isWhole 39 = .ok (.aload_n 0, 1) := dk_42 (dk_at dksX3_isWhole_1 17 rfl rfl)
theorem dX3_isWhole_40 : decode cX3_isWhole 40 = .ok (.getfield 258, 3) := dk_180 1 2 (dk_at dksX3_isWhole_1 18 rfl rfl)
theorem dX3_isWhole_43 : decode cX3_isWhole 43 = .ok (.if_icmp .lt 18, 3) := dk_161 0 18 (dk_at dksX3_isWhole_1 21 rfl rfl)
theorem dX3_isWhole_46 : decode cX3_isWhole 46 = .ok (.aload_n 0, 1) := dk_42 (dk_at dksX3_isWhole_2 0 rfl rfl)
theorem dX3_isWhole_47 : decode cX3_isWhole 47 = .ok (.getfield 46, 3) := dk_180 0 46 (dk_at dksX3_isWhole_2 1 rfl rfl)
theorem dX3_isWhole_50 : decode cX3_isWhole 50 = .ok (.iconst 5, 1) := dk_8 (dk_at dksX3_isWhole_2 4 rfl rfl)
theorem dX3_isWhole_51 : decode cX3_isWhole 51 = .ok (.iload_n 3, 1) := dk_29 (dk_at dksX3_isWhole_2 5 rfl rfl)
theorem dX3_isWhole_52 : decode cX3_isWhole 52 = .ok (.imul, 1) := dk_104 (dk_at dksX3_isWhole_2 6 rfl rfl)
theorem dX3_isWhole_53 : decode cX3_isWhole 53 = .ok (.iconst 4, 1) := dk_7 (dk_at dksX3_isWhole_2 7 rfl rfl)
theorem dX3_isWhole_54 : decode cX3_isWhole 54 = .ok (.iadd, 1) := dk_96 (dk_at dksX3_isWhole_2 8 rfl rfl)
theorem dX3_isWhole_55 : decode cX3_isWhole 55 = .ok (.iaload, 1) := dk_46 (dk_at dksX3_isWhole_2 9 rfl rfl)
theorem dX3_isWhole_56 : decode cX3_isWhole 56 = .ok (.bipush 6, 2) := dk_16 6 (dk_at dksX3_isWhole_2 10 rfl rfl)
theorem dX3_isWhole_58 : decode cX3_isWhole 58 = .ok (.if_icmp .ne 7, 3) := dk_160 0 7 (dk_at dksX3_isWhole_2 12 rfl rfl)
theorem dX3_isWhole_61 : decode cX3_isWhole 61 = .ok (.iconst 1, 1) := dk_4 (dk_at dksX3_isWhole_2 15 rfl rfl)
theorem dX3_isWhole_62 : decode cX3_isWhole 62 = .ok (.goto 4, 3) := dk_167 0 4 (dk_at dksX3_isWhole_2 16 rfl rfl)
theorem dX3_isWhole_65 : decode cX3_isWhole 65 = .ok (.iconst 0, 1) := dk_3 (dk_at dksX3_isWhole_2 19 rfl rfl)
theorem dX3_isWhole_66 : decode cX3_isWhole 66 = .ok (.istore_n 1, 1) := dk_60 (dk_at dksX3_isWhole_2 20 rfl rfl)
theorem dX3_isWhole_67 : decode cX3_isWhole 67 = .ok (.iinc 3 1, 3) := dk_132 3 1 (dk_at dksX3_isWhole_2 21 rfl rfl)
theorem dX3_isWhole_70 : decode cX3_isWhole 70 = .ok (.goto (-53), 3) := dk_167 255 203 (dk_at dksX3_isWhole_3 0 rfl rfl)
theorem dX3_isWhole_73 : decode cX3_isWhole 73 = .ok (.iconst 0, 1) := dk_3 (dk_at dksX3_isWhole_3 3 rfl rfl)
theorem dX3_isWhole_74 : decode cX3_isWhole 74 = .ok (.istore_n 3, 1) := dk_62 (dk_at dksX3_isWhole_3 4 rfl rfl)
theorem dX3_isWhole_75 : decode cX3_isWhole 75 = .ok (.iload_n 3, 1) := dk_29 (dk_at dksX3_isWhole_3 5 rfl rfl)
theorem dX3_isWhole_76 : decode cX3_isWhole 76 = .ok (.aload_n 0, 1) := dk_42 (dk_at dksX3_isWhole_3 6 rfl rfl)
theorem dX3_isWhole_77 : decode cX3_isWhole 77 = .ok (.getfield 261, 3) := dk_180 1 5 (dk_at dksX3_isWhole_3 7 rfl rfl)
theorem dX3_isWhole_80 : decode cX3_isWhole 80 = .ok (.if_icmp .ge 47, 3) := dk_162 0 47 (dk_at dksX3_isWhole_3 10 rfl rfl)
theorem dX3_isWhole_83 : decode cX3_isWhole 83 = .ok (.iload_n 1, 1) := dk_27 (dk_at dksX3_isWhole_3 13 rfl rfl)
theorem dX3_isWhole_84 : decode cX3_isWhole 84 = .ok (.ifCond .eq 22, 3) := dk_153 0 22 (dk_at dksX3_isWhole_3 14 rfl rfl)
theorem dX3_isWhole_87 : decode cX3_isWhole 87 = .ok (.aload_n 0, 1) := dk_42 (dk_at dksX3_isWhole_3 17 rfl rfl)
theorem dX3_isWhole_88 : decode cX3_isWhole 88 = .ok (.getfield 49, 3) := dk_180 0 49 (dk_at dksX3_isWhole_3 18 rfl rfl)
theorem dX3_isWhole_91 : decode cX3_isWhole 91 = .ok (.iconst 4, 1) := dk_7 (dk_at dksX3_isWhole_3 21 rfl rfl)
theorem dX3_isWhole_92 : decode cX3_isWhole 92 = .ok (.iload_n 3, 1) := dk_29 (dk_at dksX3_isWhole_3 22 rfl rfl)
theorem dX3_isWhole_93 : decode cX3_isWhole 93 = .ok (.imul, 1) := dk_104 (dk_at dksX3_isWhole_3 23 rfl rfl)
theorem dX3_isWhole_94 : decode cX3_isWhole 94 = .ok (.iaload, 1) := dk_46 (dk_at dksX3_isWhole_4 0 rfl rfl)
theorem dX3_isWhole_95 : decode cX3_isWhole 95 = .ok (.aload_n 0, 1) := dk_42 (dk_at dksX3_isWhole_4 1 rfl rfl)
theorem dX3_isWhole_96 : decode cX3_isWhole 96 = .ok (.getfield 258, 3) := dk_180 1 2 (dk_at dksX3_isWhole_4 2 rfl rfl)
theorem dX3_isWhole_99 : decode cX3_isWhole 99 = .ok (.if_icmp .ge 7, 3) := dk_162 0 7 (dk_at dksX3_isWhole_4 5 rfl rfl)
theorem dX3_isWhole_102 : decode cX3_isWhole 102 = .ok (.iconst 1, 1) := dk_4 (dk_at dksX3_isWhole_4 8 rfl rfl)
theorem dX3_isWhole_103 : decode cX3_isWhole 103 = .ok (.goto 4, 3) := dk_167 0 4 (dk_at dksX3_isWhole_4 9 rfl rfl)
theorem dX3_isWhole_106 : decode cX3_isWhole 106 = .ok (.iconst 0, 1) := dk_3 (dk_at dksX3_isWhole_4 12 rfl rfl)
theorem dX3_isWhole_107 : decode cX3_isWhole 107 = .ok (.istore_n 1, 1) := dk_60 (dk_at dksX3_isWhole_4 13 rfl rfl)
theorem dX3_isWhole_108 : decode cX3_isWhole 108 = .ok (.iload_n 2, 1) := dk_28 (dk_at dksX3_isWhole_4 14 rfl rfl)
theorem dX3_isWhole_109 : decode cX3_isWhole 109 = .ok (.aload_n 0, 1) := dk_42 (dk_at dksX3_isWhole_4 15 rfl rfl)
theorem dX3_isWhole_110 : decode cX3_isWhole 110 = .ok (.getfield 49, 3) := dk_180 0 49 (dk_at dksX3_isWhole_4 16 rfl rfl)
theorem dX3_isWhole_113 : decode cX3_isWhole 113 = .ok (.iconst 4, 1) := dk_7 (dk_at dksX3_isWhole_4 19 rfl rfl)
theorem dX3_isWhole_114 : decode cX3_isWhole 114 = .ok (.iload_n 3, 1) := dk_29 (dk_at dksX3_isWhole_4 20 rfl rfl)
theorem dX3_isWhole_115 : decode cX3_isWhole 115 = .ok (.imul, 1) := dk_104 (dk_at dksX3_isWhole_4 21 rfl rfl)
theorem dX3_isWhole_116 : decode cX3_isWhole 116 = .ok (.iconst 1, 1) := dk_4 (dk_at dksX3_isWhole_4 22 rfl rfl)
theorem dX3_isWhole_117 : decode cX3_isWhole 117 = .ok (.iadd, 1) := dk_96 (dk_at dksX3_isWhole_4 23 rfl rfl)
theorem dX3_isWhole_118 : decode cX3_isWhole 118 = .ok (.iaload, 1) := dk_46 (dk_at dksX3_isWhole_5 0 rfl rfl)
theorem dX3_isWhole_119 : decode cX3_isWhole 119 = .ok (.iadd, 1) := dk_96 (dk_at dksX3_isWhole_5 1 rfl rfl)
theorem dX3_isWhole_120 : decode cX3_isWhole 120 = .ok (.istore_n 2, 1) := dk_61 (dk_at dksX3_isWhole_5 2 rfl rfl)
theorem dX3_isWhole_121 : decode cX3_isWhole 121 = .ok (.iinc 3 1, 3) := dk_132 3 1 (dk_at dksX3_isWhole_5 3 rfl rfl)
theorem dX3_isWhole_124 : decode cX3_isWhole 124 = .ok (.goto (-49), 3) := dk_167 255 207 (dk_at dksX3_isWhole_5 6 rfl rfl)
theorem dX3_isWhole_127 : decode cX3_isWhole 127 = .ok (.iload_n 1, 1) := dk_27 (dk_at dksX3_isWhole_5 9 rfl rfl)
theorem dX3_isWhole_128 : decode cX3_isWhole 128 = .ok (.ifCond .eq 17, 3) := dk_153 0 17 (dk_at dksX3_isWhole_5 10 rfl rfl)
theorem dX3_isWhole_131 : decode cX3_isWhole 131 = .ok (.iload_n 2, 1) := dk_28 (dk_at dksX3_isWhole_5 13 rfl rfl)
theorem dX3_isWhole_132 : decode cX3_isWhole 132 = .ok (.aload_n 0, 1) := dk_42 (dk_at dksX3_isWhole_5 14 rfl rfl)
theorem dX3_isWhole_133 : decode cX3_isWhole 133 = .ok (.getfield 40, 3) := dk_180 0 40 (dk_at dksX3_isWhole_5 15 rfl rfl)
theorem dX3_isWhole_136 : decode cX3_isWhole 136 = .ok (.iconst 0, 1) := dk_3 (dk_at dksX3_isWhole_5 18 rfl rfl)
theorem dX3_isWhole_137 : decode cX3_isWhole 137 = .ok (.iaload, 1) := dk_46 (dk_at dksX3_isWhole_5 19 rfl rfl)
theorem dX3_isWhole_138 : decode cX3_isWhole 138 = .ok (.if_icmp .gt 7, 3) := dk_163 0 7 (dk_at dksX3_isWhole_5 20 rfl rfl)
theorem dX3_isWhole_141 : decode cX3_isWhole 141 = .ok (.iconst 1, 1) := dk_4 (dk_at dksX3_isWhole_5 23 rfl rfl)
theorem dX3_isWhole_142 : decode cX3_isWhole 142 = .ok (.goto 4, 3) := dk_167 0 4 (dk_at dksX3_isWhole_6 0 rfl rfl)
theorem dX3_isWhole_145 : decode cX3_isWhole 145 = .ok (.iconst 0, 1) := dk_3 (dk_at dksX3_isWhole_6 3 rfl rfl)
theorem dX3_isWhole_146 : decode cX3_isWhole 146 = .ok (.ireturn, 1) := dk_172 (dk_at dksX3_isWhole_6 4 rfl rfl)
abbrev cX3_goThrough : ByteArray := prog_14_method_26_code
def yX3_goThrough : MethodName := ⟨RX3, "goThrough", "([BII)V"⟩
def dkwX3_goThrough_3 : List UInt8 := [2, 160, 0, 16, 42, 182, 0, 151, 2, 159, 0, 8, 42, 182, 0, 147, 87, 177]
abbrev dktX3_goThrough_3 : List UInt8 := dkwX3_goThrough_3 ++ []
def dkwX3_goThrough_2 : List UInt8 := [160, 0, 20, 42, 89, 180, 0, 132, 4, 96, 181, 0, 132, 42, 182, 0, 224, 167, 255, 225, 42, 180, 0, 141]
abbrev dktX3_goThrough_2 : List UInt8 := dkwX3_goThrough_2 ++ dktX3_goThrough_3
def dkwX3_goThrough_1 : List UInt8 := [3, 181, 0, 217, 42, 182, 0, 224, 42, 180, 0, 141, 2, 160, 0, 29, 42, 182, 0, 151, 16, 59]
abbrev dktX3_goThrough_1 : List UInt8 := dkwX3_goThrough_1 ++ dktX3_goThrough_2
def dkwX3_goThrough_0 : List UInt8 := [42, 43, 28, 29, 182, 0, 220, 42, 16, 121, 181, 0, 214, 42, 3, 181, 0, 144, 42, 3, 181, 0, 210, 42]
abbrev dktX3_goThrough_0 : List UInt8 := dkwX3_goThrough_0 ++ dktX3_goThrough_1
theorem dksX3_goThrough_0 : cX3_goThrough.data.toList.drop 0 = dktX3_goThrough_0 := by decide +kernel
theorem dksX3_goThrough_1 : cX3_goThrough.data.toList.drop 24 = dktX3_goThrough_1 := dk_seg dksX3_goThrough_0 24 rfl rfl
theorem dksX3_goThrough_2 : cX3_goThrough.data.toList.drop 46 = dktX3_goThrough_2 := dk_seg dksX3_goThrough_1 22 rfl rfl
theorem dksX3_goThrough_3 : cX3_goThrough.data.toList.drop 70 = dktX3_goThrough_3 := dk_seg dksX3_goThrough_2 24 rfl rfl
theorem dX3_goThrough_0 : decode cX3_goThrough 0 = .ok (.aload_n 0, 1) := dk_42 (dk_at dksX3_goThrough_0 0 rfl rfl)
theorem dX3_goThrough_1 : decode cX3_goThrough 1 = .ok (.aload_n 1, 1) := dk_43 (dk_at dksX3_goThrough_0 1 rfl rfl)
theorem dX3_goThrough_2 : decode cX3_goThrough 2 = .ok (.iload_n 2, 1) := dk_28 (dk_at dksX3_goThrough_0 2 rfl rfl)
theorem dX3_goThrough_3 : decode cX3_goThrough 3 = .ok (.iload_n 3, 1) := dk_29 (dk_at dksX3_goThrough_0 3 rfl rfl)
theorem dX3_goThrough_4 : decode cX3_goThrough 4 = .ok (.invokevirtual 220, 3) := dk_182 0 220 (dk_at dksX3_goThrough_0 4 rfl rfl)
theorem dX3_goThrough_7 : decode cX3_goThrough 7 = .ok (.aload_n 0, 1) := dk_42 (dk_at dksX3_goThrough_0 7 rfl rfl)
theorem dX3_goThrough_8 : decode cX3_goThrough 8 = .ok (.bipush 121, 2) := dk_16 121 (dk_at dksX3_goThrough_0 8 rfl rfl)
theorem dX3_goThrough_10 : decode cX3_goThrough 10 = .ok (.putfield 214, 3) := dk_181 0 214 (dk_at dksX3_goThrough_0 10 rfl rfl)
theorem dX3_goThrough_13 : decode cX3_goThrough 13 = .ok (.aload_n 0, 1) := dk_42 (dk_at dksX3_goThrough_0 13 rfl rfl)
theorem dX3_goThrough_14 : decode cX3_goThrough 14 = .ok (.iconst 0, 1) := dk_3 (dk_at dksX3_goThrough_0 14 rfl rfl)
theorem dX3_goThrough_15 : decode cX3_goThrough 15 = .ok (.putfield 144, 3) := dk_181 0 144 (dk_at dksX3_goThrough_0 15 rfl rfl)
theorem dX3_goThrough_18 : decode cX3_goThrough 18 = .ok (.aload_n 0, 1) := dk_42 (dk_at dksX3_goThrough_0 18 rfl rfl)
theorem dX3_goThrough_19 : decode cX3_goThrough 19 = .ok (.iconst 0, 1) := dk_3 (dk_at dksX3_goThrough_0 19 rfl rfl)
theorem dX3_goThrough_20 : decode cX3_goThrough 20 = .ok (.putfield 210, 3) := dk_181 0 210 (dk_at dksX3_goThrough_0 20 rfl rfl)
theorem dX3_goThrough_23 : decode cX3_goThrough 23 = .ok (.aload_n 0, 1) := dk_42 (dk_at dksX3_goThrough_0 23 rfl rfl)
theorem dX3_goThrough_24 : decode cX3_goThrough 24 = .ok (.iconst 0, 1) := dk_3 (dk_at dksX3_goThrough_1 0 rfl rfl)
theorem dX3_goThrough_25 : decode cX3_goThrough 25 = .ok (.putfield 217, 3) := dk_181 0 217 (dk_at dksX3_goThrough_1 1 rfl rfl)
theorem dX3_goThrough_28 : decode cX3_goThrough 28 = .ok (.aload_n 0, 1) := dk_42 (dk_at dksX3_goThrough_1 4 rfl rfl)
theorem dX3_goThrough_29 : decode cX3_goThrough 29 = .ok (.invokevirtual 224, 3) := dk_182 0 224 (dk_at dksX3_goThrough_1 5 rfl rfl)
theorem dX3_goThrough_32 : decode cX3_goThrough 32 = .ok (.aload_n 0, 1) := dk_42 (dk_at dksX3_goThrough_1 8 rfl rfl)
theorem dX3_goThrough_33 : decode cX3_goThrough 33 = .ok (.getfield 141, 3) := dk_180 0 141 (dk_at dksX3_goThrough_1 9 rfl rfl)
theorem dX3_goThrough_36 : decode cX3_goThrough 36 = .ok (.iconst (-1), 1) := dk_2 (dk_at dksX3_goThrough_1 12 rfl rfl)
theorem dX3_goThrough_37 : decode cX3_goThrough 37 = .ok (.if_icmp .ne 29, 3) := dk_160 0 29 (dk_at dksX3_goThrough_1 13 rfl rfl)
theorem dX3_goThrough_40 : decode cX3_goThrough 40 = .ok (.aload_n 0, 1) := dk_42 (dk_at dksX3_goThrough_1 16 rfl rfl)
theorem dX3_goThrough_41 : decode cX3_goThrough 41 = .ok (.invokevirtual 151, 3) := dk_182 0 151 (dk_at dksX3_goThrough_1 17 rfl rfl)
theorem dX3_goThrough_44 : decode cX3_goThrough 44 = .ok (.bipush 59, 2) := dk_16 59 (dk_at dksX3_goThrough_1 20 rfl rfl)
theorem dX3_goThrough_46 : decode cX3_goThrough 46 = .ok (.if_icmp .ne 20, 3) := dk_160 0 20 (dk_at dksX3_goThrough_2 0 rfl rfl)
theorem dX3_goThrough_49 : decode cX3_goThrough 49 = .ok (.aload_n 0, 1) := dk_42 (dk_at dksX3_goThrough_2 3 rfl rfl)
theorem dX3_goThrough_50 : decode cX3_goThrough 50 = .ok (.dup, 1) := dk_89 (dk_at dksX3_goThrough_2 4 rfl rfl)
theorem dX3_goThrough_51 : decode cX3_goThrough 51 = .ok (.getfield 132, 3) := dk_180 0 132 (dk_at dksX3_goThrough_2 5 rfl rfl)
theorem dX3_goThrough_54 : decode cX3_goThrough 54 = .ok (.iconst 1, 1) := dk_4 (dk_at dksX3_goThrough_2 8 rfl rfl)
theorem dX3_goThrough_55 : decode cX3_goThrough 55 = .ok (.iadd, 1) := dk_96 (dk_at dksX3_goThrough_2 9 rfl rfl)
theorem dX3_goThrough_56 : decode cX3_goThrough 56 = .ok (.putfield 132, 3) := dk_181 0 132 (dk_at dksX3_goThrough_2 10 rfl rfl)
theorem dX3_goThrough_59 : decode cX3_goThrough 59 = .ok (.aload_n 0, 1) := dk_42 (dk_at dksX3_goThrough_2 13 rfl rfl)
theorem dX3_goThrough_60 : decode cX3_goThrough 60 = .ok (.invokevirtual 224, 3) := dk_182 0 224 (dk_at dksX3_goThrough_2 14 rfl rfl)
theorem dX3_goThrough_63 : decode cX3_goThrough 63 = .ok (.goto (-31), 3) := dk_167 255 225 (dk_at dksX3_goThrough_2 17 rfl rfl)
theorem dX3_goThrough_66 : decode cX3_goThrough 66 = .ok (.aload_n 0, 1) := dk_42 (dk_at dksX3_goThrough_2 20 rfl rfl)
theorem dX3_goThrough_67 : decode cX3_goThrough 67 = .ok (.getfield 141, 3) := dk_180 0 141 (dk_at dksX3_goThrough_2 21 rfl rfl)
theorem dX3_goThrough_70 : decode cX3_goThrough 70 = .ok (.iconst (-1), 1) := dk_2 (dk_at dksX3_goThrough_3 0 rfl rfl)
theorem dX3_goThrough_71 : decode cX3_goThrough 71 = .ok (.if_icmp .ne 16, 3) := dk_160 0 16 (dk_at dksX3_goThrough_3 1 rfl rfl)
theorem dX3_goThrough_74 : decode cX3_goThrough 74 = .ok (.aload_n 0, 1) := dk_42 (dk_at dksX3_goThrough_3 4 rfl rfl)
theorem dX3_goThrough_75 : decode cX3_goThrough 75 = .ok (.invokevirtual 151, 3) := dk_182 0 151 (dk_at dksX3_goThrough_3 5 rfl rfl)
theorem dX3_goThrough_78 : decode cX3_goThrough 78 = .ok (.iconst (-1), 1) := dk_2 (dk_at dksX3_goThrough_3 8 rfl rfl)
theorem dX3_goThrough_79 : decode cX3_goThrough 79 = .ok (.if_icmp .eq 8, 3) := dk_159 0 8 (dk_at dksX3_goThrough_3 9 rfl rfl)
theorem dX3_goThrough_82 : decode cX3_goThrough 82 = .ok (.aload_n 0, 1) := dk_42 (dk_at dksX3_goThrough_3 12 rfl rfl)
theorem dX3_goThrough_83 : decode cX3_goThrough 83 = .ok (.invokevirtual 147, 3) := dk_182 0 147 (dk_at dksX3_goThrough_3 13 rfl rfl)
theorem dX3_goThrough_86 : decode cX3_goThrough 86 = .ok (.pop, 1) := dk_87 (dk_at dksX3_goThrough_3 16 rfl rfl)
theorem dX3_goThrough_87 : decode cX3_goThrough 87 = .ok (.return_, 1) := dk_177 (dk_at dksX3_goThrough_3 17 rfl rfl)
abbrev cX3_clause : ByteArray := prog_14_method_24_code
def yX3_clause : MethodName := ⟨RX3, "clause", "()V"⟩
def dkwX3_clause_7 : List UInt8 := [42, 4, 181, 0, 210, 42, 29, 181, 0, 217, 177]
abbrev dktX3_clause_7 : List UInt8 := dkwX3_clause_7 ++ []
def dkwX3_clause_6 : List UInt8 := [2, 160, 0, 22, 42, 180, 0, 210, 154, 0, 15, 27, 42, 180, 0, 214, 160, 0, 7, 28, 154, 0, 4, 177]
abbrev dktX3_clause_6 : List UInt8 := dkwX3_clause_6 ++ dktX3_clause_7
def dkwX3_clause_5 : List UInt8 := [29, 182, 0, 200, 61, 42, 16, 63, 182, 0, 177, 154, 0, 4, 177, 42, 182, 0, 174, 62, 42, 180, 0, 141]
abbrev dktX3_clause_5 : List UInt8 := dkwX3_clause_5 ++ dktX3_clause_6
def dkwX3_clause_4 : List UInt8 := [182, 0, 174, 62, 42, 180, 0, 141, 2, 160, 0, 35, 42, 182, 0, 151, 184, 0, 194, 153, 0, 25, 42, 4]
abbrev dktX3_clause_4 : List UInt8 := dkwX3_clause_4 ++ dktX3_clause_5
def dkwX3_clause_3 : List UInt8 := [182, 0, 200, 61, 42, 16, 63, 182, 0, 177, 154, 0, 4, 177, 42, 182, 0, 174, 62, 167, 0, 48, 42]
abbrev dktX3_clause_3 : List UInt8 := dkwX3_clause_3 ++ dktX3_clause_4
def dkwX3_clause_2 : List UInt8 := [182, 0, 151, 54, 4, 21, 4, 16, 33, 159, 0, 10, 21, 4, 16, 40, 160, 0, 28, 42, 3, 3]
abbrev dktX3_clause_2 : List UInt8 := dkwX3_clause_2 ++ dktX3_clause_3
def dkwX3_clause_1 : List UInt8 := [180, 0, 132, 4, 96, 181, 0, 132, 42, 16, 58, 182, 0, 177, 154, 0, 4, 177, 4, 61, 3, 62, 42]
abbrev dktX3_clause_1 : List UInt8 := dkwX3_clause_1 ++ dktX3_clause_2
def dkwX3_clause_0 : List UInt8 := [42, 182, 0, 151, 60, 18, 26, 27, 184, 0, 167, 154, 0, 9, 42, 182, 0, 147, 87, 177, 42, 89]
abbrev dktX3_clause_0 : List UInt8 := dkwX3_clause_0 ++ dktX3_clause_1
theorem dksX3_clause_0 : cX3_clause.data.toList.drop 0 = dktX3_clause_0 := by decide +kernel
theorem dksX3_clause_1 : cX3_clause.data.toList.drop 22 = dktX3_clause_1 := dk_seg dksX3_clause_0 22 rfl rfl
theorem dksX3_clause_2 : cX3_clause.data.toList.drop 45 = dktX3_clause_2 := dk_seg dksX3_clause_1 23 rfl rfl
theorem dksX3_clause_3 : cX3_clause.data.toList.drop 67 = dktX3_clause_3 := dk_seg dksX3_clause_2 22 rfl rfl
theorem dksX3_clause_4 : cX3_clause.data.toList.drop 90 = dktX3_clause_4 := dk_seg dksX3_clause_3 23 rfl rfl
theorem dksX3_clause_5 : cX3_clause.data.toList.drop 114 = dktX3_clause_5 := dk_seg dksX3_clause_4 24 rfl rfl
theorem dksX3_clause_6 : cX3_clause.data.toList.drop 138 = dktX3_clause_6 := dk_seg dksX3_clause_5 24 rfl rfl
theorem dksX3_clause_7 : cX3_clause.data.toList.drop 162 = dktX3_clause_7 := dk_seg dksX3_clause_6 24 rfl rfl
theorem dX3_clause_0 : decode cX3_clause 0 = .ok (.aload_n 0, 1) := dk_42 (dk_at dksX3_clause_0 0 rfl rfl)
theorem dX3_clause_1 : decode cX3_clause 1 = .ok (.invokevirtual 151, 3) := dk_182 0 151 (dk_at dksX3_clause_0 1 rfl rfl)
theorem dX3_clause_4 : decode cX3_clause 4 = .ok (.istore_n 1, 1) := dk_60 (dk_at dksX3_clause_0 4 rfl rfl)
theorem dX3_clause_5 : decode cX3_clause 5 = .ok (.ldc 26, 2) := dk_18 26 (dk_at dksX3_clause_0 5 rfl rfl)
theorem dX3_clause_7 : decode cX3_clause 7 = .ok (.iload_n 1, 1) := dk_27 (dk_at dksX3_clause_0 7 rfl rfl)
theorem dX3_clause_8 : decode cX3_clause 8 = .ok (.invokestatic 167, 3) := dk_184 0 167 (dk_at dksX3_clause_0 8 rfl rfl)
theorem dX3_clause_11 : decode cX3_clause 11 = .ok (.ifCond .ne 9, 3) := dk_154 0 9 (dk_at dksX3_clause_0 11 rfl rfl)
theorem dX3_clause_14 : decode cX3_clause 14 = .ok (.aload_n 0, 1) := dk_42 (dk_at dksX3_clause_0 14 rfl rfl)
theorem dX3_clause_15 : decode cX3_clause 15 = .ok (.invokevirtual 147, 3) := dk_182 0 147 (dk_at dksX3_clause_0 15 rfl rfl)
theorem dX3_clause_18 : decode cX3_clause 18 = .ok (.pop, 1) := dk_87 (dk_at dksX3_clause_0 18 rfl rfl)
theorem dX3_clause_19 : decode cX3_clause 19 = .ok (.return_, 1) := dk_177 (dk_at dksX3_clause_0 19 rfl rfl)
theorem dX3_clause_20 : decode cX3_clause 20 = .ok (.aload_n 0, 1) := dk_42 (dk_at dksX3_clause_0 20 rfl rfl)
theorem dX3_clause_21 : decode cX3_clause 21 = .ok (.dup, 1) := dk_89 (dk_at dksX3_clause_0 21 rfl rfl)
theorem dX3_clause_22 : decode cX3_clause 22 = .ok (.getfield 132, 3) := dk_180 0 132 (dk_at dksX3_clause_1 0 rfl rfl)
theorem dX3_clause_25 : decode cX3_clause 25 = .ok (.iconst 1, 1) := dk_4 (dk_at dksX3_clause_1 3 rfl rfl)
theorem dX3_clause_26 : decode cX3_clause 26 = .ok (.iadd, 1) := dk_96 (dk_at dksX3_clause_1 4 rfl rfl)
theorem dX3_clause_27 : decode cX3_clause 27 = .ok (.putfield 132, 3) := dk_181 0 132 (dk_at dksX3_clause_1 5 rfl rfl)
theorem dX3_clause_30 : decode cX3_clause 30 = .ok (.aload_n 0, 1) := dk_42 (dk_at dksX3_clause_1 8 rfl rfl)
theorem dX3_clause_31 : decode cX3_clause 31 = .ok (.bipush 58, 2) := dk_16 58 (dk_at dksX3_clause_1 9 rfl rfl)
theorem dX3_clause_33 : decode cX3_clause 33 = .ok (.invokevirtual 177, 3) := dk_182 0 177 (dk_at dksX3_clause_1 11 rfl rfl)
theorem dX3_clause_36 : decode cX3_clause 36 = .ok (.ifCond .ne 4, 3) := dk_154 0 4 (dk_at dksX3_clause_1 14 rfl rfl)
theorem dX3_clause_39 : decode cX3_clause 39 = .ok (.return_, 1) := dk_177 (dk_at dksX3_clause_1 17 rfl rfl)
theorem dX3_clause_40 : decode cX3_clause 40 = .ok (.iconst 1, 1) := dk_4 (dk_at dksX3_clause_1 18 rfl rfl)
theorem dX3_clause_41 : decode cX3_clause 41 = .ok (.istore_n 2, 1) := dk_61 (dk_at dksX3_clause_1 19 rfl rfl)
theorem dX3_clause_42 : decode cX3_clause 42 = .ok (.iconst 0, 1) := dk_3 (dk_at dksX3_clause_1 20 rfl rfl)
theorem dX3_clause_43 : decode cX3_clause 43 = .ok (.istore_n 3, 1) := dk_62 (dk_at dksX3_clause_1 21 rfl rfl)
theorem dX3_clause_44 : decode cX3_clause 44 = .ok (.aload_n 0, 1) := dk_42 (dk_at dksX3_clause_1 22 rfl rfl)
theorem dX3_clause_45 : decode cX3_clause 45 = .ok (.invokevirtual 151, 3) := dk_182 0 151 (dk_at dksX3_clause_2 0 rfl rfl)
theorem dX3_clause_48 : decode cX3_clause 48 = .ok (.istore 4, 2) := dk_54 4 (dk_at dksX3_clause_2 3 rfl rfl)
theorem dX3_clause_50 : decode cX3_clause 50 = .ok (.iload 4, 2) := dk_21 4 (dk_at dksX3_clause_2 5 rfl rfl)
theorem dX3_clause_52 : decode cX3_clause 52 = .ok (.bipush 33, 2) := dk_16 33 (dk_at dksX3_clause_2 7 rfl rfl)
theorem dX3_clause_54 : decode cX3_clause 54 = .ok (.if_icmp .eq 10, 3) := dk_159 0 10 (dk_at dksX3_clause_2 9 rfl rfl)
theorem dX3_clause_57 : decode cX3_clause 57 = .ok (.iload 4, 2) := dk_21 4 (dk_at dksX3_clause_2 12 rfl rfl)
theorem dX3_clause_59 : decode cX3_clause 59 = .ok (.bipush 40, 2) := dk_16 40 (dk_at dksX3_clause_2 14 rfl rfl)
theorem dX3_clause_61 : decode cX3_clause 61 = .ok (.if_icmp .ne 28, 3) := dk_160 0 28 (dk_at dksX3_clause_2 16 rfl rfl)
theorem dX3_clause_64 : decode cX3_clause 64 = .ok (.aload_n 0, 1) := dk_42 (dk_at dksX3_clause_2 19 rfl rfl)
theorem dX3_clause_65 : decode cX3_clause 65 = .ok (.iconst 0, 1) := dk_3 (dk_at dksX3_clause_2 20 rfl rfl)
theorem dX3_clause_66 : decode cX3_clause 66 = .ok (.iconst 0, 1) := dk_3 (dk_at dksX3_clause_2 21 rfl rfl)
theorem dX3_clause_67 : decode cX3_clause 67 = .ok (.invokevirtual 200, 3) := dk_182 0 200 (dk_at dksX3_clause_3 0 rfl rfl)
theorem dX3_clause_70 : decode cX3_clause 70 = .ok (.istore_n 2, 1) := dk_61 (dk_at dksX3_clause_3 3 rfl rfl)
theorem dX3_clause_71 : decode cX3_clause 71 = .ok (.aload_n 0, 1) := dk_42 (dk_at dksX3_clause_3 4 rfl rfl)
theorem dX3_clause_72 : decode cX3_clause 72 = .ok (.bipush 63, 2) := dk_16 63 (dk_at dksX3_clause_3 5 rfl rfl)
theorem dX3_clause_74 : decode cX3_clause 74 = .ok (.invokevirtual 177, 3) := dk_182 0 177 (dk_at dksX3_clause_3 7 rfl rfl)
theorem dX3_clause_77 : decode cX3_clause 77 = .ok (.ifCond .ne 4, 3) := dk_154 0 4 (dk_at dksX3_clause_3 10 rfl rfl)
theorem dX3_clause_80 : decode cX3_clause 80 = .ok (.return_, 1) := dk_177 (dk_at dksX3_clause_3 13 rfl rfl)
theorem dX3_clause_81 : decode cX3_clause 81 = .ok (.aload_n 0, 1) := dk_42 (dk_at dksX3_clause_3 14 rfl rfl)
theorem dX3_clause_82 : decode cX3_clause 82 = .ok (.invokevirtual 174, 3) := dk_182 0 174 (dk_at dksX3_clause_3 15 rfl rfl)
theorem dX3_clause_85 : decode cX3_clause 85 = .ok (.istore_n 3, 1) := dk_62 (dk_at dksX3_clause_3 18 rfl rfl)
theorem dX3_clause_86 : decode cX3_clause 86 = .ok (.goto 48, 3) := dk_167 0 48 (dk_at dksX3_clause_3 19 rfl rfl)
theorem dX3_clause_89 : decode cX3_clause 89 = .ok (.aload_n 0, 1) := dk_42 (dk_at dksX3_clause_3 22 rfl rfl)
theorem dX3_clause_90 : decode cX3_clause 90 = .ok (.invokevirtual 174, 3) := dk_182 0 174 (dk_at dksX3_clause_4 0 rfl rfl)
theorem dX3_clause_93 : decode cX3_clause 93 = .ok (.istore_n 3, 1) := dk_62 (dk_at dksX3_clause_4 3 rfl rfl)
theorem dX3_clause_94 : decode cX3_clause 94 = .ok (.aload_n 0, 1) := dk_42 (dk_at dksX3_clause_4 4 rfl rfl)
theorem dX3_clause_95 : decode cX3_clause 95 = .ok (.getfield 141, 3) := dk_180 0 141 (dk_at dksX3_clause_4 5 rfl rfl)
theorem dX3_clause_98 : decode cX3_clause 98 = .ok (.iconst (-1), 1) := dk_2 (dk_at dksX3_clause_4 8 rfl rfl)
theorem dX3_clause_99 : decode cX3_clause 99 = .ok (.if_icmp .ne 35, 3) := dk_160 0 35 (dk_at dksX3_clause_4 9 rfl rfl)
theorem dX3_clause_102 : decode cX3_clause 102 = .ok (.aload_n 0, 1) := dk_42 (dk_at dksX3_clause_4 12 rfl rfl)
theorem dX3_clause_103 : decode cX3_clause 103 = .ok (.invokevirtual 151, 3) := dk_182 0 151 (dk_at dksX3_clause_4 13 rfl rfl)
theorem dX3_clause_106 : decode cX3_clause 106 = .ok (.invokestatic 194, 3) := dk_184 0 194 (dk_at dksX3_clause_4 16 rfl rfl)
theorem dX3_clause_109 : decode cX3_clause 109 = .ok (.ifCond .eq 25, 3) := dk_153 0 25 (dk_at dksX3_clause_4 19 rfl rfl)
theorem dX3_clause_112 : decode cX3_clause 112 = .ok (.aload_n 0, 1) := dk_42 (dk_at dksX3_clause_4 22 rfl rfl)
theorem dX3_clause_113 : decode cX3_clause 113 = .ok (.iconst 1, 1) := dk_4 (dk_at dksX3_clause_4 23 rfl rfl)
theorem dX3_clause_114 : decode cX3_clause 114 = .ok (.iload_n 3, 1) := dk_29 (dk_at dksX3_clause_5 0 rfl rfl)
theorem dX3_clause_115 : decode cX3_clause 115 = .ok (.invokevirtual 200, 3) := dk_182 0 200 (dk_at dksX3_clause_5 1 rfl rfl)
theorem dX3_clause_118 : decode cX3_clause 118 = .ok (.istore_n 2, 1) := dk_61 (dk_at dksX3_clause_5 4 rfl rfl)
theorem dX3_clause_119 : decode cX3_clause 119 = .ok (.aload_n 0, 1) := dk_42 (dk_at dksX3_clause_5 5 rfl rfl)
theorem dX3_clause_120 : decode cX3_clause 120 = .ok (.bipush 63, 2) := dk_16 63 (dk_at dksX3_clause_5 6 rfl rfl)
theorem dX3_clause_122 : decode cX3_clause 122 = .ok (.invokevirtual 177, 3) := dk_182 0 177 (dk_at dksX3_clause_5 8 rfl rfl)
theorem dX3_clause_125 : decode cX3_clause 125 = .ok (.ifCond .ne 4, 3) := dk_154 0 4 (dk_at dksX3_clause_5 11 rfl rfl)
theorem dX3_clause_128 : decode cX3_clause 128 = .ok (.return_, 1) := dk_177 (dk_at dksX3_clause_5 14 rfl rfl)
theorem dX3_clause_129 : decode cX3_clause 129 = .ok (.aload_n 0, 1) := dk_42 (dk_at dksX3_clause_5 15 rfl rfl)
theorem dX3_clause_130 : decode cX3_clause 130 = .ok (.invokevirtual 174, 3) := dk_182 0 174 (dk_at dksX3_clause_5 16 rfl rfl)
theorem dX3_clause_133 : decode cX3_clause 133 = .ok (.istore_n 3, 1) := dk_62 (dk_at dksX3_clause_5 19 rfl rfl)
theorem dX3_clause_134 : decode cX3_clause 134 = .ok (.aload_n 0, 1) := dk_42 (dk_at dksX3_clause_5 20 rfl rfl)
theorem dX3_clause_135 : decode cX3_clause 135 = .ok (.getfield 141, 3) := dk_180 0 141 (dk_at dksX3_clause_5 21 rfl rfl)
theorem dX3_clause_138 : decode cX3_clause 138 = .ok (.iconst (-1), 1) := dk_2 (dk_at dksX3_clause_6 0 rfl rfl)
theorem dX3_clause_139 : decode cX3_clause 139 = .ok (.if_icmp .ne 22, 3) := dk_160 0 22 (dk_at dksX3_clause_6 1 rfl rfl)
theorem dX3_clause_142 : decode cX3_clause 142 = .ok (.aload_n 0, 1) := dk_42 (dk_at dksX3_clause_6 4 rfl rfl)
theorem dX3_clause_143 : decode cX3_clause 143 = .ok (.getfield 210, 3) := dk_180 0 210 (dk_at dksX3_clause_6 5 rfl rfl)
theorem dX3_clause_146 : decode cX3_clause 146 = .ok (.ifCond .ne 15, 3) := dk_154 0 15 (dk_at dksX3_clause_6 8 rfl rfl)
theorem dX3_clause_149 : decode cX3_clause 149 = .ok (.iload_n 1, 1) := dk_27 (dk_at dksX3_clause_6 11 rfl rfl)
theorem dX3_clause_150 : decode cX3_clause 150 = .ok (.aload_n 0, 1) := dk_42 (dk_at dksX3_clause_6 12 rfl rfl)
theorem dX3_clause_151 : decode cX3_clause 151 = .ok (.getfield 214, 3) := dk_180 0 214 (dk_at dksX3_clause_6 13 rfl rfl)
theorem dX3_clause_154 : decode cX3_clause 154 = .ok (.if_icmp .ne 7, 3) := dk_160 0 7 (dk_at dksX3_clause_6 16 rfl rfl)
theorem dX3_clause_157 : decode cX3_clause 157 = .ok (.iload_n 2, 1) := dk_28 (dk_at dksX3_clause_6 19 rfl rfl)
theorem dX3_clause_158 : decode cX3_clause 158 = .ok (.ifCond .ne 4, 3) := dk_154 0 4 (dk_at dksX3_clause_6 20 rfl rfl)
theorem dX3_clause_161 : decode cX3_clause 161 = .ok (.return_, 1) := dk_177 (dk_at dksX3_clause_6 23 rfl rfl)
theorem dX3_clause_162 : decode cX3_clause 162 = .ok (.aload_n 0, 1) := dk_42 (dk_at dksX3_clause_7 0 rfl rfl)
theorem dX3_clause_163 : decode cX3_clause 163 = .ok (.iconst 1, 1) := dk_4 (dk_at dksX3_clause_7 1 rfl rfl)
theorem dX3_clause_164 : decode cX3_clause 164 = .ok (.putfield 210, 3) := dk_181 0 210 (dk_at dksX3_clause_7 2 rfl rfl)
theorem dX3_clause_167 : decode cX3_clause 167 = .ok (.aload_n 0, 1) := dk_42 (dk_at dksX3_clause_7 5 rfl rfl)
theorem dX3_clause_168 : decode cX3_clause 168 = .ok (.iload_n 3, 1) := dk_29 (dk_at dksX3_clause_7 6 rfl rfl)
theorem dX3_clause_169 : decode cX3_clause 169 = .ok (.putfield 217, 3) := dk_181 0 217 (dk_at dksX3_clause_7 7 rfl rfl)
theorem dX3_clause_172 : decode cX3_clause 172 = .ok (.return_, 1) := dk_177 (dk_at dksX3_clause_7 10 rfl rfl)
abbrev cX3_isAmong : ByteArray := prog_14_method_5_code
def yX3_isAmong : MethodName := ⟨RX3, "isAmong", "(Ljava/lang/String;I)Z"⟩
def dkwX3_isAmong_1 : List UInt8 := [167, 255, 234, 3, 172]
abbrev dktX3_isAmong_1 : List UInt8 := dkwX3_isAmong_1 ++ []
def dkwX3_isAmong_0 : List UInt8 := [3, 61, 28, 42, 182, 0, 112, 162, 0, 20, 42, 28, 182, 0, 118, 27, 160, 0, 5, 4, 172, 132, 2, 1]
abbrev dktX3_isAmong_0 : List UInt8 := dkwX3_isAmong_0 ++ dktX3_isAmong_1
theorem dksX3_isAmong_0 : cX3_isAmong.data.toList.drop 0 = dktX3_isAmong_0 := by decide +kernel
theorem dksX3_isAmong_1 : cX3_isAmong.data.toList.drop 24 = dktX3_isAmong_1 := dk_seg dksX3_isAmong_0 24 rfl rfl
theorem dX3_isAmong_0 : decode cX3_isAmong 0 = .ok (.iconst 0, 1) := dk_3 (dk_at dksX3_isAmong_0 0 rfl rfl)
theorem dX3_isAmong_1 : decode cX3_isAmong 1 = .ok (.istore_n 2, 1) := dk_61 (dk_at dksX3_isAmong_0 1 rfl rfl)
theorem dX3_isAmong_2 : decode cX3_isAmong 2 = .ok (.iload_n 2, 1) := dk_28 (dk_at dksX3_isAmong_0 2 rfl rfl)
theorem dX3_isAmong_3 : decode cX3_isAmong 3 = .ok (.aload_n 0, 1) := dk_42 (dk_at dksX3_isAmong_0 3 rfl rfl)
theorem dX3_isAmong_4 : decode cX3_isAmong 4 = .ok (.invokevirtual 112, 3) := dk_182 0 112 (dk_at dksX3_isAmong_0 4 rfl rfl)
theorem dX3_isAmong_7 : decode cX3_isAmong 7 = .ok (.if_icmp .ge 20, 3) := dk_162 0 20 (dk_at dksX3_isAmong_0 7 rfl rfl)
theorem dX3_isAmong_10 : decode cX3_isAmong 10 = .ok (.aload_n 0, 1) := dk_42 (dk_at dksX3_isAmong_0 10 rfl rfl)
theorem dX3_isAmong_11 : decode cX3_isAmong 11 = .ok (.iload_n 2, 1) := dk_28 (dk_at dksX3_isAmong_0 11 rfl rfl)
theorem dX3_isAmong_12 : decode cX3_isAmong 12 = .ok (.invokevirtual 118, 3) := dk_182 0 118 (dk_at dksX3_isAmong_0 12 rfl rfl)
theorem dX3_isAmong_15 : decode cX3_isAmong 15 = .ok (.iload_n 1, 1) := dk_27 (dk_at dksX3_isAmong_0 15 rfl rfl)
theorem dX3_isAmong_16 : decode cX3_isAmong 16 = .ok (.if_icmp .ne 5, 3) := dk_160 0 5 (dk_at dksX3_isAmong_0 16 rfl rfl)
theorem dX3_isAmong_19 : decode cX3_isAmong 19 = .ok (.iconst 1, 1) := dk_4 (dk_at dksX3_isAmong_0 19 rfl rfl)
theorem dX3_isAmong_20 : decode cX3_isAmong 20 = .ok (.ireturn, 1) := dk_172 (dk_at dksX3_isAmong_0 20 rfl rfl)
theorem dX3_isAmong_21 : decode cX3_isAmong 21 = .ok (.iinc 2 1, 3) := dk_132 2 1 (dk_at dksX3_isAmong_0 21 rfl rfl)
theorem dX3_isAmong_24 : decode cX3_isAmong 24 = .ok (.goto (-22), 3) := dk_167 255 234 (dk_at dksX3_isAmong_1 0 rfl rfl)
theorem dX3_isAmong_27 : decode cX3_isAmong 27 = .ok (.iconst 0, 1) := dk_3 (dk_at dksX3_isAmong_1 3 rfl rfl)
theorem dX3_isAmong_28 : decode cX3_isAmong 28 = .ok (.ireturn, 1) := dk_172 (dk_at dksX3_isAmong_1 4 rfl rfl)
abbrev cX3_takes : ByteArray := prog_14_method_13_code
def yX3_takes : MethodName := ⟨RX3, "takes", "(I)Z"⟩
def dkwX3_takes_1 : List UInt8 := [180, 0, 132, 4, 96, 181, 0, 132, 4, 172]
abbrev dktX3_takes_1 : List UInt8 := dkwX3_takes_1 ++ []
def dkwX3_takes_0 : List UInt8 := [42, 180, 0, 141, 2, 160, 0, 11, 42, 182, 0, 151, 27, 159, 0, 8, 42, 182, 0, 147, 172, 42, 89]
abbrev dktX3_takes_0 : List UInt8 := dkwX3_takes_0 ++ dktX3_takes_1
theorem dksX3_takes_0 : cX3_takes.data.toList.drop 0 = dktX3_takes_0 := by decide +kernel
theorem dksX3_takes_1 : cX3_takes.data.toList.drop 23 = dktX3_takes_1 := dk_seg dksX3_takes_0 23 rfl rfl
theorem dX3_takes_0 : decode cX3_takes 0 = .ok (.aload_n 0, 1) := dk_42 (dk_at dksX3_takes_0 0 rfl rfl)
theorem dX3_takes_1 : decode cX3_takes 1 = .ok (.getfield 141, 3) := dk_180 0 141 (dk_at dksX3_takes_0 1 rfl rfl)
theorem dX3_takes_4 : decode cX3_takes 4 = .ok (.iconst (-1), 1) := dk_2 (dk_at dksX3_takes_0 4 rfl rfl)
theorem dX3_takes_5 : decode cX3_takes 5 = .ok (.if_icmp .ne 11, 3) := dk_160 0 11 (dk_at dksX3_takes_0 5 rfl rfl)
theorem dX3_takes_8 : decode cX3_takes 8 = .ok (.aload_n 0, 1) := dk_42 (dk_at dksX3_takes_0 8 rfl rfl)
theorem dX3_takes_9 : decode cX3_takes 9 = .ok (.invokevirtual 151, 3) := dk_182 0 151 (dk_at dksX3_takes_0 9 rfl rfl)
theorem dX3_takes_12 : decode cX3_takes 12 = .ok (.iload_n 1, 1) := dk_27 (dk_at dksX3_takes_0 12 rfl rfl)
theorem dX3_takes_13 : decode cX3_takes 13 = .ok (.if_icmp .eq 8, 3) := dk_159 0 8 (dk_at dksX3_takes_0 13 rfl rfl)
theorem dX3_takes_16 : decode cX3_takes 16 = .ok (.aload_n 0, 1) := dk_42 (dk_at dksX3_takes_0 16 rfl rfl)
theorem dX3_takes_17 : decode cX3_takes 17 = .ok (.invokevirtual 147, 3) := dk_182 0 147 (dk_at dksX3_takes_0 17 rfl rfl)
theorem dX3_takes_20 : decode cX3_takes 20 = .ok (.ireturn, 1) := dk_172 (dk_at dksX3_takes_0 20 rfl rfl)
theorem dX3_takes_21 : decode cX3_takes 21 = .ok (.aload_n 0, 1) := dk_42 (dk_at dksX3_takes_0 21 rfl rfl)
theorem dX3_takes_22 : decode cX3_takes 22 = .ok (.dup, 1) := dk_89 (dk_at dksX3_takes_0 22 rfl rfl)
theorem dX3_takes_23 : decode cX3_takes 23 = .ok (.getfield 132, 3) := dk_180 0 132 (dk_at dksX3_takes_1 0 rfl rfl)
theorem dX3_takes_26 : decode cX3_takes 26 = .ok (.iconst 1, 1) := dk_4 (dk_at dksX3_takes_1 3 rfl rfl)
theorem dX3_takes_27 : decode cX3_takes 27 = .ok (.iadd, 1) := dk_96 (dk_at dksX3_takes_1 4 rfl rfl)
theorem dX3_takes_28 : decode cX3_takes 28 = .ok (.putfield 132, 3) := dk_181 0 132 (dk_at dksX3_takes_1 5 rfl rfl)
theorem dX3_takes_31 : decode cX3_takes 31 = .ok (.iconst 1, 1) := dk_4 (dk_at dksX3_takes_1 8 rfl rfl)
theorem dX3_takes_32 : decode cX3_takes 32 = .ok (.ireturn, 1) := dk_172 (dk_at dksX3_takes_1 9 rfl rfl)
abbrev cX3_condition : ByteArray := prog_14_method_23_code
def yX3_condition : MethodName := ⟨RX3, "condition", "(ZI)Z"⟩
def dkwX3_condition_2 : List UInt8 := [153, 0, 7, 4, 167, 0, 4, 3, 62, 167, 255, 206, 29, 172]
abbrev dktX3_condition_2 : List UInt8 := dkwX3_condition_2 ++ []
def dkwX3_condition_1 : List UInt8 := [42, 89, 180, 0, 132, 4, 96, 181, 0, 132, 42, 3, 3, 182, 0, 207, 54, 4, 29, 154, 0, 8, 21, 4]
abbrev dktX3_condition_1 : List UInt8 := dkwX3_condition_1 ++ dktX3_condition_2
def dkwX3_condition_0 : List UInt8 := [42, 27, 28, 182, 0, 207, 62, 42, 180, 0, 141, 2, 160, 0, 48, 42, 182, 0, 151, 16, 124, 160, 0, 39]
abbrev dktX3_condition_0 : List UInt8 := dkwX3_condition_0 ++ dktX3_condition_1
theorem dksX3_condition_0 : cX3_condition.data.toList.drop 0 = dktX3_condition_0 := by decide +kernel
theorem dksX3_condition_1 : cX3_condition.data.toList.drop 24 = dktX3_condition_1 := dk_seg dksX3_condition_0 24 rfl rfl
theorem dksX3_condition_2 : cX3_condition.data.toList.drop 48 = dktX3_condition_2 := dk_seg dksX3_condition_1 24 rfl rfl
theorem dX3_condition_0 : decode cX3_condition 0 = .ok (.aload_n 0, 1) := dk_42 (dk_at dksX3_condition_0 0 rfl rfl)
theorem dX3_condition_1 : decode cX3_condition 1 = .ok (.iload_n 1, 1) := dk_27 (dk_at dksX3_condition_0 1 rfl rfl)
theorem dX3_condition_2 : decode cX3_condition 2 = .ok (.iload_n 2, 1) := dk_28 (dk_at dksX3_condition_0 2 rfl rfl)
theorem dX3_condition_3 : decode cX3_condition 3 = .ok (.invokevirtual 207, 3) := dk_182 0 207 (dk_at dksX3_condition_0 3 rfl rfl)
theorem dX3_condition_6 : decode cX3_condition 6 = .ok (.istore_n 3, 1) := dk_62 (dk_at dksX3_condition_0 6 rfl rfl)
theorem dX3_condition_7 : decode cX3_condition 7 = .ok (.aload_n 0, 1) := dk_42 (dk_at dksX3_condition_0 7 rfl rfl)
theorem dX3_condition_8 : decode cX3_condition 8 = .ok (.getfield 141, 3) := dk_180 0 141 (dk_at dksX3_condition_0 8 rfl rfl)
theorem dX3_condition_11 : decode cX3_condition 11 = .ok (.iconst (-1), 1) := dk_2 (dk_at dksX3_condition_0 11 rfl rfl)
theorem dX3_condition_12 : decode cX3_condition 12 = .ok (.if_icmp .ne 48, 3) := dk_160 0 48 (dk_at dksX3_condition_0 12 rfl rfl)
theorem dX3_condition_15 : decode cX3_condition 15 = .ok (.aload_n 0, 1) := dk_42 (dk_at dksX3_condition_0 15 rfl rfl)
theorem dX3_condition_16 : decode cX3_condition 16 = .ok (.invokevirtual 151, 3) := dk_182 0 151 (dk_at dksX3_condition_0 16 rfl rfl)
theorem dX3_condition_19 : decode cX3_condition 19 = .ok (.bipush 124, 2) := dk_16 124 (dk_at dksX3_condition_0 19 rfl rfl)
theorem dX3_condition_21 : decode cX3_condition 21 = .ok (.if_icmp .ne 39, 3) := dk_160 0 39 (dk_at dksX3_condition_0 21 rfl rfl)
theorem dX3_condition_24 : decode cX3_condition 24 = .ok (.aload_n 0, 1) := dk_42 (dk_at dksX3_condition_1 0 rfl rfl)
theorem dX3_condition_25 : decode cX3_condition 25 = .ok (.dup, 1) := dk_89 (dk_at dksX3_condition_1 1 rfl rfl)
theorem dX3_condition_26 : decode cX3_condition 26 = .ok (.getfield 132, 3) := dk_180 0 132 (dk_at dksX3_condition_1 2 rfl rfl)
theorem dX3_condition_29 : decode cX3_condition 29 = .ok (.iconst 1, 1) := dk_4 (dk_at dksX3_condition_1 5 rfl rfl)
theorem dX3_condition_30 : decode cX3_condition 30 = .ok (.iadd, 1) := dk_96 (dk_at dksX3_condition_1 6 rfl rfl)
theorem dX3_condition_31 : decode cX3_condition 31 = .ok (.putfield 132, 3) := dk_181 0 132 (dk_at dksX3_condition_1 7 rfl rfl)
theorem dX3_condition_34 : decode cX3_condition 34 = .ok (.aload_n 0, 1) := dk_42 (dk_at dksX3_condition_1 10 rfl rfl)
theorem dX3_condition_35 : decode cX3_condition 35 = .ok (.iconst 0, 1) := dk_3 (dk_at dksX3_condition_1 11 rfl rfl)
theorem dX3_condition_36 : decode cX3_condition 36 = .ok (.iconst 0, 1) := dk_3 (dk_at dksX3_condition_1 12 rfl rfl)
theorem dX3_condition_37 : decode cX3_condition 37 = .ok (.invokevirtual 207, 3) := dk_182 0 207 (dk_at dksX3_condition_1 13 rfl rfl)
theorem dX3_condition_40 : decode cX3_condition 40 = .ok (.istore 4, 2) := dk_54 4 (dk_at dksX3_condition_1 16 rfl rfl)
theorem dX3_condition_42 : decode cX3_condition 42 = .ok (.iload_n 3, 1) := dk_29 (dk_at dksX3_condition_1 18 rfl rfl)
theorem dX3_condition_43 : decode cX3_condition 43 = .ok (.ifCond .ne 8, 3) := dk_154 0 8 (dk_at dksX3_condition_1 19 rfl rfl)
theorem dX3_condition_46 : decode cX3_condition 46 = .ok (.iload 4, 2) := dk_21 4 (dk_at dksX3_condition_1 22 rfl rfl)
theorem dX3_condition_48 : decode cX3_condition 48 = .ok (.ifCond .eq 7, 3) := dk_153 0 7 (dk_at dksX3_condition_2 0 rfl rfl)
theorem dX3_condition_51 : decode cX3_condition 51 = .ok (.iconst 1, 1) := dk_4 (dk_at dksX3_condition_2 3 rfl rfl)
theorem dX3_condition_52 : decode cX3_condition 52 = .ok (.goto 4, 3) := dk_167 0 4 (dk_at dksX3_condition_2 4 rfl rfl)
theorem dX3_condition_55 : decode cX3_condition 55 = .ok (.iconst 0, 1) := dk_3 (dk_at dksX3_condition_2 7 rfl rfl)
theorem dX3_condition_56 : decode cX3_condition 56 = .ok (.istore_n 3, 1) := dk_62 (dk_at dksX3_condition_2 8 rfl rfl)
theorem dX3_condition_57 : decode cX3_condition 57 = .ok (.goto (-50), 3) := dk_167 255 206 (dk_at dksX3_condition_2 9 rfl rfl)
theorem dX3_condition_60 : decode cX3_condition 60 = .ok (.iload_n 3, 1) := dk_29 (dk_at dksX3_condition_2 12 rfl rfl)
theorem dX3_condition_61 : decode cX3_condition 61 = .ok (.ireturn, 1) := dk_172 (dk_at dksX3_condition_2 13 rfl rfl)
abbrev cX3_part : ByteArray := prog_14_method_22_code
def yX3_part : MethodName := ⟨RX3, "part", "(ZI)Z"⟩
def dkwX3_part_3 : List UInt8 := [172]
abbrev dktX3_part_3 : List UInt8 := dkwX3_part_3 ++ []
def dkwX3_part_2 : List UInt8 := [182, 0, 197, 54, 4, 29, 153, 0, 12, 21, 4, 153, 0, 7, 4, 167, 0, 4, 3, 62, 167, 255, 208, 29]
abbrev dktX3_part_2 : List UInt8 := dkwX3_part_2 ++ dktX3_part_3
def dkwX3_part_1 : List UInt8 := [160, 0, 46, 42, 182, 0, 151, 16, 38, 160, 0, 37, 42, 89, 180, 0, 132, 4, 96, 181, 0, 132, 42]
abbrev dktX3_part_1 : List UInt8 := dkwX3_part_1 ++ dktX3_part_2
def dkwX3_part_0 : List UInt8 := [27, 153, 0, 12, 42, 4, 28, 182, 0, 204, 167, 0, 7, 42, 182, 0, 197, 62, 42, 180, 0, 141, 2]
abbrev dktX3_part_0 : List UInt8 := dkwX3_part_0 ++ dktX3_part_1
theorem dksX3_part_0 : cX3_part.data.toList.drop 0 = dktX3_part_0 := by decide +kernel
theorem dksX3_part_1 : cX3_part.data.toList.drop 23 = dktX3_part_1 := dk_seg dksX3_part_0 23 rfl rfl
theorem dksX3_part_2 : cX3_part.data.toList.drop 46 = dktX3_part_2 := dk_seg dksX3_part_1 23 rfl rfl
theorem dksX3_part_3 : cX3_part.data.toList.drop 70 = dktX3_part_3 := dk_seg dksX3_part_2 24 rfl rfl
theorem dX3_part_0 : decode cX3_part 0 = .ok (.iload_n 1, 1) := dk_27 (dk_at dksX3_part_0 0 rfl rfl)
theorem dX3_part_1 : decode cX3_part 1 = .ok (.ifCond .eq 12, 3) := dk_153 0 12 (dk_at dksX3_part_0 1 rfl rfl)
theorem dX3_part_4 : decode cX3_part 4 = .ok (.aload_n 0, 1) := dk_42 (dk_at dksX3_part_0 4 rfl rfl)
theorem dX3_part_5 : decode cX3_part 5 = .ok (.iconst 1, 1) := dk_4 (dk_at dksX3_part_0 5 rfl rfl)
theorem dX3_part_6 : decode cX3_part 6 = .ok (.iload_n 2, 1) := dk_28 (dk_at dksX3_part_0 6 rfl rfl)
theorem dX3_part_7 : decode cX3_part 7 = .ok (.invokevirtual 204, 3) := dk_182 0 204 (dk_at dksX3_part_0 7 rfl rfl)
theorem dX3_part_10 : decode cX3_part 10 = .ok (.goto 7, 3) := dk_167 0 7 (dk_at dksX3_part_0 10 rfl rfl)
theorem dX3_part_13 : decode cX3_part 13 = .ok (.aload_n 0, 1) := dk_42 (dk_at dksX3_part_0 13 rfl rfl)
theorem dX3_part_14 : decode cX3_part 14 = .ok (.invokevirtual 197, 3) := dk_182 0 197 (dk_at dksX3_part_0 14 rfl rfl)
theorem dX3_part_17 : decode cX3_part 17 = .ok (.istore_n 3, 1) := dk_62 (dk_at dksX3_part_0 17 rfl rfl)
theorem dX3_part_18 : decode cX3_part 18 = .ok (.aload_n 0, 1) := dk_42 (dk_at dksX3_part_0 18 rfl rfl)
theorem dX3_part_19 : decode cX3_part 19 = .ok (.getfield 141, 3) := dk_180 0 141 (dk_at dksX3_part_0 19 rfl rfl)
theorem dX3_part_22 : decode cX3_part 22 = .ok (.iconst (-1), 1) := dk_2 (dk_at dksX3_part_0 22 rfl rfl)
theorem dX3_part_23 : decode cX3_part 23 = .ok (.if_icmp .ne 46, 3) := dk_160 0 46 (dk_at dksX3_part_1 0 rfl rfl)
theorem dX3_part_26 : decode cX3_part 26 = .ok (.aload_n 0, 1) := dk_42 (dk_at dksX3_part_1 3 rfl rfl)
theorem dX3_part_27 : decode cX3_part 27 = .ok (.invokevirtual 151, 3) := dk_182 0 151 (dk_at dksX3_part_1 4 rfl rfl)
theorem dX3_part_30 : decode cX3_part 30 = .ok (.bipush 38, 2) := dk_16 38 (dk_at dksX3_part_1 7 rfl rfl)
theorem dX3_part_32 : decode cX3_part 32 = .ok (.if_icmp .ne 37, 3) := dk_160 0 37 (dk_at dksX3_part_1 9 rfl rfl)
theorem dX3_part_35 : decode cX3_part 35 = .ok (.aload_n 0, 1) := dk_42 (dk_at dksX3_part_1 12 rfl rfl)
theorem dX3_part_36 : decode cX3_part 36 = .ok (.dup, 1) := dk_89 (dk_at dksX3_part_1 13 rfl rfl)
theorem dX3_part_37 : decode cX3_part 37 = .ok (.getfield 132, 3) := dk_180 0 132 (dk_at dksX3_part_1 14 rfl rfl)
theorem dX3_part_40 : decode cX3_part 40 = .ok (.iconst 1, 1) := dk_4 (dk_at dksX3_part_1 17 rfl rfl)
theorem dX3_part_41 : decode cX3_part 41 = .ok (.iadd, 1) := dk_96 (dk_at dksX3_part_1 18 rfl rfl)
theorem dX3_part_42 : decode cX3_part 42 = .ok (.putfield 132, 3) := dk_181 0 132 (dk_at dksX3_part_1 19 rfl rfl)
theorem dX3_part_45 : decode cX3_part 45 = .ok (.aload_n 0, 1) := dk_42 (dk_at dksX3_part_1 22 rfl rfl)
theorem dX3_part_46 : decode cX3_part 46 = .ok (.invokevirtual 197, 3) := dk_182 0 197 (dk_at dksX3_part_2 0 rfl rfl)
theorem dX3_part_49 : decode cX3_part 49 = .ok (.istore 4, 2) := dk_54 4 (dk_at dksX3_part_2 3 rfl rfl)
theorem dX3_part_51 : decode cX3_part 51 = .ok (.iload_n 3, 1) := dk_29 (dk_at dksX3_part_2 5 rfl rfl)
theorem dX3_part_52 : decode cX3_part 52 = .ok (.ifCond .eq 12, 3) := dk_153 0 12 (dk_at dksX3_part_2 6 rfl rfl)
theorem dX3_part_55 : decode cX3_part 55 = .ok (.iload 4, 2) := dk_21 4 (dk_at dksX3_part_2 9 rfl rfl)
theorem dX3_part_57 : decode cX3_part 57 = .ok (.ifCond .eq 7, 3) := dk_153 0 7 (dk_at dksX3_part_2 11 rfl rfl)
theorem dX3_part_60 : decode cX3_part 60 = .ok (.iconst 1, 1) := dk_4 (dk_at dksX3_part_2 14 rfl rfl)
theorem dX3_part_61 : decode cX3_part 61 = .ok (.goto 4, 3) := dk_167 0 4 (dk_at dksX3_part_2 15 rfl rfl)
theorem dX3_part_64 : decode cX3_part 64 = .ok (.iconst 0, 1) := dk_3 (dk_at dksX3_part_2 18 rfl rfl)
theorem dX3_part_65 : decode cX3_part 65 = .ok (.istore_n 3, 1) := dk_62 (dk_at dksX3_part_2 19 rfl rfl)
theorem dX3_part_66 : decode cX3_part 66 = .ok (.goto (-48), 3) := dk_167 255 208 (dk_at dksX3_part_2 20 rfl rfl)
theorem dX3_part_69 : decode cX3_part 69 = .ok (.iload_n 3, 1) := dk_29 (dk_at dksX3_part_2 23 rfl rfl)
theorem dX3_part_70 : decode cX3_part 70 = .ok (.ireturn, 1) := dk_172 (dk_at dksX3_part_3 0 rfl rfl)
abbrev cX3_compares : ByteArray := prog_14_method_20_code
def yX3_compares : MethodName := ⟨RX3, "compares", "(ZI)Z"⟩
def dkwX3_compares_4 : List UInt8 := [3, 167, 0, 14, 29, 21, 5, 164, 0, 7, 4, 167, 0, 4, 3, 172]
abbrev dktX3_compares_4 : List UInt8 := dkwX3_compares_4 ++ []
def dkwX3_compares_3 : List UInt8 := [167, 0, 39, 3, 167, 0, 35, 21, 4, 16, 60, 160, 0, 17, 29, 21, 5, 162, 0, 7, 4, 167, 0, 18]
abbrev dktX3_compares_3 : List UInt8 := dkwX3_compares_3 ++ dktX3_compares_4
def dkwX3_compares_2 : List UInt8 := [96, 181, 0, 132, 42, 182, 0, 174, 54, 5, 21, 4, 16, 61, 160, 0, 17, 29, 21, 5, 160, 0, 7, 4]
abbrev dktX3_compares_2 : List UInt8 := dkwX3_compares_2 ++ dktX3_compares_3
def dkwX3_compares_1 : List UInt8 := [182, 0, 151, 54, 4, 21, 4, 184, 0, 194, 154, 0, 8, 42, 182, 0, 147, 172, 42, 89, 180, 0, 132, 4]
abbrev dktX3_compares_1 : List UInt8 := dkwX3_compares_1 ++ dktX3_compares_2
def dkwX3_compares_0 : List UInt8 := [27, 153, 0, 7, 28, 167, 0, 7, 42, 182, 0, 174, 62, 42, 180, 0, 141, 2, 159, 0, 5, 3, 172, 42]
abbrev dktX3_compares_0 : List UInt8 := dkwX3_compares_0 ++ dktX3_compares_1
theorem dksX3_compares_0 : cX3_compares.data.toList.drop 0 = dktX3_compares_0 := by decide +kernel
theorem dksX3_compares_1 : cX3_compares.data.toList.drop 24 = dktX3_compares_1 := dk_seg dksX3_compares_0 24 rfl rfl
theorem dksX3_compares_2 : cX3_compares.data.toList.drop 48 = dktX3_compares_2 := dk_seg dksX3_compares_1 24 rfl rfl
theorem dksX3_compares_3 : cX3_compares.data.toList.drop 72 = dktX3_compares_3 := dk_seg dksX3_compares_2 24 rfl rfl
theorem dksX3_compares_4 : cX3_compares.data.toList.drop 96 = dktX3_compares_4 := dk_seg dksX3_compares_3 24 rfl rfl
theorem dX3_compares_0 : decode cX3_compares 0 = .ok (.iload_n 1, 1) := dk_27 (dk_at dksX3_compares_0 0 rfl rfl)
theorem dX3_compares_1 : decode cX3_compares 1 = .ok (.ifCond .eq 7, 3) := dk_153 0 7 (dk_at dksX3_compares_0 1 rfl rfl)
theorem dX3_compares_4 : decode cX3_compares 4 = .ok (.iload_n 2, 1) := dk_28 (dk_at dksX3_compares_0 4 rfl rfl)
theorem dX3_compares_5 : decode cX3_compares 5 = .ok (.goto 7, 3) := dk_167 0 7 (dk_at dksX3_compares_0 5 rfl rfl)
theorem dX3_compares_8 : decode cX3_compares 8 = .ok (.aload_n 0, 1) := dk_42 (dk_at dksX3_compares_0 8 rfl rfl)
theorem dX3_compares_9 : decode cX3_compares 9 = .ok (.invokevirtual 174, 3) := dk_182 0 174 (dk_at dksX3_compares_0 9 rfl rfl)
theorem dX3_compares_12 : decode cX3_compares 12 = .ok (.istore_n 3, 1) := dk_62 (dk_at dksX3_compares_0 12 rfl rfl)
theorem dX3_compares_13 : decode cX3_compares 13 = .ok (.aload_n 0, 1) := dk_42 (dk_at dksX3_compares_0 13 rfl rfl)
theorem dX3_compares_14 : decode cX3_compares 14 = .ok (.getfield 141, 3) := dk_180 0 141 (dk_at dksX3_compares_0 14 rfl rfl)
theorem dX3_compares_17 : decode cX3_compares 17 = .ok (.iconst (-1), 1) := dk_2 (dk_at dksX3_compares_0 17 rfl rfl)
theorem dX3_compares_18 : decode cX3_compares 18 = .ok (.if_icmp .eq 5, 3) := dk_159 0 5 (dk_at dksX3_compares_0 18 rfl rfl)
theorem dX3_compares_21 : decode cX3_compares 21 = .ok (.iconst 0, 1) := dk_3 (dk_at dksX3_compares_0 21 rfl rfl)
theorem dX3_compares_22 : decode cX3_compares 22 = .ok (.ireturn, 1) := dk_172 (dk_at dksX3_compares_0 22 rfl rfl)
theorem dX3_compares_23 : decode cX3_compares 23 = .ok (.aload_n 0, 1) := dk_42 (dk_at dksX3_compares_0 23 rfl rfl)
theorem dX3_compares_24 : decode cX3_compares 24 = .ok (.invokevirtual 151, 3) := dk_182 0 151 (dk_at dksX3_compares_1 0 rfl rfl)
theorem dX3_compares_27 : decode cX3_compares 27 = .ok (.istore 4, 2) := dk_54 4 (dk_at dksX3_compares_1 3 rfl rfl)
theorem dX3_compares_29 : decode cX3_compares 29 = .ok (.iload 4, 2) := dk_21 4 (dk_at dksX3_compares_1 5 rfl rfl)
theorem dX3_compares_31 : decode cX3_compares 31 = .ok (.invokestatic 194, 3) := dk_184 0 194 (dk_at dksX3_compares_1 7 rfl rfl)
theorem dX3_compares_34 : decode cX3_compares 34 = .ok (.ifCond .ne 8, 3) := dk_154 0 8 (dk_at dksX3_compares_1 10 rfl rfl)
theorem dX3_compares_37 : decode cX3_compares 37 = .ok (.aload_n 0, 1) := dk_42 (dk_at dksX3_compares_1 13 rfl rfl)
theorem dX3_compares_38 : decode cX3_compares 38 = .ok (.invokevirtual 147, 3) := dk_182 0 147 (dk_at dksX3_compares_1 14 rfl rfl)
theorem dX3_compares_41 : decode cX3_compares 41 = .ok (.ireturn, 1) := dk_172 (dk_at dksX3_compares_1 17 rfl rfl)
theorem dX3_compares_42 : decode cX3_compares 42 = .ok (.aload_n 0, 1) := dk_42 (dk_at dksX3_compares_1 18 rfl rfl)
theorem dX3_compares_43 : decode cX3_compares 43 = .ok (.dup, 1) := dk_89 (dk_at dksX3_compares_1 19 rfl rfl)
theorem dX3_compares_44 : decode cX3_compares 44 = .ok (.getfield 132, 3) := dk_180 0 132 (dk_at dksX3_compares_1 20 rfl rfl)
theorem dX3_compares_47 : decode cX3_compares 47 = .ok (.iconst 1, 1) := dk_4 (dk_at dksX3_compares_1 23 rfl rfl)
theorem dX3_compares_48 : decode cX3_compares 48 = .ok (.iadd, 1) := dk_96 (dk_at dksX3_compares_2 0 rfl rfl)
theorem dX3_compares_49 : decode cX3_compares 49 = .ok (.putfield 132, 3) := dk_181 0 132 (dk_at dksX3_compares_2 1 rfl rfl)
theorem dX3_compares_52 : decode cX3_compares 52 = .ok (.aload_n 0, 1) := dk_42 (dk_at dksX3_compares_2 4 rfl rfl)
theorem dX3_compares_53 : decode cX3_compares 53 = .ok (.invokevirtual 174, 3) := dk_182 0 174 (dk_at dksX3_compares_2 5 rfl rfl)
theorem dX3_compares_56 : decode cX3_compares 56 = .ok (.istore 5, 2) := dk_54 5 (dk_at dksX3_compares_2 8 rfl rfl)
theorem dX3_compares_58 : decode cX3_compares 58 = .ok (.iload 4, 2) := dk_21 4 (dk_at dksX3_compares_2 10 rfl rfl)
theorem dX3_compares_60 : decode cX3_compares 60 = .ok (.bipush 61, 2) := dk_16 61 (dk_at dksX3_compares_2 12 rfl rfl)
theorem dX3_compares_62 : decode cX3_compares 62 = .ok (.if_icmp .ne 17, 3) := dk_160 0 17 (dk_at dksX3_compares_2 14 rfl rfl)
theorem dX3_compares_65 : decode cX3_compares 65 = .ok (.iload_n 3, 1) := dk_29 (dk_at dksX3_compares_2 17 rfl rfl)
theorem dX3_compares_66 : decode cX3_compares 66 = .ok (.iload 5, 2) := dk_21 5 (dk_at dksX3_compares_2 18 rfl rfl)
theorem dX3_compares_68 : decode cX3_compares 68 = .ok (.if_icmp .ne 7, 3) := dk_160 0 7 (dk_at dksX3_compares_2 20 rfl rfl)
theorem dX3_compares_71 : decode cX3_compares 71 = .ok (.iconst 1, 1) := dk_4 (dk_at dksX3_compares_2 23 rfl rfl)
theorem dX3_compares_72 : decode cX3_compares 72 = .ok (.goto 39, 3) := dk_167 0 39 (dk_at dksX3_compares_3 0 rfl rfl)
theorem dX3_compares_75 : decode cX3_compares 75 = .ok (.iconst 0, 1) := dk_3 (dk_at dksX3_compares_3 3 rfl rfl)
theorem dX3_compares_76 : decode cX3_compares 76 = .ok (.goto 35, 3) := dk_167 0 35 (dk_at dksX3_compares_3 4 rfl rfl)
theorem dX3_compares_79 : decode cX3_compares 79 = .ok (.iload 4, 2) := dk_21 4 (dk_at dksX3_compares_3 7 rfl rfl)
theorem dX3_compares_81 : decode cX3_compares 81 = .ok (.bipush 60, 2) := dk_16 60 (dk_at dksX3_compares_3 9 rfl rfl)
theorem dX3_compares_83 : decode cX3_compares 83 = .ok (.if_icmp .ne 17, 3) := dk_160 0 17 (dk_at dksX3_compares_3 11 rfl rfl)
theorem dX3_compares_86 : decode cX3_compares 86 = .ok (.iload_n 3, 1) := dk_29 (dk_at dksX3_compares_3 14 rfl rfl)
theorem dX3_compares_87 : decode cX3_compares 87 = .ok (.iload 5, 2) := dk_21 5 (dk_at dksX3_compares_3 15 rfl rfl)
theorem dX3_compares_89 : decode cX3_compares 89 = .ok (.if_icmp .ge 7, 3) := dk_162 0 7 (dk_at dksX3_compares_3 17 rfl rfl)
theorem dX3_compares_92 : decode cX3_compares 92 = .ok (.iconst 1, 1) := dk_4 (dk_at dksX3_compares_3 20 rfl rfl)
theorem dX3_compares_93 : decode cX3_compares 93 = .ok (.goto 18, 3) := dk_167 0 18 (dk_at dksX3_compares_3 21 rfl rfl)
theorem dX3_compares_96 : decode cX3_compares 96 = .ok (.iconst 0, 1) := dk_3 (dk_at dksX3_compares_4 0 rfl rfl)
theorem dX3_compares_97 : decode cX3_compares 97 = .ok (.goto 14, 3) := dk_167 0 14 (dk_at dksX3_compares_4 1 rfl rfl)
theorem dX3_compares_100 : decode cX3_compares 100 = .ok (.iload_n 3, 1) := dk_29 (dk_at dksX3_compares_4 4 rfl rfl)
theorem dX3_compares_101 : decode cX3_compares 101 = .ok (.iload 5, 2) := dk_21 5 (dk_at dksX3_compares_4 5 rfl rfl)
theorem dX3_compares_103 : decode cX3_compares 103 = .ok (.if_icmp .le 7, 3) := dk_164 0 7 (dk_at dksX3_compares_4 7 rfl rfl)
theorem dX3_compares_106 : decode cX3_compares 106 = .ok (.iconst 1, 1) := dk_4 (dk_at dksX3_compares_4 10 rfl rfl)
theorem dX3_compares_107 : decode cX3_compares 107 = .ok (.goto 4, 3) := dk_167 0 4 (dk_at dksX3_compares_4 11 rfl rfl)
theorem dX3_compares_110 : decode cX3_compares 110 = .ok (.iconst 0, 1) := dk_3 (dk_at dksX3_compares_4 14 rfl rfl)
theorem dX3_compares_111 : decode cX3_compares 111 = .ok (.ireturn, 1) := dk_172 (dk_at dksX3_compares_4 15 rfl rfl)
abbrev cX3_sum : ByteArray := prog_14_method_18_code
def yX3_sum : MethodName := ⟨RX3, "sum", "()I"⟩
def dkwX3_sum_3 : List UInt8 := [167, 0, 7, 27, 133, 33, 101, 184, 0, 187, 60, 167, 255, 180, 27, 172]
abbrev dktX3_sum_3 : List UInt8 := dkwX3_sum_3 ++ []
def dkwX3_sum_2 : List UInt8 := [89, 180, 0, 132, 4, 96, 181, 0, 132, 42, 182, 0, 191, 133, 66, 28, 153, 0, 10, 27, 133, 33, 97]
abbrev dktX3_sum_2 : List UInt8 := dkwX3_sum_2 ++ dktX3_sum_3
def dkwX3_sum_1 : List UInt8 := [182, 0, 151, 16, 45, 160, 0, 56, 42, 182, 0, 151, 16, 43, 160, 0, 7, 4, 167, 0, 4, 3, 61, 42]
abbrev dktX3_sum_1 : List UInt8 := dkwX3_sum_1 ++ dktX3_sum_2
def dkwX3_sum_0 : List UInt8 := [42, 182, 0, 191, 60, 42, 180, 0, 141, 2, 160, 0, 74, 42, 182, 0, 151, 16, 43, 159, 0, 12, 42]
abbrev dktX3_sum_0 : List UInt8 := dkwX3_sum_0 ++ dktX3_sum_1
theorem dksX3_sum_0 : cX3_sum.data.toList.drop 0 = dktX3_sum_0 := by decide +kernel
theorem dksX3_sum_1 : cX3_sum.data.toList.drop 23 = dktX3_sum_1 := dk_seg dksX3_sum_0 23 rfl rfl
theorem dksX3_sum_2 : cX3_sum.data.toList.drop 47 = dktX3_sum_2 := dk_seg dksX3_sum_1 24 rfl rfl
theorem dksX3_sum_3 : cX3_sum.data.toList.drop 70 = dktX3_sum_3 := dk_seg dksX3_sum_2 23 rfl rfl
theorem dX3_sum_0 : decode cX3_sum 0 = .ok (.aload_n 0, 1) := dk_42 (dk_at dksX3_sum_0 0 rfl rfl)
theorem dX3_sum_1 : decode cX3_sum 1 = .ok (.invokevirtual 191, 3) := dk_182 0 191 (dk_at dksX3_sum_0 1 rfl rfl)
theorem dX3_sum_4 : decode cX3_sum 4 = .ok (.istore_n 1, 1) := dk_60 (dk_at dksX3_sum_0 4 rfl rfl)
theorem dX3_sum_5 : decode cX3_sum 5 = .ok (.aload_n 0, 1) := dk_42 (dk_at dksX3_sum_0 5 rfl rfl)
theorem dX3_sum_6 : decode cX3_sum 6 = .ok (.getfield 141, 3) := dk_180 0 141 (dk_at dksX3_sum_0 6 rfl rfl)
theorem dX3_sum_9 : decode cX3_sum 9 = .ok (.iconst (-1), 1) := dk_2 (dk_at dksX3_sum_0 9 rfl rfl)
theorem dX3_sum_10 : decode cX3_sum 10 = .ok (.if_icmp .ne 74, 3) := dk_160 0 74 (dk_at dksX3_sum_0 10 rfl rfl)
theorem dX3_sum_13 : decode cX3_sum 13 = .ok (.aload_n 0, 1) := dk_42 (dk_at dksX3_sum_0 13 rfl rfl)
theorem dX3_sum_14 : decode cX3_sum 14 = .ok (.invokevirtual 151, 3) := dk_182 0 151 (dk_at dksX3_sum_0 14 rfl rfl)
theorem dX3_sum_17 : decode cX3_sum 17 = .ok (.bipush 43, 2) := dk_16 43 (dk_at dksX3_sum_0 17 rfl rfl)
theorem dX3_sum_19 : decode cX3_sum 19 = .ok (.if_icmp .eq 12, 3) := dk_159 0 12 (dk_at dksX3_sum_0 19 rfl rfl)
theorem dX3_sum_22 : decode cX3_sum 22 = .ok (.aload_n 0, 1) := dk_42 (dk_at dksX3_sum_0 22 rfl rfl)
theorem dX3_sum_23 : decode cX3_sum 23 = .ok (.invokevirtual 151, 3) := dk_182 0 151 (dk_at dksX3_sum_1 0 rfl rfl)
theorem dX3_sum_26 : decode cX3_sum 26 = .ok (.bipush 45, 2) := dk_16 45 (dk_at dksX3_sum_1 3 rfl rfl)
theorem dX3_sum_28 : decode cX3_sum 28 = .ok (.if_icmp .ne 56, 3) := dk_160 0 56 (dk_at dksX3_sum_1 5 rfl rfl)
theorem dX3_sum_31 : decode cX3_sum 31 = .ok (.aload_n 0, 1) := dk_42 (dk_at dksX3_sum_1 8 rfl rfl)
theorem dX3_sum_32 : decode cX3_sum 32 = .ok (.invokevirtual 151, 3) := dk_182 0 151 (dk_at dksX3_sum_1 9 rfl rfl)
theorem dX3_sum_35 : decode cX3_sum 35 = .ok (.bipush 43, 2) := dk_16 43 (dk_at dksX3_sum_1 12 rfl rfl)
theorem dX3_sum_37 : decode cX3_sum 37 = .ok (.if_icmp .ne 7, 3) := dk_160 0 7 (dk_at dksX3_sum_1 14 rfl rfl)
theorem dX3_sum_40 : decode cX3_sum 40 = .ok (.iconst 1, 1) := dk_4 (dk_at dksX3_sum_1 17 rfl rfl)
theorem dX3_sum_41 : decode cX3_sum 41 = .ok (.goto 4, 3) := dk_167 0 4 (dk_at dksX3_sum_1 18 rfl rfl)
theorem dX3_sum_44 : decode cX3_sum 44 = .ok (.iconst 0, 1) := dk_3 (dk_at dksX3_sum_1 21 rfl rfl)
theorem dX3_sum_45 : decode cX3_sum 45 = .ok (.istore_n 2, 1) := dk_61 (dk_at dksX3_sum_1 22 rfl rfl)
theorem dX3_sum_46 : decode cX3_sum 46 = .ok (.aload_n 0, 1) := dk_42 (dk_at dksX3_sum_1 23 rfl rfl)
theorem dX3_sum_47 : decode cX3_sum 47 = .ok (.dup, 1) := dk_89 (dk_at dksX3_sum_2 0 rfl rfl)
theorem dX3_sum_48 : decode cX3_sum 48 = .ok (.getfield 132, 3) := dk_180 0 132 (dk_at dksX3_sum_2 1 rfl rfl)
theorem dX3_sum_51 : decode cX3_sum 51 = .ok (.iconst 1, 1) := dk_4 (dk_at dksX3_sum_2 4 rfl rfl)
theorem dX3_sum_52 : decode cX3_sum 52 = .ok (.iadd, 1) := dk_96 (dk_at dksX3_sum_2 5 rfl rfl)
theorem dX3_sum_53 : decode cX3_sum 53 = .ok (.putfield 132, 3) := dk_181 0 132 (dk_at dksX3_sum_2 6 rfl rfl)
theorem dX3_sum_56 : decode cX3_sum 56 = .ok (.aload_n 0, 1) := dk_42 (dk_at dksX3_sum_2 9 rfl rfl)
theorem dX3_sum_57 : decode cX3_sum 57 = .ok (.invokevirtual 191, 3) := dk_182 0 191 (dk_at dksX3_sum_2 10 rfl rfl)
theorem dX3_sum_60 : decode cX3_sum 60 = .ok (.i2l, 1) := dk_133 (dk_at dksX3_sum_2 13 rfl rfl)
theorem dX3_sum_61 : decode cX3_sum 61 = .ok (.lstore_n 3, 1) := dk_66 (dk_at dksX3_sum_2 14 rfl rfl)
theorem dX3_sum_62 : decode cX3_sum 62 = .ok (.iload_n 2, 1) := dk_28 (dk_at dksX3_sum_2 15 rfl rfl)
theorem dX3_sum_63 : decode cX3_sum 63 = .ok (.ifCond .eq 10, 3) := dk_153 0 10 (dk_at dksX3_sum_2 16 rfl rfl)
theorem dX3_sum_66 : decode cX3_sum 66 = .ok (.iload_n 1, 1) := dk_27 (dk_at dksX3_sum_2 19 rfl rfl)
theorem dX3_sum_67 : decode cX3_sum 67 = .ok (.i2l, 1) := dk_133 (dk_at dksX3_sum_2 20 rfl rfl)
theorem dX3_sum_68 : decode cX3_sum 68 = .ok (.lload_n 3, 1) := dk_33 (dk_at dksX3_sum_2 21 rfl rfl)
theorem dX3_sum_69 : decode cX3_sum 69 = .ok (.ladd, 1) := dk_97 (dk_at dksX3_sum_2 22 rfl rfl)
theorem dX3_sum_70 : decode cX3_sum 70 = .ok (.goto 7, 3) := dk_167 0 7 (dk_at dksX3_sum_3 0 rfl rfl)
theorem dX3_sum_73 : decode cX3_sum 73 = .ok (.iload_n 1, 1) := dk_27 (dk_at dksX3_sum_3 3 rfl rfl)
theorem dX3_sum_74 : decode cX3_sum 74 = .ok (.i2l, 1) := dk_133 (dk_at dksX3_sum_3 4 rfl rfl)
theorem dX3_sum_75 : decode cX3_sum 75 = .ok (.lload_n 3, 1) := dk_33 (dk_at dksX3_sum_3 5 rfl rfl)
theorem dX3_sum_76 : decode cX3_sum 76 = .ok (.lsub, 1) := dk_101 (dk_at dksX3_sum_3 6 rfl rfl)
theorem dX3_sum_77 : decode cX3_sum 77 = .ok (.invokestatic 187, 3) := dk_184 0 187 (dk_at dksX3_sum_3 7 rfl rfl)
theorem dX3_sum_80 : decode cX3_sum 80 = .ok (.istore_n 1, 1) := dk_60 (dk_at dksX3_sum_3 10 rfl rfl)
theorem dX3_sum_81 : decode cX3_sum 81 = .ok (.goto (-76), 3) := dk_167 255 180 (dk_at dksX3_sum_3 11 rfl rfl)
theorem dX3_sum_84 : decode cX3_sum 84 = .ok (.iload_n 1, 1) := dk_27 (dk_at dksX3_sum_3 14 rfl rfl)
theorem dX3_sum_85 : decode cX3_sum 85 = .ok (.ireturn, 1) := dk_172 (dk_at dksX3_sum_3 15 rfl rfl)
abbrev cX3_term : ByteArray := prog_14_method_17_code
def yX3_term : MethodName := ⟨RX3, "term", "()I"⟩
def dkwX3_term_4 : List UInt8 := [27, 172]
abbrev dktX3_term_4 : List UInt8 := dkwX3_term_4 ++ []
def dkwX3_term_3 : List UInt8 := [167, 0, 17, 33, 9, 148, 154, 0, 7, 9, 167, 0, 7, 27, 133, 33, 109, 184, 0, 187, 60, 167, 255, 170]
abbrev dktX3_term_3 : List UInt8 := dkwX3_term_3 ++ dktX3_term_4
def dkwX3_term_2 : List UInt8 := [89, 180, 0, 132, 4, 96, 181, 0, 132, 42, 182, 0, 184, 133, 66, 28, 153, 0, 10, 27, 133, 33, 105]
abbrev dktX3_term_2 : List UInt8 := dkwX3_term_2 ++ dktX3_term_3
def dkwX3_term_1 : List UInt8 := [182, 0, 151, 16, 47, 160, 0, 66, 42, 182, 0, 151, 16, 42, 160, 0, 7, 4, 167, 0, 4, 3, 61, 42]
abbrev dktX3_term_1 : List UInt8 := dkwX3_term_1 ++ dktX3_term_2
def dkwX3_term_0 : List UInt8 := [42, 182, 0, 184, 60, 42, 180, 0, 141, 2, 160, 0, 84, 42, 182, 0, 151, 16, 42, 159, 0, 12, 42]
abbrev dktX3_term_0 : List UInt8 := dkwX3_term_0 ++ dktX3_term_1
theorem dksX3_term_0 : cX3_term.data.toList.drop 0 = dktX3_term_0 := by decide +kernel
theorem dksX3_term_1 : cX3_term.data.toList.drop 23 = dktX3_term_1 := dk_seg dksX3_term_0 23 rfl rfl
theorem dksX3_term_2 : cX3_term.data.toList.drop 47 = dktX3_term_2 := dk_seg dksX3_term_1 24 rfl rfl
theorem dksX3_term_3 : cX3_term.data.toList.drop 70 = dktX3_term_3 := dk_seg dksX3_term_2 23 rfl rfl
theorem dksX3_term_4 : cX3_term.data.toList.drop 94 = dktX3_term_4 := dk_seg dksX3_term_3 24 rfl rfl
theorem dX3_term_0 : decode cX3_term 0 = .ok (.aload_n 0, 1) := dk_42 (dk_at dksX3_term_0 0 rfl rfl)
theorem dX3_term_1 : decode cX3_term 1 = .ok (.invokevirtual 184, 3) := dk_182 0 184 (dk_at dksX3_term_0 1 rfl rfl)
theorem dX3_term_4 : decode cX3_term 4 = .ok (.istore_n 1, 1) := dk_60 (dk_at dksX3_term_0 4 rfl rfl)
theorem dX3_term_5 : decode cX3_term 5 = .ok (.aload_n 0, 1) := dk_42 (dk_at dksX3_term_0 5 rfl rfl)
theorem dX3_term_6 : decode cX3_term 6 = .ok (.getfield 141, 3) := dk_180 0 141 (dk_at dksX3_term_0 6 rfl rfl)
theorem dX3_term_9 : decode cX3_term 9 = .ok (.iconst (-1), 1) := dk_2 (dk_at dksX3_term_0 9 rfl rfl)
theorem dX3_term_10 : decode cX3_term 10 = .ok (.if_icmp .ne 84, 3) := dk_160 0 84 (dk_at dksX3_term_0 10 rfl rfl)
theorem dX3_term_13 : decode cX3_term 13 = .ok (.aload_n 0, 1) := dk_42 (dk_at dksX3_term_0 13 rfl rfl)
theorem dX3_term_14 : decode cX3_term 14 = .ok (.invokevirtual 151, 3) := dk_182 0 151 (dk_at dksX3_term_0 14 rfl rfl)
theorem dX3_term_17 : decode cX3_term 17 = .ok (.bipush 42, 2) := dk_16 42 (dk_at dksX3_term_0 17 rfl rfl)
theorem dX3_term_19 : decode cX3_term 19 = .ok (.if_icmp .eq 12, 3) := dk_159 0 12 (dk_at dksX3_term_0 19 rfl rfl)
theorem dX3_term_22 : decode cX3_term 22 = .ok (.aload_n 0, 1) := dk_42 (dk_at dksX3_term_0 22 rfl rfl)
theorem dX3_term_23 : decode cX3_term 23 = .ok (.invokevirtual 151, 3) := dk_182 0 151 (dk_at dksX3_term_1 0 rfl rfl)
theorem dX3_term_26 : decode cX3_term 26 = .ok (.bipush 47, 2) := dk_16 47 (dk_at dksX3_term_1 3 rfl rfl)
theorem dX3_term_28 : decode cX3_term 28 = .ok (.if_icmp .ne 66, 3) := dk_160 0 66 (dk_at dksX3_term_1 5 rfl rfl)
theorem dX3_term_31 : decode cX3_term 31 = .ok (.aload_n 0, 1) := dk_42 (dk_at dksX3_term_1 8 rfl rfl)
theorem dX3_term_32 : decode cX3_term 32 = .ok (.invokevirtual 151, 3) := dk_182 0 151 (dk_at dksX3_term_1 9 rfl rfl)
theorem dX3_term_35 : decode cX3_term 35 = .ok (.bipush 42, 2) := dk_16 42 (dk_at dksX3_term_1 12 rfl rfl)
theorem dX3_term_37 : decode cX3_term 37 = .ok (.if_icmp .ne 7, 3) := dk_160 0 7 (dk_at dksX3_term_1 14 rfl rfl)
theorem dX3_term_40 : decode cX3_term 40 = .ok (.iconst 1, 1) := dk_4 (dk_at dksX3_term_1 17 rfl rfl)
theorem dX3_term_41 : decode cX3_term 41 = .ok (.goto 4, 3) := dk_167 0 4 (dk_at dksX3_term_1 18 rfl rfl)
theorem dX3_term_44 : decode cX3_term 44 = .ok (.iconst 0, 1) := dk_3 (dk_at dksX3_term_1 21 rfl rfl)
theorem dX3_term_45 : decode cX3_term 45 = .ok (.istore_n 2, 1) := dk_61 (dk_at dksX3_term_1 22 rfl rfl)
theorem dX3_term_46 : decode cX3_term 46 = .ok (.aload_n 0, 1) := dk_42 (dk_at dksX3_term_1 23 rfl rfl)
theorem dX3_term_47 : decode cX3_term 47 = .ok (.dup, 1) := dk_89 (dk_at dksX3_term_2 0 rfl rfl)
theorem dX3_term_48 : decode cX3_term 48 = .ok (.getfield 132, 3) := dk_180 0 132 (dk_at dksX3_term_2 1 rfl rfl)
theorem dX3_term_51 : decode cX3_term 51 = .ok (.iconst 1, 1) := dk_4 (dk_at dksX3_term_2 4 rfl rfl)
theorem dX3_term_52 : decode cX3_term 52 = .ok (.iadd, 1) := dk_96 (dk_at dksX3_term_2 5 rfl rfl)
theorem dX3_term_53 : decode cX3_term 53 = .ok (.putfield 132, 3) := dk_181 0 132 (dk_at dksX3_term_2 6 rfl rfl)
theorem dX3_term_56 : decode cX3_term 56 = .ok (.aload_n 0, 1) := dk_42 (dk_at dksX3_term_2 9 rfl rfl)
theorem dX3_term_57 : decode cX3_term 57 = .ok (.invokevirtual 184, 3) := dk_182 0 184 (dk_at dksX3_term_2 10 rfl rfl)
theorem dX3_term_60 : decode cX3_term 60 = .ok (.i2l, 1) := dk_133 (dk_at dksX3_term_2 13 rfl rfl)
theorem dX3_term_61 : decode cX3_term 61 = .ok (.lstore_n 3, 1) := dk_66 (dk_at dksX3_term_2 14 rfl rfl)
theorem dX3_term_62 : decode cX3_term 62 = .ok (.iload_n 2, 1) := dk_28 (dk_at dksX3_term_2 15 rfl rfl)
theorem dX3_term_63 : decode cX3_term 63 = .ok (.ifCond .eq 10, 3) := dk_153 0 10 (dk_at dksX3_term_2 16 rfl rfl)
theorem dX3_term_66 : decode cX3_term 66 = .ok (.iload_n 1, 1) := dk_27 (dk_at dksX3_term_2 19 rfl rfl)
theorem dX3_term_67 : decode cX3_term 67 = .ok (.i2l, 1) := dk_133 (dk_at dksX3_term_2 20 rfl rfl)
theorem dX3_term_68 : decode cX3_term 68 = .ok (.lload_n 3, 1) := dk_33 (dk_at dksX3_term_2 21 rfl rfl)
theorem dX3_term_69 : decode cX3_term 69 = .ok (.lmul, 1) := dk_105 (dk_at dksX3_term_2 22 rfl rfl)
theorem dX3_term_70 : decode cX3_term 70 = .ok (.goto 17, 3) := dk_167 0 17 (dk_at dksX3_term_3 0 rfl rfl)
theorem dX3_term_73 : decode cX3_term 73 = .ok (.lload_n 3, 1) := dk_33 (dk_at dksX3_term_3 3 rfl rfl)
theorem dX3_term_74 : decode cX3_term 74 = .ok (.lconst 0, 1) := dk_9 (dk_at dksX3_term_3 4 rfl rfl)
theorem dX3_term_75 : decode cX3_term 75 = .ok (.lcmp, 1) := dk_148 (dk_at dksX3_term_3 5 rfl rfl)
theorem dX3_term_76 : decode cX3_term 76 = .ok (.ifCond .ne 7, 3) := dk_154 0 7 (dk_at dksX3_term_3 6 rfl rfl)
theorem dX3_term_79 : decode cX3_term 79 = .ok (.lconst 0, 1) := dk_9 (dk_at dksX3_term_3 9 rfl rfl)
theorem dX3_term_80 : decode cX3_term 80 = .ok (.goto 7, 3) := dk_167 0 7 (dk_at dksX3_term_3 10 rfl rfl)
theorem dX3_term_83 : decode cX3_term 83 = .ok (.iload_n 1, 1) := dk_27 (dk_at dksX3_term_3 13 rfl rfl)
theorem dX3_term_84 : decode cX3_term 84 = .ok (.i2l, 1) := dk_133 (dk_at dksX3_term_3 14 rfl rfl)
theorem dX3_term_85 : decode cX3_term 85 = .ok (.lload_n 3, 1) := dk_33 (dk_at dksX3_term_3 15 rfl rfl)
theorem dX3_term_86 : decode cX3_term 86 = .ok (.ldiv, 1) := dk_109 (dk_at dksX3_term_3 16 rfl rfl)
theorem dX3_term_87 : decode cX3_term 87 = .ok (.invokestatic 187, 3) := dk_184 0 187 (dk_at dksX3_term_3 17 rfl rfl)
theorem dX3_term_90 : decode cX3_term 90 = .ok (.istore_n 1, 1) := dk_60 (dk_at dksX3_term_3 20 rfl rfl)
theorem dX3_term_91 : decode cX3_term 91 = .ok (.goto (-86), 3) := dk_167 255 170 (dk_at dksX3_term_3 21 rfl rfl)
theorem dX3_term_94 : decode cX3_term 94 = .ok (.iload_n 1, 1) := dk_27 (dk_at dksX3_term_4 0 rfl rfl)
theorem dX3_term_95 : decode cX3_term 95 = .ok (.ireturn, 1) := dk_172 (dk_at dksX3_term_4 1 rfl rfl)
abbrev cX3_atom : ByteArray := prog_14_method_16_code
def yX3_atom : MethodName := ⟨RX3, "atom", "()I"⟩
def dkwX3_atom_6 : List UInt8 := [61, 42, 89, 180, 0, 132, 4, 96, 181, 0, 132, 132, 3, 1, 167, 255, 193, 28, 172]
abbrev dktX3_atom_6 : List UInt8 := dkwX3_atom_6 ++ []
def dkwX3_atom_5 : List UInt8 := [3, 172, 16, 10, 28, 104, 42, 180, 0, 23, 42, 180, 0, 138, 42, 180, 0, 132, 96, 51, 96, 16, 48, 100]
abbrev dktX3_atom_5 : List UInt8 := dkwX3_atom_5 ++ dktX3_atom_6
def dkwX3_atom_4 : List UInt8 := [182, 0, 181, 153, 0, 62, 42, 180, 0, 141, 2, 160, 0, 54, 29, 7, 160, 0, 10, 42, 182, 0, 147, 87]
abbrev dktX3_atom_4 : List UInt8 := dkwX3_atom_4 ++ dktX3_atom_5
def dkwX3_atom_3 : List UInt8 := [181, 0, 144, 28, 172, 42, 182, 0, 181, 154, 0, 8, 42, 182, 0, 147, 87, 3, 61, 3, 62, 42]
abbrev dktX3_atom_3 : List UInt8 := dkwX3_atom_3 ++ dktX3_atom_4
def dkwX3_atom_2 : List UInt8 := [182, 0, 174, 61, 42, 16, 93, 182, 0, 177, 154, 0, 5, 3, 172, 42, 89, 180, 0, 144, 4, 100]
abbrev dktX3_atom_2 : List UInt8 := dkwX3_atom_2 ++ dktX3_atom_3
def dkwX3_atom_1 : List UInt8 := [42, 180, 0, 20, 27, 46, 172, 27, 16, 91, 160, 0, 40, 42, 182, 0, 171, 154, 0, 5, 3, 172, 42]
abbrev dktX3_atom_1 : List UInt8 := dkwX3_atom_1 ++ dktX3_atom_2
def dkwX3_atom_0 : List UInt8 := [42, 182, 0, 151, 60, 18, 32, 27, 184, 0, 167, 153, 0, 20, 42, 89, 180, 0, 132, 4, 96, 181, 0, 132]
abbrev dktX3_atom_0 : List UInt8 := dkwX3_atom_0 ++ dktX3_atom_1
theorem dksX3_atom_0 : cX3_atom.data.toList.drop 0 = dktX3_atom_0 := by decide +kernel
theorem dksX3_atom_1 : cX3_atom.data.toList.drop 24 = dktX3_atom_1 := dk_seg dksX3_atom_0 24 rfl rfl
theorem dksX3_atom_2 : cX3_atom.data.toList.drop 47 = dktX3_atom_2 := dk_seg dksX3_atom_1 23 rfl rfl
theorem dksX3_atom_3 : cX3_atom.data.toList.drop 69 = dktX3_atom_3 := dk_seg dksX3_atom_2 22 rfl rfl
theorem dksX3_atom_4 : cX3_atom.data.toList.drop 91 = dktX3_atom_4 := dk_seg dksX3_atom_3 22 rfl rfl
theorem dksX3_atom_5 : cX3_atom.data.toList.drop 115 = dktX3_atom_5 := dk_seg dksX3_atom_4 24 rfl rfl
theorem dksX3_atom_6 : cX3_atom.data.toList.drop 139 = dktX3_atom_6 := dk_seg dksX3_atom_5 24 rfl rfl
theorem dX3_atom_0 : decode cX3_atom 0 = .ok (.aload_n 0, 1) := dk_42 (dk_at dksX3_atom_0 0 rfl rfl)
theorem dX3_atom_1 : decode cX3_atom 1 = .ok (.invokevirtual 151, 3) := dk_182 0 151 (dk_at dksX3_atom_0 1 rfl rfl)
theorem dX3_atom_4 : decode cX3_atom 4 = .ok (.istore_n 1, 1) := dk_60 (dk_at dksX3_atom_0 4 rfl rfl)
theorem dX3_atom_5 : decode cX3_atom 5 = .ok (.ldc 32, 2) := dk_18 32 (dk_at dksX3_atom_0 5 rfl rfl)
theorem dX3_atom_7 : decode cX3_atom 7 = .ok (.iload_n 1, 1) := dk_27 (dk_at dksX3_atom_0 7 rfl rfl)
theorem dX3_atom_8 : decode cX3_atom 8 = .ok (.invokestatic 167, 3) := dk_184 0 167 (dk_at dksX3_atom_0 8 rfl rfl)
theorem dX3_atom_11 : decode cX3_atom 11 = .ok (.ifCond .eq 20, 3) := dk_153 0 20 (dk_at dksX3_atom_0 11 rfl rfl)
theorem dX3_atom_14 : decode cX3_atom 14 = .ok (.aload_n 0, 1) := dk_42 (dk_at dksX3_atom_0 14 rfl rfl)
theorem dX3_atom_15 : decode cX3_atom 15 = .ok (.dup, 1) := dk_89 (dk_at dksX3_atom_0 15 rfl rfl)
theorem dX3_atom_16 : decode cX3_atom 16 = .ok (.getfield 132, 3) := dk_180 0 132 (dk_at dksX3_atom_0 16 rfl rfl)
theorem dX3_atom_19 : decode cX3_atom 19 = .ok (.iconst 1, 1) := dk_4 (dk_at dksX3_atom_0 19 rfl rfl)
theorem dX3_atom_20 : decode cX3_atom 20 = .ok (.iadd, 1) := dk_96 (dk_at dksX3_atom_0 20 rfl rfl)
theorem dX3_atom_21 : decode cX3_atom 21 = .ok (.putfield 132, 3) := dk_181 0 132 (dk_at dksX3_atom_0 21 rfl rfl)
theorem dX3_atom_24 : decode cX3_atom 24 = .ok (.aload_n 0, 1) := dk_42 (dk_at dksX3_atom_1 0 rfl rfl)
theorem dX3_atom_25 : decode cX3_atom 25 = .ok (.getfield 20, 3) := dk_180 0 20 (dk_at dksX3_atom_1 1 rfl rfl)
theorem dX3_atom_28 : decode cX3_atom 28 = .ok (.iload_n 1, 1) := dk_27 (dk_at dksX3_atom_1 4 rfl rfl)
theorem dX3_atom_29 : decode cX3_atom 29 = .ok (.iaload, 1) := dk_46 (dk_at dksX3_atom_1 5 rfl rfl)
theorem dX3_atom_30 : decode cX3_atom 30 = .ok (.ireturn, 1) := dk_172 (dk_at dksX3_atom_1 6 rfl rfl)
theorem dX3_atom_31 : decode cX3_atom 31 = .ok (.iload_n 1, 1) := dk_27 (dk_at dksX3_atom_1 7 rfl rfl)
theorem dX3_atom_32 : decode cX3_atom 32 = .ok (.bipush 91, 2) := dk_16 91 (dk_at dksX3_atom_1 8 rfl rfl)
theorem dX3_atom_34 : decode cX3_atom 34 = .ok (.if_icmp .ne 40, 3) := dk_160 0 40 (dk_at dksX3_atom_1 10 rfl rfl)
theorem dX3_atom_37 : decode cX3_atom 37 = .ok (.aload_n 0, 1) := dk_42 (dk_at dksX3_atom_1 13 rfl rfl)
theorem dX3_atom_38 : decode cX3_atom 38 = .ok (.invokevirtual 171, 3) := dk_182 0 171 (dk_at dksX3_atom_1 14 rfl rfl)
theorem dX3_atom_41 : decode cX3_atom 41 = .ok (.ifCond .ne 5, 3) := dk_154 0 5 (dk_at dksX3_atom_1 17 rfl rfl)
theorem dX3_atom_44 : decode cX3_atom 44 = .ok (.iconst 0, 1) := dk_3 (dk_at dksX3_atom_1 20 rfl rfl)
theorem dX3_atom_45 : decode cX3_atom 45 = .ok (.ireturn, 1) := dk_172 (dk_at dksX3_atom_1 21 rfl rfl)
theorem dX3_atom_46 : decode cX3_atom 46 = .ok (.aload_n 0, 1) := dk_42 (dk_at dksX3_atom_1 22 rfl rfl)
theorem dX3_atom_47 : decode cX3_atom 47 = .ok (.invokevirtual 174, 3) := dk_182 0 174 (dk_at dksX3_atom_2 0 rfl rfl)
theorem dX3_atom_50 : decode cX3_atom 50 = .ok (.istore_n 2, 1) := dk_61 (dk_at dksX3_atom_2 3 rfl rfl)
theorem dX3_atom_51 : decode cX3_atom 51 = .ok (.aload_n 0, 1) := dk_42 (dk_at dksX3_atom_2 4 rfl rfl)
theorem dX3_atom_52 : decode cX3_atom 52 = .ok (.bipush 93, 2) := dk_16 93 (dk_at dksX3_atom_2 5 rfl rfl)
theorem dX3_atom_54 : decode cX3_atom 54 = .ok (.invokevirtual 177, 3) := dk_182 0 177 (dk_at dksX3_atom_2 7 rfl rfl)
theorem dX3_atom_57 : decode cX3_atom 57 = .ok (.ifCond .ne 5, 3) := dk_154 0 5 (dk_at dksX3_atom_2 10 rfl rfl)
theorem dX3_atom_60 : decode cX3_atom 60 = .ok (.iconst 0, 1) := dk_3 (dk_at dksX3_atom_2 13 rfl rfl)
theorem dX3_atom_61 : decode cX3_atom 61 = .ok (.ireturn, 1) := dk_172 (dk_at dksX3_atom_2 14 rfl rfl)
theorem dX3_atom_62 : decode cX3_atom 62 = .ok (.aload_n 0, 1) := dk_42 (dk_at dksX3_atom_2 15 rfl rfl)
theorem dX3_atom_63 : decode cX3_atom 63 = .ok (.dup, 1) := dk_89 (dk_at dksX3_atom_2 16 rfl rfl)
theorem dX3_atom_64 : decode cX3_atom 64 = .ok (.getfield 144, 3) := dk_180 0 144 (dk_at dksX3_atom_2 17 rfl rfl)
theorem dX3_atom_67 : decode cX3_atom 67 = .ok (.iconst 1, 1) := dk_4 (dk_at dksX3_atom_2 20 rfl rfl)
theorem dX3_atom_68 : decode cX3_atom 68 = .ok (.isub, 1) := dk_100 (dk_at dksX3_atom_2 21 rfl rfl)
theorem dX3_atom_69 : decode cX3_atom 69 = .ok (.putfield 144, 3) := dk_181 0 144 (dk_at dksX3_atom_3 0 rfl rfl)
theorem dX3_atom_72 : decode cX3_atom 72 = .ok (.iload_n 2, 1) := dk_28 (dk_at dksX3_atom_3 3 rfl rfl)
theorem dX3_atom_73 : decode cX3_atom 73 = .ok (.ireturn, 1) := dk_172 (dk_at dksX3_atom_3 4 rfl rfl)
theorem dX3_atom_74 : decode cX3_atom 74 = .ok (.aload_n 0, 1) := dk_42 (dk_at dksX3_atom_3 5 rfl rfl)
theorem dX3_atom_75 : decode cX3_atom 75 = .ok (.invokevirtual 181, 3) := dk_182 0 181 (dk_at dksX3_atom_3 6 rfl rfl)
theorem dX3_atom_78 : decode cX3_atom 78 = .ok (.ifCond .ne 8, 3) := dk_154 0 8 (dk_at dksX3_atom_3 9 rfl rfl)
theorem dX3_atom_81 : decode cX3_atom 81 = .ok (.aload_n 0, 1) := dk_42 (dk_at dksX3_atom_3 12 rfl rfl)
theorem dX3_atom_82 : decode cX3_atom 82 = .ok (.invokevirtual 147, 3) := dk_182 0 147 (dk_at dksX3_atom_3 13 rfl rfl)
theorem dX3_atom_85 : decode cX3_atom 85 = .ok (.pop, 1) := dk_87 (dk_at dksX3_atom_3 16 rfl rfl)
theorem dX3_atom_86 : decode cX3_atom 86 = .ok (.iconst 0, 1) := dk_3 (dk_at dksX3_atom_3 17 rfl rfl)
theorem dX3_atom_87 : decode cX3_atom 87 = .ok (.istore_n 2, 1) := dk_61 (dk_at dksX3_atom_3 18 rfl rfl)
theorem dX3_atom_88 : decode cX3_atom 88 = .ok (.iconst 0, 1) := dk_3 (dk_at dksX3_atom_3 19 rfl rfl)
theorem dX3_atom_89 : decode cX3_atom 89 = .ok (.istore_n 3, 1) := dk_62 (dk_at dksX3_atom_3 20 rfl rfl)
theorem dX3_atom_90 : decode cX3_atom 90 = .ok (.aload_n 0, 1) := dk_42 (dk_at dksX3_atom_3 21 rfl rfl)
theorem dX3_atom_91 : decode cX3_atom 91 = .ok (.invokevirtual 181, 3) := dk_182 0 181 (dk_at dksX3_atom_4 0 rfl rfl)
theorem dX3_atom_94 : decode cX3_atom 94 = .ok (.ifCond .eq 62, 3) := dk_153 0 62 (dk_at dksX3_atom_4 3 rfl rfl)
theorem dX3_atom_97 : decode cX3_atom 97 = .ok (.aload_n 0, 1) := dk_42 (dk_at dksX3_atom_4 6 rfl rfl)
theorem dX3_atom_98 : decode cX3_atom 98 = .ok (.getfield 141, 3) := dk_180 0 141 (dk_at dksX3_atom_4 7 rfl rfl)
theorem dX3_atom_101 : decode cX3_atom 101 = .ok (.iconst (-1), 1) := dk_2 (dk_at dksX3_atom_4 10 rfl rfl)
theorem dX3_atom_102 : decode cX3_atom 102 = .ok (.if_icmp .ne 54, 3) := dk_160 0 54 (dk_at dksX3_atom_4 11 rfl rfl)
theorem dX3_atom_105 : decode cX3_atom 105 = .ok (.iload_n 3, 1) := dk_29 (dk_at dksX3_atom_4 14 rfl rfl)
theorem dX3_atom_106 : decode cX3_atom 106 = .ok (.iconst 4, 1) := dk_7 (dk_at dksX3_atom_4 15 rfl rfl)
theorem dX3_atom_107 : decode cX3_atom 107 = .ok (.if_icmp .ne 10, 3) := dk_160 0 10 (dk_at dksX3_atom_4 16 rfl rfl)
theorem dX3_atom_110 : decode cX3_atom 110 = .ok (.aload_n 0, 1) := dk_42 (dk_at dksX3_atom_4 19 rfl rfl)
theorem dX3_atom_111 : decode cX3_atom 111 = .ok (.invokevirtual 147, 3) := dk_182 0 147 (dk_at dksX3_atom_4 20 rfl rfl)
theorem dX3_atom_114 : decode cX3_atom 114 = .ok (.pop, 1) := dk_87 (dk_at dksX3_atom_4 23 rfl rfl)
theorem dX3_atom_115 : decode cX3_atom 115 = .ok (.iconst 0, 1) := dk_3 (dk_at dksX3_atom_5 0 rfl rfl)
theorem dX3_atom_116 : decode cX3_atom 116 = .ok (.ireturn, 1) := dk_172 (dk_at dksX3_atom_5 1 rfl rfl)
theorem dX3_atom_117 : decode cX3_atom 117 = .ok (.bipush 10, 2) := dk_16 10 (dk_at dksX3_atom_5 2 rfl rfl)
theorem dX3_atom_119 : decode cX3_atom 119 = .ok (.iload_n 2, 1) := dk_28 (dk_at dksX3_atom_5 4 rfl rfl)
theorem dX3_atom_120 : decode cX3_atom 120 = .ok (.imul, 1) := dk_104 (dk_at dksX3_atom_5 5 rfl rfl)
theorem dX3_atom_121 : decode cX3_atom 121 = .ok (.aload_n 0, 1) := dk_42 (dk_at dksX3_atom_5 6 rfl rfl)
theorem dX3_atom_122 : decode cX3_atom 122 = .ok (.getfield 23, 3) := dk_180 0 23 (dk_at dksX3_atom_5 7 rfl rfl)
theorem dX3_atom_125 : decode cX3_atom 125 = .ok (.aload_n 0, 1) := dk_42 (dk_at dksX3_atom_5 10 rfl rfl)
theorem dX3_atom_126 : decode cX3_atom 126 = .ok (.getfield 138, 3) := dk_180 0 138 (dk_at dksX3_atom_5 11 rfl rfl)
theorem dX3_atom_129 : decode cX3_atom 129 = .ok (.aload_n 0, 1) := dk_42 (dk_at dksX3_atom_5 14 rfl rfl)
theorem dX3_atom_130 : decode cX3_atom 130 = .ok (.getfield 132, 3) := dk_180 0 132 (dk_at dksX3_atom_5 15 rfl rfl)
theorem dX3_atom_133 : decode cX3_atom 133 = .ok (.iadd, 1) := dk_96 (dk_at dksX3_atom_5 18 rfl rfl)
theorem dX3_atom_134 : decode cX3_atom 134 = .ok (.baload, 1) := dk_51 (dk_at dksX3_atom_5 19 rfl rfl)
theorem dX3_atom_135 : decode cX3_atom 135 = .ok (.iadd, 1) := dk_96 (dk_at dksX3_atom_5 20 rfl rfl)
theorem dX3_atom_136 : decode cX3_atom 136 = .ok (.bipush 48, 2) := dk_16 48 (dk_at dksX3_atom_5 21 rfl rfl)
theorem dX3_atom_138 : decode cX3_atom 138 = .ok (.isub, 1) := dk_100 (dk_at dksX3_atom_5 23 rfl rfl)
theorem dX3_atom_139 : decode cX3_atom 139 = .ok (.istore_n 2, 1) := dk_61 (dk_at dksX3_atom_6 0 rfl rfl)
theorem dX3_atom_140 : decode cX3_atom 140 = .ok (.aload_n 0, 1) := dk_42 (dk_at dksX3_atom_6 1 rfl rfl)
theorem dX3_atom_141 : decode cX3_atom 141 = .ok (.dup, 1) := dk_89 (dk_at dksX3_atom_6 2 rfl rfl)
theorem dX3_atom_142 : decode cX3_atom 142 = .ok (.getfield 132, 3) := dk_180 0 132 (dk_at dksX3_atom_6 3 rfl rfl)
theorem dX3_atom_145 : decode cX3_atom 145 = .ok (.iconst 1, 1) := dk_4 (dk_at dksX3_atom_6 6 rfl rfl)
theorem dX3_atom_146 : decode cX3_atom 146 = .ok (.iadd, 1) := dk_96 (dk_at dksX3_atom_6 7 rfl rfl)
theorem dX3_atom_147 : decode cX3_atom 147 = .ok (.putfield 132, 3) := dk_181 0 132 (dk_at dksX3_atom_6 8 rfl rfl)
theorem dX3_atom_150 : decode cX3_atom 150 = .ok (.iinc 3 1, 3) := dk_132 3 1 (dk_at dksX3_atom_6 11 rfl rfl)
theorem dX3_atom_153 : decode cX3_atom 153 = .ok (.goto (-63), 3) := dk_167 255 193 (dk_at dksX3_atom_6 14 rfl rfl)
theorem dX3_atom_156 : decode cX3_atom 156 = .ok (.iload_n 2, 1) := dk_28 (dk_at dksX3_atom_6 17 rfl rfl)
theorem dX3_atom_157 : decode cX3_atom 157 = .ok (.ireturn, 1) := dk_172 (dk_at dksX3_atom_6 18 rfl rfl)
abbrev cX3_goesIn : ByteArray := prog_14_method_12_code
def yX3_goesIn : MethodName := ⟨RX3, "goesIn", "()Z"⟩
def dkwX3_goesIn_1 : List UInt8 := [42, 89, 180, 0, 132, 4, 96, 181, 0, 132, 4, 172]
abbrev dktX3_goesIn_1 : List UInt8 := dkwX3_goesIn_1 ++ []
def dkwX3_goesIn_0 : List UInt8 := [42, 180, 0, 144, 16, 6, 160, 0, 8, 42, 182, 0, 147, 172, 42, 89, 180, 0, 144, 4, 96, 181, 0, 144]
abbrev dktX3_goesIn_0 : List UInt8 := dkwX3_goesIn_0 ++ dktX3_goesIn_1
theorem dksX3_goesIn_0 : cX3_goesIn.data.toList.drop 0 = dktX3_goesIn_0 := by decide +kernel
theorem dksX3_goesIn_1 : cX3_goesIn.data.toList.drop 24 = dktX3_goesIn_1 := dk_seg dksX3_goesIn_0 24 rfl rfl
theorem dX3_goesIn_0 : decode cX3_goesIn 0 = .ok (.aload_n 0, 1) := dk_42 (dk_at dksX3_goesIn_0 0 rfl rfl)
theorem dX3_goesIn_1 : decode cX3_goesIn 1 = .ok (.getfield 144, 3) := dk_180 0 144 (dk_at dksX3_goesIn_0 1 rfl rfl)
theorem dX3_goesIn_4 : decode cX3_goesIn 4 = .ok (.bipush 6, 2) := dk_16 6 (dk_at dksX3_goesIn_0 4 rfl rfl)
theorem dX3_goesIn_6 : decode cX3_goesIn 6 = .ok (.if_icmp .ne 8, 3) := dk_160 0 8 (dk_at dksX3_goesIn_0 6 rfl rfl)
theorem dX3_goesIn_9 : decode cX3_goesIn 9 = .ok (.aload_n 0, 1) := dk_42 (dk_at dksX3_goesIn_0 9 rfl rfl)
theorem dX3_goesIn_10 : decode cX3_goesIn 10 = .ok (.invokevirtual 147, 3) := dk_182 0 147 (dk_at dksX3_goesIn_0 10 rfl rfl)
theorem dX3_goesIn_13 : decode cX3_goesIn 13 = .ok (.ireturn, 1) := dk_172 (dk_at dksX3_goesIn_0 13 rfl rfl)
theorem dX3_goesIn_14 : decode cX3_goesIn 14 = .ok (.aload_n 0, 1) := dk_42 (dk_at dksX3_goesIn_0 14 rfl rfl)
theorem dX3_goesIn_15 : decode cX3_goesIn 15 = .ok (.dup, 1) := dk_89 (dk_at dksX3_goesIn_0 15 rfl rfl)
theorem dX3_goesIn_16 : decode cX3_goesIn 16 = .ok (.getfield 144, 3) := dk_180 0 144 (dk_at dksX3_goesIn_0 16 rfl rfl)
theorem dX3_goesIn_19 : decode cX3_goesIn 19 = .ok (.iconst 1, 1) := dk_4 (dk_at dksX3_goesIn_0 19 rfl rfl)
theorem dX3_goesIn_20 : decode cX3_goesIn 20 = .ok (.iadd, 1) := dk_96 (dk_at dksX3_goesIn_0 20 rfl rfl)
theorem dX3_goesIn_21 : decode cX3_goesIn 21 = .ok (.putfield 144, 3) := dk_181 0 144 (dk_at dksX3_goesIn_0 21 rfl rfl)
theorem dX3_goesIn_24 : decode cX3_goesIn 24 = .ok (.aload_n 0, 1) := dk_42 (dk_at dksX3_goesIn_1 0 rfl rfl)
theorem dX3_goesIn_25 : decode cX3_goesIn 25 = .ok (.dup, 1) := dk_89 (dk_at dksX3_goesIn_1 1 rfl rfl)
theorem dX3_goesIn_26 : decode cX3_goesIn 26 = .ok (.getfield 132, 3) := dk_180 0 132 (dk_at dksX3_goesIn_1 2 rfl rfl)
theorem dX3_goesIn_29 : decode cX3_goesIn 29 = .ok (.iconst 1, 1) := dk_4 (dk_at dksX3_goesIn_1 5 rfl rfl)
theorem dX3_goesIn_30 : decode cX3_goesIn 30 = .ok (.iadd, 1) := dk_96 (dk_at dksX3_goesIn_1 6 rfl rfl)
theorem dX3_goesIn_31 : decode cX3_goesIn 31 = .ok (.putfield 132, 3) := dk_181 0 132 (dk_at dksX3_goesIn_1 7 rfl rfl)
theorem dX3_goesIn_34 : decode cX3_goesIn 34 = .ok (.iconst 1, 1) := dk_4 (dk_at dksX3_goesIn_1 10 rfl rfl)
theorem dX3_goesIn_35 : decode cX3_goesIn 35 = .ok (.ireturn, 1) := dk_172 (dk_at dksX3_goesIn_1 11 rfl rfl)
abbrev cX3_within : ByteArray := prog_14_method_15_code
def yX3_within : MethodName := ⟨RX3, "within", "(J)I"⟩
def dkwX3_within_0 : List UInt8 := [20, 0, 154, 20, 0, 156, 30, 184, 0, 158, 184, 0, 164, 136, 172]
abbrev dktX3_within_0 : List UInt8 := dkwX3_within_0 ++ []
theorem dksX3_within_0 : cX3_within.data.toList.drop 0 = dktX3_within_0 := by decide +kernel
theorem dX3_within_0 : decode cX3_within 0 = .ok (.ldc2_w 154, 3) := dk_20 0 154 (dk_at dksX3_within_0 0 rfl rfl)
theorem dX3_within_3 : decode cX3_within 3 = .ok (.ldc2_w 156, 3) := dk_20 0 156 (dk_at dksX3_within_0 3 rfl rfl)
theorem dX3_within_6 : decode cX3_within 6 = .ok (.lload_n 0, 1) := dk_30 (dk_at dksX3_within_0 6 rfl rfl)
theorem dX3_within_7 : decode cX3_within 7 = .ok (.invokestatic 158, 3) := dk_184 0 158 (dk_at dksX3_within_0 7 rfl rfl)
theorem dX3_within_10 : decode cX3_within 10 = .ok (.invokestatic 164, 3) := dk_184 0 164 (dk_at dksX3_within_0 10 rfl rfl)
theorem dX3_within_13 : decode cX3_within 13 = .ok (.l2i, 1) := dk_136 (dk_at dksX3_within_0 13 rfl rfl)
theorem dX3_within_14 : decode cX3_within 14 = .ok (.ireturn, 1) := dk_172 (dk_at dksX3_within_0 14 rfl rfl)
abbrev cX3_isSign : ByteArray := prog_14_method_19_code
def yX3_isSign : MethodName := ⟨RX3, "isSign", "(I)Z"⟩
def dkwX3_isSign_0 : List UInt8 := [26, 16, 61, 159, 0, 15, 26, 16, 60, 159, 0, 9, 26, 16, 62, 160, 0, 7, 4, 167, 0, 4, 3, 172]
abbrev dktX3_isSign_0 : List UInt8 := dkwX3_isSign_0 ++ []
theorem dksX3_isSign_0 : cX3_isSign.data.toList.drop 0 = dktX3_isSign_0 := by decide +kernel
theorem dX3_isSign_0 : decode cX3_isSign 0 = .ok (.iload_n 0, 1) := dk_26 (dk_at dksX3_isSign_0 0 rfl rfl)
theorem dX3_isSign_1 : decode cX3_isSign 1 = .ok (.bipush 61, 2) := dk_16 61 (dk_at dksX3_isSign_0 1 rfl rfl)
theorem dX3_isSign_3 : decode cX3_isSign 3 = .ok (.if_icmp .eq 15, 3) := dk_159 0 15 (dk_at dksX3_isSign_0 3 rfl rfl)
theorem dX3_isSign_6 : decode cX3_isSign 6 = .ok (.iload_n 0, 1) := dk_26 (dk_at dksX3_isSign_0 6 rfl rfl)
theorem dX3_isSign_7 : decode cX3_isSign 7 = .ok (.bipush 60, 2) := dk_16 60 (dk_at dksX3_isSign_0 7 rfl rfl)
theorem dX3_isSign_9 : decode cX3_isSign 9 = .ok (.if_icmp .eq 9, 3) := dk_159 0 9 (dk_at dksX3_isSign_0 9 rfl rfl)
theorem dX3_isSign_12 : decode cX3_isSign 12 = .ok (.iload_n 0, 1) := dk_26 (dk_at dksX3_isSign_0 12 rfl rfl)
theorem dX3_isSign_13 : decode cX3_isSign 13 = .ok (.bipush 62, 2) := dk_16 62 (dk_at dksX3_isSign_0 13 rfl rfl)
theorem dX3_isSign_15 : decode cX3_isSign 15 = .ok (.if_icmp .ne 7, 3) := dk_160 0 7 (dk_at dksX3_isSign_0 15 rfl rfl)
theorem dX3_isSign_18 : decode cX3_isSign 18 = .ok (.iconst 1, 1) := dk_4 (dk_at dksX3_isSign_0 18 rfl rfl)
theorem dX3_isSign_19 : decode cX3_isSign 19 = .ok (.goto 4, 3) := dk_167 0 4 (dk_at dksX3_isSign_0 19 rfl rfl)
theorem dX3_isSign_22 : decode cX3_isSign 22 = .ok (.iconst 0, 1) := dk_3 (dk_at dksX3_isSign_0 22 rfl rfl)
theorem dX3_isSign_23 : decode cX3_isSign 23 = .ok (.ireturn, 1) := dk_172 (dk_at dksX3_isSign_0 23 rfl rfl)
abbrev cX3_unit : ByteArray := prog_14_method_21_code
def yX3_unit : MethodName := ⟨RX3, "unit", "()Z"⟩
def dkwX3_unit_4 : List UInt8 := [182, 0, 204, 172]
abbrev dktX3_unit_4 : List UInt8 := dkwX3_unit_4 ++ []
def dkwX3_unit_3 : List UInt8 := [182, 0, 177, 154, 0, 5, 3, 172, 42, 89, 180, 0, 144, 4, 100, 181, 0, 144, 28, 172, 42, 3, 3]
abbrev dktX3_unit_3 : List UInt8 := dkwX3_unit_3 ++ dktX3_unit_4
def dkwX3_unit_2 : List UInt8 := [160, 0, 42, 42, 182, 0, 171, 154, 0, 5, 3, 172, 42, 3, 3, 182, 0, 200, 61, 42, 16, 41]
abbrev dktX3_unit_2 : List UInt8 := dkwX3_unit_2 ++ dktX3_unit_3
def dkwX3_unit_1 : List UInt8 := [61, 42, 89, 180, 0, 144, 4, 100, 181, 0, 144, 28, 154, 0, 7, 4, 167, 0, 4, 3, 172, 27, 16, 40]
abbrev dktX3_unit_1 : List UInt8 := dkwX3_unit_1 ++ dktX3_unit_2
def dkwX3_unit_0 : List UInt8 := [42, 182, 0, 151, 60, 27, 16, 33, 160, 0, 37, 42, 182, 0, 171, 154, 0, 5, 3, 172, 42, 182, 0, 197]
abbrev dktX3_unit_0 : List UInt8 := dkwX3_unit_0 ++ dktX3_unit_1
theorem dksX3_unit_0 : cX3_unit.data.toList.drop 0 = dktX3_unit_0 := by decide +kernel
theorem dksX3_unit_1 : cX3_unit.data.toList.drop 24 = dktX3_unit_1 := dk_seg dksX3_unit_0 24 rfl rfl
theorem dksX3_unit_2 : cX3_unit.data.toList.drop 48 = dktX3_unit_2 := dk_seg dksX3_unit_1 24 rfl rfl
theorem dksX3_unit_3 : cX3_unit.data.toList.drop 70 = dktX3_unit_3 := dk_seg dksX3_unit_2 22 rfl rfl
theorem dksX3_unit_4 : cX3_unit.data.toList.drop 93 = dktX3_unit_4 := dk_seg dksX3_unit_3 23 rfl rfl
theorem dX3_unit_0 : decode cX3_unit 0 = .ok (.aload_n 0, 1) := dk_42 (dk_at dksX3_unit_0 0 rfl rfl)
theorem dX3_unit_1 : decode cX3_unit 1 = .ok (.invokevirtual 151, 3) := dk_182 0 151 (dk_at dksX3_unit_0 1 rfl rfl)
theorem dX3_unit_4 : decode cX3_unit 4 = .ok (.istore_n 1, 1) := dk_60 (dk_at dksX3_unit_0 4 rfl rfl)
theorem dX3_unit_5 : decode cX3_unit 5 = .ok (.iload_n 1, 1) := dk_27 (dk_at dksX3_unit_0 5 rfl rfl)
theorem dX3_unit_6 : decode cX3_unit 6 = .ok (.bipush 33, 2) := dk_16 33 (dk_at dksX3_unit_0 6 rfl rfl)
theorem dX3_unit_8 : decode cX3_unit 8 = .ok (.if_icmp .ne 37, 3) := dk_160 0 37 (dk_at dksX3_unit_0 8 rfl rfl)
theorem dX3_unit_11 : decode cX3_unit 11 = .ok (.aload_n 0, 1) := dk_42 (dk_at dksX3_unit_0 11 rfl rfl)
theorem dX3_unit_12 : decode cX3_unit 12 = .ok (.invokevirtual 171, 3) := dk_182 0 171 (dk_at dksX3_unit_0 12 rfl rfl)
theorem dX3_unit_15 : decode cX3_unit 15 = .ok (.ifCond .ne 5, 3) := dk_154 0 5 (dk_at dksX3_unit_0 15 rfl rfl)
theorem dX3_unit_18 : decode cX3_unit 18 = .ok (.iconst 0, 1) := dk_3 (dk_at dksX3_unit_0 18 rfl rfl)
theorem dX3_unit_19 : decode cX3_unit 19 = .ok (.ireturn, 1) := dk_172 (dk_at dksX3_unit_0 19 rfl rfl)
theorem dX3_unit_20 : decode cX3_unit 20 = .ok (.aload_n 0, 1) := dk_42 (dk_at dksX3_unit_0 20 rfl rfl)
theorem dX3_unit_21 : decode cX3_unit 21 = .ok (.invokevirtual 197, 3) := dk_182 0 197 (dk_at dksX3_unit_0 21 rfl rfl)
theorem dX3_unit_24 : decode cX3_unit 24 = .ok (.istore_n 2, 1) := dk_61 (dk_at dksX3_unit_1 0 rfl rfl)
theorem dX3_unit_25 : decode cX3_unit 25 = .ok (.aload_n 0, 1) := dk_42 (dk_at dksX3_unit_1 1 rfl rfl)
theorem dX3_unit_26 : decode cX3_unit 26 = .ok (.dup, 1) := dk_89 (dk_at dksX3_unit_1 2 rfl rfl)
theorem dX3_unit_27 : decode cX3_unit 27 = .ok (.getfield 144, 3) := dk_180 0 144 (dk_at dksX3_unit_1 3 rfl rfl)
theorem dX3_unit_30 : decode cX3_unit 30 = .ok (.iconst 1, 1) := dk_4 (dk_at dksX3_unit_1 6 rfl rfl)
theorem dX3_unit_31 : decode cX3_unit 31 = .ok (.isub, 1) := dk_100 (dk_at dksX3_unit_1 7 rfl rfl)
theorem dX3_unit_32 : decode cX3_unit 32 = .ok (.putfield 144, 3) := dk_181 0 144 (dk_at dksX3_unit_1 8 rfl rfl)
theorem dX3_unit_35 : decode cX3_unit 35 = .ok (.iload_n 2, 1) := dk_28 (dk_at dksX3_unit_1 11 rfl rfl)
theorem dX3_unit_36 : decode cX3_unit 36 = .ok (.ifCond .ne 7, 3) := dk_154 0 7 (dk_at dksX3_unit_1 12 rfl rfl)
theorem dX3_unit_39 : decode cX3_unit 39 = .ok (.iconst 1, 1) := dk_4 (dk_at dksX3_unit_1 15 rfl rfl)
theorem dX3_unit_40 : decode cX3_unit 40 = .ok (.goto 4, 3) := dk_167 0 4 (dk_at dksX3_unit_1 16 rfl rfl)
theorem dX3_unit_43 : decode cX3_unit 43 = .ok (.iconst 0, 1) := dk_3 (dk_at dksX3_unit_1 19 rfl rfl)
theorem dX3_unit_44 : decode cX3_unit 44 = .ok (.ireturn, 1) := dk_172 (dk_at dksX3_unit_1 20 rfl rfl)
theorem dX3_unit_45 : decode cX3_unit 45 = .ok (.iload_n 1, 1) := dk_27 (dk_at dksX3_unit_1 21 rfl rfl)
theorem dX3_unit_46 : decode cX3_unit 46 = .ok (.bipush 40, 2) := dk_16 40 (dk_at dksX3_unit_1 22 rfl rfl)
theorem dX3_unit_48 : decode cX3_unit 48 = .ok (.if_icmp .ne 42, 3) := dk_160 0 42 (dk_at dksX3_unit_2 0 rfl rfl)
theorem dX3_unit_51 : decode cX3_unit 51 = .ok (.aload_n 0, 1) := dk_42 (dk_at dksX3_unit_2 3 rfl rfl)
theorem dX3_unit_52 : decode cX3_unit 52 = .ok (.invokevirtual 171, 3) := dk_182 0 171 (dk_at dksX3_unit_2 4 rfl rfl)
theorem dX3_unit_55 : decode cX3_unit 55 = .ok (.ifCond .ne 5, 3) := dk_154 0 5 (dk_at dksX3_unit_2 7 rfl rfl)
theorem dX3_unit_58 : decode cX3_unit 58 = .ok (.iconst 0, 1) := dk_3 (dk_at dksX3_unit_2 10 rfl rfl)
theorem dX3_unit_59 : decode cX3_unit 59 = .ok (.ireturn, 1) := dk_172 (dk_at dksX3_unit_2 11 rfl rfl)
theorem dX3_unit_60 : decode cX3_unit 60 = .ok (.aload_n 0, 1) := dk_42 (dk_at dksX3_unit_2 12 rfl rfl)
theorem dX3_unit_61 : decode cX3_unit 61 = .ok (.iconst 0, 1) := dk_3 (dk_at dksX3_unit_2 13 rfl rfl)
theorem dX3_unit_62 : decode cX3_unit 62 = .ok (.iconst 0, 1) := dk_3 (dk_at dksX3_unit_2 14 rfl rfl)
theorem dX3_unit_63 : decode cX3_unit 63 = .ok (.invokevirtual 200, 3) := dk_182 0 200 (dk_at dksX3_unit_2 15 rfl rfl)
theorem dX3_unit_66 : decode cX3_unit 66 = .ok (.istore_n 2, 1) := dk_61 (dk_at dksX3_unit_2 18 rfl rfl)
theorem dX3_unit_67 : decode cX3_unit 67 = .ok (.aload_n 0, 1) := dk_42 (dk_at dksX3_unit_2 19 rfl rfl)
theorem dX3_unit_68 : decode cX3_unit 68 = .ok (.bipush 41, 2) := dk_16 41 (dk_at dksX3_unit_2 20 rfl rfl)
theorem dX3_unit_70 : decode cX3_unit 70 = .ok (.invokevirtual 177, 3) := dk_182 0 177 (dk_at dksX3_unit_3 0 rfl rfl)
theorem dX3_unit_73 : decode cX3_unit 73 = .ok (.ifCond .ne 5, 3) := dk_154 0 5 (dk_at dksX3_unit_3 3 rfl rfl)
theorem dX3_unit_76 : decode cX3_unit 76 = .ok (.iconst 0, 1) := dk_3 (dk_at dksX3_unit_3 6 rfl rfl)
theorem dX3_unit_77 : decode cX3_unit 77 = .ok (.ireturn, 1) := dk_172 (dk_at dksX3_unit_3 7 rfl rfl)
theorem dX3_unit_78 : decode cX3_unit 78 = .ok (.aload_n 0, 1) := dk_42 (dk_at dksX3_unit_3 8 rfl rfl)
theorem dX3_unit_79 : decode cX3_unit 79 = .ok (.dup, 1) := dk_89 (dk_at dksX3_unit_3 9 rfl rfl)
theorem dX3_unit_80 : decode cX3_unit 80 = .ok (.getfield 144, 3) := dk_180 0 144 (dk_at dksX3_unit_3 10 rfl rfl)
theorem dX3_unit_83 : decode cX3_unit 83 = .ok (.iconst 1, 1) := dk_4 (dk_at dksX3_unit_3 13 rfl rfl)
theorem dX3_unit_84 : decode cX3_unit 84 = .ok (.isub, 1) := dk_100 (dk_at dksX3_unit_3 14 rfl rfl)
theorem dX3_unit_85 : decode cX3_unit 85 = .ok (.putfield 144, 3) := dk_181 0 144 (dk_at dksX3_unit_3 15 rfl rfl)
theorem dX3_unit_88 : decode cX3_unit 88 = .ok (.iload_n 2, 1) := dk_28 (dk_at dksX3_unit_3 18 rfl rfl)
theorem dX3_unit_89 : decode cX3_unit 89 = .ok (.ireturn, 1) := dk_172 (dk_at dksX3_unit_3 19 rfl rfl)
theorem dX3_unit_90 : decode cX3_unit 90 = .ok (.aload_n 0, 1) := dk_42 (dk_at dksX3_unit_3 20 rfl rfl)
theorem dX3_unit_91 : decode cX3_unit 91 = .ok (.iconst 0, 1) := dk_3 (dk_at dksX3_unit_3 21 rfl rfl)
theorem dX3_unit_92 : decode cX3_unit 92 = .ok (.iconst 0, 1) := dk_3 (dk_at dksX3_unit_3 22 rfl rfl)
theorem dX3_unit_93 : decode cX3_unit 93 = .ok (.invokevirtual 204, 3) := dk_182 0 204 (dk_at dksX3_unit_4 0 rfl rfl)
theorem dX3_unit_96 : decode cX3_unit 96 = .ok (.ireturn, 1) := dk_172 (dk_at dksX3_unit_4 3 rfl rfl)
abbrev cX3_readPlan : ByteArray := prog_14_method_39_code
def yX3_readPlan : MethodName := ⟨RX3, "readPlan", "()V"⟩
def dkwX3_readPlan_4 : List UInt8 := [180, 0, 55, 7, 27, 79, 42, 182, 0, 151, 2, 159, 0, 8, 42, 182, 0, 147, 87, 177]
abbrev dktX3_readPlan_4 : List UInt8 := dkwX3_readPlan_4 ++ []
def dkwX3_readPlan_3 : List UInt8 := [182, 0, 147, 87, 177, 28, 153, 255, 198, 42, 89, 180, 0, 132, 4, 96, 181, 0, 132, 167, 255, 185, 42]
abbrev dktX3_readPlan_3 : List UInt8 := dkwX3_readPlan_3 ++ dktX3_readPlan_4
def dkwX3_readPlan_2 : List UInt8 := [16, 59, 160, 0, 7, 4, 167, 0, 4, 3, 61, 28, 153, 0, 15, 27, 16, 16, 160, 0, 9, 42]
abbrev dktX3_readPlan_2 : List UInt8 := dkwX3_readPlan_2 ++ dktX3_readPlan_3
def dkwX3_readPlan_1 : List UInt8 := [16, 64, 27, 96, 104, 182, 1, 29, 42, 180, 0, 141, 2, 159, 0, 4, 177, 132, 1, 1, 42, 182, 0, 151]
abbrev dktX3_readPlan_1 : List UInt8 := dkwX3_readPlan_1 ++ dktX3_readPlan_2
def dkwX3_readPlan_0 : List UInt8 := [42, 42, 180, 0, 9, 3, 42, 180, 0, 122, 182, 0, 220, 3, 60, 4, 61, 28, 153, 0, 73, 42, 7]
abbrev dktX3_readPlan_0 : List UInt8 := dkwX3_readPlan_0 ++ dktX3_readPlan_1
theorem dksX3_readPlan_0 : cX3_readPlan.data.toList.drop 0 = dktX3_readPlan_0 := by decide +kernel
theorem dksX3_readPlan_1 : cX3_readPlan.data.toList.drop 23 = dktX3_readPlan_1 := dk_seg dksX3_readPlan_0 23 rfl rfl
theorem dksX3_readPlan_2 : cX3_readPlan.data.toList.drop 47 = dktX3_readPlan_2 := dk_seg dksX3_readPlan_1 24 rfl rfl
theorem dksX3_readPlan_3 : cX3_readPlan.data.toList.drop 69 = dktX3_readPlan_3 := dk_seg dksX3_readPlan_2 22 rfl rfl
theorem dksX3_readPlan_4 : cX3_readPlan.data.toList.drop 92 = dktX3_readPlan_4 := dk_seg dksX3_readPlan_3 23 rfl rfl
theorem dX3_readPlan_0 : decode cX3_readPlan 0 = .ok (.aload_n 0, 1) := dk_42 (dk_at dksX3_readPlan_0 0 rfl rfl)
theorem dX3_readPlan_1 : decode cX3_readPlan 1 = .ok (.aload_n 0, 1) := dk_42 (dk_at dksX3_readPlan_0 1 rfl rfl)
theorem dX3_readPlan_2 : decode cX3_readPlan 2 = .ok (.getfield 9, 3) := dk_180 0 9 (dk_at dksX3_readPlan_0 2 rfl rfl)
theorem dX3_readPlan_5 : decode cX3_readPlan 5 = .ok (.iconst 0, 1) := dk_3 (dk_at dksX3_readPlan_0 5 rfl rfl)
theorem dX3_readPlan_6 : decode cX3_readPlan 6 = .ok (.aload_n 0, 1) := dk_42 (dk_at dksX3_readPlan_0 6 rfl rfl)
theorem dX3_readPlan_7 : decode cX3_readPlan 7 = .ok (.getfield 122, 3) := dk_180 0 122 (dk_at dksX3_readPlan_0 7 rfl rfl)
theorem dX3_readPlan_10 : decode cX3_readPlan 10 = .ok (.invokevirtual 220, 3) := dk_182 0 220 (dk_at dksX3_readPlan_0 10 rfl rfl)
theorem dX3_readPlan_13 : decode cX3_readPlan 13 = .ok (.iconst 0, 1) := dk_3 (dk_at dksX3_readPlan_0 13 rfl rfl)
theorem dX3_readPlan_14 : decode cX3_readPlan 14 = .ok (.istore_n 1, 1) := dk_60 (dk_at dksX3_readPlan_0 14 rfl rfl)
theorem dX3_readPlan_15 : decode cX3_readPlan 15 = .ok (.iconst 1, 1) := dk_4 (dk_at dksX3_readPlan_0 15 rfl rfl)
theorem dX3_readPlan_16 : decode cX3_readPlan 16 = .ok (.istore_n 2, 1) := dk_61 (dk_at dksX3_readPlan_0 16 rfl rfl)
theorem dX3_readPlan_17 : decode cX3_readPlan 17 = .ok (.iload_n 2, 1) := dk_28 (dk_at dksX3_readPlan_0 17 rfl rfl)
theorem dX3_readPlan_18 : decode cX3_readPlan 18 = .ok (.ifCond .eq 73, 3) := dk_153 0 73 (dk_at dksX3_readPlan_0 18 rfl rfl)
theorem dX3_readPlan_21 : decode cX3_readPlan 21 = .ok (.aload_n 0, 1) := dk_42 (dk_at dksX3_readPlan_0 21 rfl rfl)
theorem dX3_readPlan_22 : decode cX3_readPlan 22 = .ok (.iconst 4, 1) := dk_7 (dk_at dksX3_readPlan_0 22 rfl rfl)
theorem dX3_readPlan_23 : decode cX3_readPlan 23 = .ok (.bipush 64, 2) := dk_16 64 (dk_at dksX3_readPlan_1 0 rfl rfl)
theorem dX3_readPlan_25 : decode cX3_readPlan 25 = .ok (.iload_n 1, 1) := dk_27 (dk_at dksX3_readPlan_1 2 rfl rfl)
theorem dX3_readPlan_26 : decode cX3_readPlan 26 = .ok (.iadd, 1) := dk_96 (dk_at dksX3_readPlan_1 3 rfl rfl)
theorem dX3_readPlan_27 : decode cX3_readPlan 27 = .ok (.imul, 1) := dk_104 (dk_at dksX3_readPlan_1 4 rfl rfl)
theorem dX3_readPlan_28 : decode cX3_readPlan 28 = .ok (.invokevirtual 285, 3) := dk_182 1 29 (dk_at dksX3_readPlan_1 5 rfl rfl)
theorem dX3_readPlan_31 : decode cX3_readPlan 31 = .ok (.aload_n 0, 1) := dk_42 (dk_at dksX3_readPlan_1 8 rfl rfl)
theorem dX3_readPlan_32 : decode cX3_readPlan 32 = .ok (.getfield 141, 3) := dk_180 0 141 (dk_at dksX3_readPlan_1 9 rfl rfl)
theorem dX3_readPlan_35 : decode cX3_readPlan 35 = .ok (.iconst (-1), 1) := dk_2 (dk_at dksX3_readPlan_1 12 rfl rfl)
theorem dX3_readPlan_36 : decode cX3_readPlan 36 = .ok (.if_icmp .eq 4, 3) := dk_159 0 4 (dk_at dksX3_readPlan_1 13 rfl rfl)
theorem dX3_readPlan_39 : decode cX3_readPlan 39 = .ok (.return_, 1) := dk_177 (dk_at dksX3_readPlan_1 16 rfl rfl)
theorem dX3_readPlan_40 : decode cX3_readPlan 40 = .ok (.iinc 1 1, 3) := dk_132 1 1 (dk_at dksX3_readPlan_1 17 rfl rfl)
theorem dX3_readPlan_43 : decode cX3_readPlan 43 = .ok (.aload_n 0, 1) := dk_42 (dk_at dksX3_readPlan_1 20 rfl rfl)
theorem dX3_readPlan_44 : decode cX3_readPlan 44 = .ok (.invokevirtual 151, 3) := dk_182 0 151 (dk_at dksX3_readPlan_1 21 rfl rfl)
theorem dX3_readPlan_47 : decode cX3_readPlan 47 = .ok (.bipush 59, 2) := dk_16 59 (dk_at dksX3_readPlan_2 0 rfl rfl)
theorem dX3_readPlan_49 : decode cX3_readPlan 49 = .ok (.if_icmp .ne 7, 3) := dk_160 0 7 (dk_at dksX3_readPlan_2 2 rfl rfl)
theorem dX3_readPlan_52 : decode cX3_readPlan 52 = .ok (.iconst 1, 1) := dk_4 (dk_at dksX3_readPlan_2 5 rfl rfl)
theorem dX3_readPlan_53 : decode cX3_readPlan 53 = .ok (.goto 4, 3) := dk_167 0 4 (dk_at dksX3_readPlan_2 6 rfl rfl)
theorem dX3_readPlan_56 : decode cX3_readPlan 56 = .ok (.iconst 0, 1) := dk_3 (dk_at dksX3_readPlan_2 9 rfl rfl)
theorem dX3_readPlan_57 : decode cX3_readPlan 57 = .ok (.istore_n 2, 1) := dk_61 (dk_at dksX3_readPlan_2 10 rfl rfl)
theorem dX3_readPlan_58 : decode cX3_readPlan 58 = .ok (.iload_n 2, 1) := dk_28 (dk_at dksX3_readPlan_2 11 rfl rfl)
theorem dX3_readPlan_59 : decode cX3_readPlan 59 = .ok (.ifCond .eq 15, 3) := dk_153 0 15 (dk_at dksX3_readPlan_2 12 rfl rfl)
theorem dX3_readPlan_62 : decode cX3_readPlan 62 = .ok (.iload_n 1, 1) := dk_27 (dk_at dksX3_readPlan_2 15 rfl rfl)
theorem dX3_readPlan_63 : decode cX3_readPlan 63 = .ok (.bipush 16, 2) := dk_16 16 (dk_at dksX3_readPlan_2 16 rfl rfl)
theorem dX3_readPlan_65 : decode cX3_readPlan 65 = .ok (.if_icmp .ne 9, 3) := dk_160 0 9 (dk_at dksX3_readPlan_2 18 rfl rfl)
theorem dX3_readPlan_68 : decode cX3_readPlan 68 = .ok (.aload_n 0, 1) := dk_42 (dk_at dksX3_readPlan_2 21 rfl rfl)
theorem dX3_readPlan_69 : decode cX3_readPlan 69 = .ok (.invokevirtual 147, 3) := dk_182 0 147 (dk_at dksX3_readPlan_3 0 rfl rfl)
theorem dX3_readPlan_72 : decode cX3_readPlan 72 = .ok (.pop, 1) := dk_87 (dk_at dksX3_readPlan_3 3 rfl rfl)
theorem dX3_readPlan_73 : decode cX3_readPlan 73 = .ok (.return_, 1) := dk_177 (dk_at dksX3_readPlan_3 4 rfl rfl)
theorem dX3_readPlan_74 : decode cX3_readPlan 74 = .ok (.iload_n 2, 1) := dk_28 (dk_at dksX3_readPlan_3 5 rfl rfl)
theorem dX3_readPlan_75 : decode cX3_readPlan 75 = .ok (.ifCond .eq (-58), 3) := dk_153 255 198 (dk_at dksX3_readPlan_3 6 rfl rfl)
theorem dX3_readPlan_78 : decode cX3_readPlan 78 = .ok (.aload_n 0, 1) := dk_42 (dk_at dksX3_readPlan_3 9 rfl rfl)
theorem dX3_readPlan_79 : decode cX3_readPlan 79 = .ok (.dup, 1) := dk_89 (dk_at dksX3_readPlan_3 10 rfl rfl)
theorem dX3_readPlan_80 : decode cX3_readPlan 80 = .ok (.getfield 132, 3) := dk_180 0 132 (dk_at dksX3_readPlan_3 11 rfl rfl)
theorem dX3_readPlan_83 : decode cX3_readPlan 83 = .ok (.iconst 1, 1) := dk_4 (dk_at dksX3_readPlan_3 14 rfl rfl)
theorem dX3_readPlan_84 : decode cX3_readPlan 84 = .ok (.iadd, 1) := dk_96 (dk_at dksX3_readPlan_3 15 rfl rfl)
theorem dX3_readPlan_85 : decode cX3_readPlan 85 = .ok (.putfield 132, 3) := dk_181 0 132 (dk_at dksX3_readPlan_3 16 rfl rfl)
theorem dX3_readPlan_88 : decode cX3_readPlan 88 = .ok (.goto (-71), 3) := dk_167 255 185 (dk_at dksX3_readPlan_3 19 rfl rfl)
theorem dX3_readPlan_91 : decode cX3_readPlan 91 = .ok (.aload_n 0, 1) := dk_42 (dk_at dksX3_readPlan_3 22 rfl rfl)
theorem dX3_readPlan_92 : decode cX3_readPlan 92 = .ok (.getfield 55, 3) := dk_180 0 55 (dk_at dksX3_readPlan_4 0 rfl rfl)
theorem dX3_readPlan_95 : decode cX3_readPlan 95 = .ok (.iconst 4, 1) := dk_7 (dk_at dksX3_readPlan_4 3 rfl rfl)
theorem dX3_readPlan_96 : decode cX3_readPlan 96 = .ok (.iload_n 1, 1) := dk_27 (dk_at dksX3_readPlan_4 4 rfl rfl)
theorem dX3_readPlan_97 : decode cX3_readPlan 97 = .ok (.iastore, 1) := dk_79 (dk_at dksX3_readPlan_4 5 rfl rfl)
theorem dX3_readPlan_98 : decode cX3_readPlan 98 = .ok (.aload_n 0, 1) := dk_42 (dk_at dksX3_readPlan_4 6 rfl rfl)
theorem dX3_readPlan_99 : decode cX3_readPlan 99 = .ok (.invokevirtual 151, 3) := dk_182 0 151 (dk_at dksX3_readPlan_4 7 rfl rfl)
theorem dX3_readPlan_102 : decode cX3_readPlan 102 = .ok (.iconst (-1), 1) := dk_2 (dk_at dksX3_readPlan_4 10 rfl rfl)
theorem dX3_readPlan_103 : decode cX3_readPlan 103 = .ok (.if_icmp .eq 8, 3) := dk_159 0 8 (dk_at dksX3_readPlan_4 11 rfl rfl)
theorem dX3_readPlan_106 : decode cX3_readPlan 106 = .ok (.aload_n 0, 1) := dk_42 (dk_at dksX3_readPlan_4 14 rfl rfl)
theorem dX3_readPlan_107 : decode cX3_readPlan 107 = .ok (.invokevirtual 147, 3) := dk_182 0 147 (dk_at dksX3_readPlan_4 15 rfl rfl)
theorem dX3_readPlan_110 : decode cX3_readPlan 110 = .ok (.pop, 1) := dk_87 (dk_at dksX3_readPlan_4 18 rfl rfl)
theorem dX3_readPlan_111 : decode cX3_readPlan 111 = .ok (.return_, 1) := dk_177 (dk_at dksX3_readPlan_4 19 rfl rfl)
abbrev cX3_readStep : ByteArray := prog_14_method_38_code
def yX3_readStep : MethodName := ⟨RX3, "readStep", "(I)V"⟩
def dkwX3_readStep_6 : List UInt8 := [180, 0, 52, 27, 6, 96, 42, 4, 182, 1, 26, 79, 177]
abbrev dktX3_readStep_6 : List UInt8 := dkwX3_readStep_6 ++ []
def dkwX3_readStep_5 : List UInt8 := [180, 0, 52, 27, 5, 96, 42, 16, 9, 182, 1, 26, 79, 42, 180, 0, 141, 2, 160, 0, 16, 42]
abbrev dktX3_readStep_5 : List UInt8 := dkwX3_readStep_5 ++ dktX3_readStep_6
def dkwX3_readStep_4 : List UInt8 := [180, 0, 52, 27, 4, 96, 46, 104, 42, 16, 9, 182, 1, 26, 96, 79, 28, 153, 0, 4, 177, 42]
abbrev dktX3_readStep_4 : List UInt8 := dkwX3_readStep_4 ++ dktX3_readStep_5
def dkwX3_readStep_3 : List UInt8 := [42, 180, 0, 141, 2, 159, 0, 4, 177, 28, 7, 160, 0, 29, 42, 180, 0, 52, 27, 4, 96, 16, 10, 42]
abbrev dktX3_readStep_3 : List UInt8 := dkwX3_readStep_3 ++ dktX3_readStep_4
def dkwX3_readStep_2 : List UInt8 := [16, 9, 182, 1, 26, 79, 42, 180, 0, 52, 27, 5, 96, 2, 79, 42, 180, 0, 52, 27, 6, 96, 2, 79]
abbrev dktX3_readStep_2 : List UInt8 := dkwX3_readStep_2 ++ dktX3_readStep_3
def dkwX3_readStep_1 : List UInt8 := [180, 0, 132, 4, 96, 181, 0, 132, 42, 180, 0, 52, 27, 28, 79, 42, 180, 0, 52, 27, 4, 96, 42]
abbrev dktX3_readStep_1 : List UInt8 := dkwX3_readStep_1 ++ dktX3_readStep_2
def dkwX3_readStep_0 : List UInt8 := [19, 1, 24, 42, 182, 0, 151, 184, 0, 238, 61, 28, 2, 160, 0, 9, 42, 182, 0, 147, 87, 177, 42, 89]
abbrev dktX3_readStep_0 : List UInt8 := dkwX3_readStep_0 ++ dktX3_readStep_1
theorem dksX3_readStep_0 : cX3_readStep.data.toList.drop 0 = dktX3_readStep_0 := by decide +kernel
theorem dksX3_readStep_1 : cX3_readStep.data.toList.drop 24 = dktX3_readStep_1 := dk_seg dksX3_readStep_0 24 rfl rfl
theorem dksX3_readStep_2 : cX3_readStep.data.toList.drop 47 = dktX3_readStep_2 := dk_seg dksX3_readStep_1 23 rfl rfl
theorem dksX3_readStep_3 : cX3_readStep.data.toList.drop 71 = dktX3_readStep_3 := dk_seg dksX3_readStep_2 24 rfl rfl
theorem dksX3_readStep_4 : cX3_readStep.data.toList.drop 95 = dktX3_readStep_4 := dk_seg dksX3_readStep_3 24 rfl rfl
theorem dksX3_readStep_5 : cX3_readStep.data.toList.drop 117 = dktX3_readStep_5 := dk_seg dksX3_readStep_4 22 rfl rfl
theorem dksX3_readStep_6 : cX3_readStep.data.toList.drop 139 = dktX3_readStep_6 := dk_seg dksX3_readStep_5 22 rfl rfl
theorem dX3_readStep_0 : decode cX3_readStep 0 = .ok (.ldc_w 280, 3) := dk_19 1 24 (dk_at dksX3_readStep_0 0 rfl rfl)
theorem dX3_readStep_3 : decode cX3_readStep 3 = .ok (.aload_n 0, 1) := dk_42 (dk_at dksX3_readStep_0 3 rfl rfl)
theorem dX3_readStep_4 : decode cX3_readStep 4 = .ok (.invokevirtual 151, 3) := dk_182 0 151 (dk_at dksX3_readStep_0 4 rfl rfl)
theorem dX3_readStep_7 : decode cX3_readStep 7 = .ok (.invokestatic 238, 3) := dk_184 0 238 (dk_at dksX3_readStep_0 7 rfl rfl)
theorem dX3_readStep_10 : decode cX3_readStep 10 = .ok (.istore_n 2, 1) := dk_61 (dk_at dksX3_readStep_0 10 rfl rfl)
theorem dX3_readStep_11 : decode cX3_readStep 11 = .ok (.iload_n 2, 1) := dk_28 (dk_at dksX3_readStep_0 11 rfl rfl)
theorem dX3_readStep_12 : decode cX3_readStep 12 = .ok (.iconst (-1), 1) := dk_2 (dk_at dksX3_readStep_0 12 rfl rfl)
theorem dX3_readStep_13 : decode cX3_readStep 13 = .ok (.if_icmp .ne 9, 3) := dk_160 0 9 (dk_at dksX3_readStep_0 13 rfl rfl)
theorem dX3_readStep_16 : decode cX3_readStep 16 = .ok (.aload_n 0, 1) := dk_42 (dk_at dksX3_readStep_0 16 rfl rfl)
theorem dX3_readStep_17 : decode cX3_readStep 17 = .ok (.invokevirtual 147, 3) := dk_182 0 147 (dk_at dksX3_readStep_0 17 rfl rfl)
theorem dX3_readStep_20 : decode cX3_readStep 20 = .ok (.pop, 1) := dk_87 (dk_at dksX3_readStep_0 20 rfl rfl)
theorem dX3_readStep_21 : decode cX3_readStep 21 = .ok (.return_, 1) := dk_177 (dk_at dksX3_readStep_0 21 rfl rfl)
theorem dX3_readStep_22 : decode cX3_readStep 22 = .ok (.aload_n 0, 1) := dk_42 (dk_at dksX3_readStep_0 22 rfl rfl)
theorem dX3_readStep_23 : decode cX3_readStep 23 = .ok (.dup, 1) := dk_89 (dk_at dksX3_readStep_0 23 rfl rfl)
theorem dX3_readStep_24 : decode cX3_readStep 24 = .ok (.getfield 132, 3) := dk_180 0 132 (dk_at dksX3_readStep_1 0 rfl rfl)
theorem dX3_readStep_27 : decode cX3_readStep 27 = .ok (.iconst 1, 1) := dk_4 (dk_at dksX3_readStep_1 3 rfl rfl)
theorem dX3_readStep_28 : decode cX3_readStep 28 = .ok (.iadd, 1) := dk_96 (dk_at dksX3_readStep_1 4 rfl rfl)
theorem dX3_readStep_29 : decode cX3_readStep 29 = .ok (.putfield 132, 3) := dk_181 0 132 (dk_at dksX3_readStep_1 5 rfl rfl)
theorem dX3_readStep_32 : decode cX3_readStep 32 = .ok (.aload_n 0, 1) := dk_42 (dk_at dksX3_readStep_1 8 rfl rfl)
theorem dX3_readStep_33 : decode cX3_readStep 33 = .ok (.getfield 52, 3) := dk_180 0 52 (dk_at dksX3_readStep_1 9 rfl rfl)
theorem dX3_readStep_36 : decode cX3_readStep 36 = .ok (.iload_n 1, 1) := dk_27 (dk_at dksX3_readStep_1 12 rfl rfl)
theorem dX3_readStep_37 : decode cX3_readStep 37 = .ok (.iload_n 2, 1) := dk_28 (dk_at dksX3_readStep_1 13 rfl rfl)
theorem dX3_readStep_38 : decode cX3_readStep 38 = .ok (.iastore, 1) := dk_79 (dk_at dksX3_readStep_1 14 rfl rfl)
theorem dX3_readStep_39 : decode cX3_readStep 39 = .ok (.aload_n 0, 1) := dk_42 (dk_at dksX3_readStep_1 15 rfl rfl)
theorem dX3_readStep_40 : decode cX3_readStep 40 = .ok (.getfield 52, 3) := dk_180 0 52 (dk_at dksX3_readStep_1 16 rfl rfl)
theorem dX3_readStep_43 : decode cX3_readStep 43 = .ok (.iload_n 1, 1) := dk_27 (dk_at dksX3_readStep_1 19 rfl rfl)
theorem dX3_readStep_44 : decode cX3_readStep 44 = .ok (.iconst 1, 1) := dk_4 (dk_at dksX3_readStep_1 20 rfl rfl)
theorem dX3_readStep_45 : decode cX3_readStep 45 = .ok (.iadd, 1) := dk_96 (dk_at dksX3_readStep_1 21 rfl rfl)
theorem dX3_readStep_46 : decode cX3_readStep 46 = .ok (.aload_n 0, 1) := dk_42 (dk_at dksX3_readStep_1 22 rfl rfl)
theorem dX3_readStep_47 : decode cX3_readStep 47 = .ok (.bipush 9, 2) := dk_16 9 (dk_at dksX3_readStep_2 0 rfl rfl)
theorem dX3_readStep_49 : decode cX3_readStep 49 = .ok (.invokevirtual 282, 3) := dk_182 1 26 (dk_at dksX3_readStep_2 2 rfl rfl)
theorem dX3_readStep_52 : decode cX3_readStep 52 = .ok (.iastore, 1) := dk_79 (dk_at dksX3_readStep_2 5 rfl rfl)
theorem dX3_readStep_53 : decode cX3_readStep 53 = .ok (.aload_n 0, 1) := dk_42 (dk_at dksX3_readStep_2 6 rfl rfl)
theorem dX3_readStep_54 : decode cX3_readStep 54 = .ok (.getfield 52, 3) := dk_180 0 52 (dk_at dksX3_readStep_2 7 rfl rfl)
theorem dX3_readStep_57 : decode cX3_readStep 57 = .ok (.iload_n 1, 1) := dk_27 (dk_at dksX3_readStep_2 10 rfl rfl)
theorem dX3_readStep_58 : decode cX3_readStep 58 = .ok (.iconst 2, 1) := dk_5 (dk_at dksX3_readStep_2 11 rfl rfl)
theorem dX3_readStep_59 : decode cX3_readStep 59 = .ok (.iadd, 1) := dk_96 (dk_at dksX3_readStep_2 12 rfl rfl)
theorem dX3_readStep_60 : decode cX3_readStep 60 = .ok (.iconst (-1), 1) := dk_2 (dk_at dksX3_readStep_2 13 rfl rfl)
theorem dX3_readStep_61 : decode cX3_readStep 61 = .ok (.iastore, 1) := dk_79 (dk_at dksX3_readStep_2 14 rfl rfl)
theorem dX3_readStep_62 : decode cX3_readStep 62 = .ok (.aload_n 0, 1) := dk_42 (dk_at dksX3_readStep_2 15 rfl rfl)
theorem dX3_readStep_63 : decode cX3_readStep 63 = .ok (.getfield 52, 3) := dk_180 0 52 (dk_at dksX3_readStep_2 16 rfl rfl)
theorem dX3_readStep_66 : decode cX3_readStep 66 = .ok (.iload_n 1, 1) := dk_27 (dk_at dksX3_readStep_2 19 rfl rfl)
theorem dX3_readStep_67 : decode cX3_readStep 67 = .ok (.iconst 3, 1) := dk_6 (dk_at dksX3_readStep_2 20 rfl rfl)
theorem dX3_readStep_68 : decode cX3_readStep 68 = .ok (.iadd, 1) := dk_96 (dk_at dksX3_readStep_2 21 rfl rfl)
theorem dX3_readStep_69 : decode cX3_readStep 69 = .ok (.iconst (-1), 1) := dk_2 (dk_at dksX3_readStep_2 22 rfl rfl)
theorem dX3_readStep_70 : decode cX3_readStep 70 = .ok (.iastore, 1) := dk_79 (dk_at dksX3_readStep_2 23 rfl rfl)
theorem dX3_readStep_71 : decode cX3_readStep 71 = .ok (.aload_n 0, 1) := dk_42 (dk_at dksX3_readStep_3 0 rfl rfl)
theorem dX3_readStep_72 : decode cX3_readStep 72 = .ok (.getfield 141, 3) := dk_180 0 141 (dk_at dksX3_readStep_3 1 rfl rfl)
theorem dX3_readStep_75 : decode cX3_readStep 75 = .ok (.iconst (-1), 1) := dk_2 (dk_at dksX3_readStep_3 4 rfl rfl)
theorem dX3_readStep_76 : decode cX3_readStep 76 = .ok (.if_icmp .eq 4, 3) := dk_159 0 4 (dk_at dksX3_readStep_3 5 rfl rfl)
theorem dX3_readStep_79 : decode cX3_readStep 79 = .ok (.return_, 1) := dk_177 (dk_at dksX3_readStep_3 8 rfl rfl)
theorem dX3_readStep_80 : decode cX3_readStep 80 = .ok (.iload_n 2, 1) := dk_28 (dk_at dksX3_readStep_3 9 rfl rfl)
theorem dX3_readStep_81 : decode cX3_readStep 81 = .ok (.iconst 4, 1) := dk_7 (dk_at dksX3_readStep_3 10 rfl rfl)
theorem dX3_readStep_82 : decode cX3_readStep 82 = .ok (.if_icmp .ne 29, 3) := dk_160 0 29 (dk_at dksX3_readStep_3 11 rfl rfl)
theorem dX3_readStep_85 : decode cX3_readStep 85 = .ok (.aload_n 0, 1) := dk_42 (dk_at dksX3_readStep_3 14 rfl rfl)
theorem dX3_readStep_86 : decode cX3_readStep 86 = .ok (.getfield 52, 3) := dk_180 0 52 (dk_at dksX3_readStep_3 15 rfl rfl)
theorem dX3_readStep_89 : decode cX3_readStep 89 = .ok (.iload_n 1, 1) := dk_27 (dk_at dksX3_readStep_3 18 rfl rfl)
theorem dX3_readStep_90 : decode cX3_readStep 90 = .ok (.iconst 1, 1) := dk_4 (dk_at dksX3_readStep_3 19 rfl rfl)
theorem dX3_readStep_91 : decode cX3_readStep 91 = .ok (.iadd, 1) := dk_96 (dk_at dksX3_readStep_3 20 rfl rfl)
theorem dX3_readStep_92 : decode cX3_readStep 92 = .ok (.bipush 10, 2) := dk_16 10 (dk_at dksX3_readStep_3 21 rfl rfl)
theorem dX3_readStep_94 : decode cX3_readStep 94 = .ok (.aload_n 0, 1) := dk_42 (dk_at dksX3_readStep_3 23 rfl rfl)
theorem dX3_readStep_95 : decode cX3_readStep 95 = .ok (.getfield 52, 3) := dk_180 0 52 (dk_at dksX3_readStep_4 0 rfl rfl)
theorem dX3_readStep_98 : decode cX3_readStep 98 = .ok (.iload_n 1, 1) := dk_27 (dk_at dksX3_readStep_4 3 rfl rfl)
theorem dX3_readStep_99 : decode cX3_readStep 99 = .ok (.iconst 1, 1) := dk_4 (dk_at dksX3_readStep_4 4 rfl rfl)
theorem dX3_readStep_100 : decode cX3_readStep 100 = .ok (.iadd, 1) := dk_96 (dk_at dksX3_readStep_4 5 rfl rfl)
theorem dX3_readStep_101 : decode cX3_readStep 101 = .ok (.iaload, 1) := dk_46 (dk_at dksX3_readStep_4 6 rfl rfl)
theorem dX3_readStep_102 : decode cX3_readStep 102 = .ok (.imul, 1) := dk_104 (dk_at dksX3_readStep_4 7 rfl rfl)
theorem dX3_readStep_103 : decode cX3_readStep 103 = .ok (.aload_n 0, 1) := dk_42 (dk_at dksX3_readStep_4 8 rfl rfl)
theorem dX3_readStep_104 : decode cX3_readStep 104 = .ok (.bipush 9, 2) := dk_16 9 (dk_at dksX3_readStep_4 9 rfl rfl)
theorem dX3_readStep_106 : decode cX3_readStep 106 = .ok (.invokevirtual 282, 3) := dk_182 1 26 (dk_at dksX3_readStep_4 11 rfl rfl)
theorem dX3_readStep_109 : decode cX3_readStep 109 = .ok (.iadd, 1) := dk_96 (dk_at dksX3_readStep_4 14 rfl rfl)
theorem dX3_readStep_110 : decode cX3_readStep 110 = .ok (.iastore, 1) := dk_79 (dk_at dksX3_readStep_4 15 rfl rfl)
theorem dX3_readStep_111 : decode cX3_readStep 111 = .ok (.iload_n 2, 1) := dk_28 (dk_at dksX3_readStep_4 16 rfl rfl)
theorem dX3_readStep_112 : decode cX3_readStep 112 = .ok (.ifCond .eq 4, 3) := dk_153 0 4 (dk_at dksX3_readStep_4 17 rfl rfl)
theorem dX3_readStep_115 : decode cX3_readStep 115 = .ok (.return_, 1) := dk_177 (dk_at dksX3_readStep_4 20 rfl rfl)
theorem dX3_readStep_116 : decode cX3_readStep 116 = .ok (.aload_n 0, 1) := dk_42 (dk_at dksX3_readStep_4 21 rfl rfl)
theorem dX3_readStep_117 : decode cX3_readStep 117 = .ok (.getfield 52, 3) := dk_180 0 52 (dk_at dksX3_readStep_5 0 rfl rfl)
theorem dX3_readStep_120 : decode cX3_readStep 120 = .ok (.iload_n 1, 1) := dk_27 (dk_at dksX3_readStep_5 3 rfl rfl)
theorem dX3_readStep_121 : decode cX3_readStep 121 = .ok (.iconst 2, 1) := dk_5 (dk_at dksX3_readStep_5 4 rfl rfl)
theorem dX3_readStep_122 : decode cX3_readStep 122 = .ok (.iadd, 1) := dk_96 (dk_at dksX3_readStep_5 5 rfl rfl)
theorem dX3_readStep_123 : decode cX3_readStep 123 = .ok (.aload_n 0, 1) := dk_42 (dk_at dksX3_readStep_5 6 rfl rfl)
theorem dX3_readStep_124 : decode cX3_readStep 124 = .ok (.bipush 9, 2) := dk_16 9 (dk_at dksX3_readStep_5 7 rfl rfl)
theorem dX3_readStep_126 : decode cX3_readStep 126 = .ok (.invokevirtual 282, 3) := dk_182 1 26 (dk_at dksX3_readStep_5 9 rfl rfl)
theorem dX3_readStep_129 : decode cX3_readStep 129 = .ok (.iastore, 1) := dk_79 (dk_at dksX3_readStep_5 12 rfl rfl)
theorem dX3_readStep_130 : decode cX3_readStep 130 = .ok (.aload_n 0, 1) := dk_42 (dk_at dksX3_readStep_5 13 rfl rfl)
theorem dX3_readStep_131 : decode cX3_readStep 131 = .ok (.getfield 141, 3) := dk_180 0 141 (dk_at dksX3_readStep_5 14 rfl rfl)
theorem dX3_readStep_134 : decode cX3_readStep 134 = .ok (.iconst (-1), 1) := dk_2 (dk_at dksX3_readStep_5 17 rfl rfl)
theorem dX3_readStep_135 : decode cX3_readStep 135 = .ok (.if_icmp .ne 16, 3) := dk_160 0 16 (dk_at dksX3_readStep_5 18 rfl rfl)
theorem dX3_readStep_138 : decode cX3_readStep 138 = .ok (.aload_n 0, 1) := dk_42 (dk_at dksX3_readStep_5 21 rfl rfl)
theorem dX3_readStep_139 : decode cX3_readStep 139 = .ok (.getfield 52, 3) := dk_180 0 52 (dk_at dksX3_readStep_6 0 rfl rfl)
theorem dX3_readStep_142 : decode cX3_readStep 142 = .ok (.iload_n 1, 1) := dk_27 (dk_at dksX3_readStep_6 3 rfl rfl)
theorem dX3_readStep_143 : decode cX3_readStep 143 = .ok (.iconst 3, 1) := dk_6 (dk_at dksX3_readStep_6 4 rfl rfl)
theorem dX3_readStep_144 : decode cX3_readStep 144 = .ok (.iadd, 1) := dk_96 (dk_at dksX3_readStep_6 5 rfl rfl)
theorem dX3_readStep_145 : decode cX3_readStep 145 = .ok (.aload_n 0, 1) := dk_42 (dk_at dksX3_readStep_6 6 rfl rfl)
theorem dX3_readStep_146 : decode cX3_readStep 146 = .ok (.iconst 1, 1) := dk_4 (dk_at dksX3_readStep_6 7 rfl rfl)
theorem dX3_readStep_147 : decode cX3_readStep 147 = .ok (.invokevirtual 282, 3) := dk_182 1 26 (dk_at dksX3_readStep_6 8 rfl rfl)
theorem dX3_readStep_150 : decode cX3_readStep 150 = .ok (.iastore, 1) := dk_79 (dk_at dksX3_readStep_6 11 rfl rfl)
theorem dX3_readStep_151 : decode cX3_readStep 151 = .ok (.return_, 1) := dk_177 (dk_at dksX3_readStep_6 12 rfl rfl)
abbrev cX3_digit : ByteArray := prog_14_method_37_code
def yX3_digit : MethodName := ⟨RX3, "digit", "(I)I"⟩
def dkwX3_digit_1 : List UInt8 := [87, 3, 172, 42, 89, 180, 0, 132, 4, 96, 181, 0, 132, 28, 16, 48, 100, 172]
abbrev dktX3_digit_1 : List UInt8 := dkwX3_digit_1 ++ []
def dkwX3_digit_0 : List UInt8 := [42, 182, 0, 151, 61, 42, 182, 0, 181, 153, 0, 11, 28, 16, 48, 100, 27, 164, 0, 10, 42, 182, 0, 147]
abbrev dktX3_digit_0 : List UInt8 := dkwX3_digit_0 ++ dktX3_digit_1
theorem dksX3_digit_0 : cX3_digit.data.toList.drop 0 = dktX3_digit_0 := by decide +kernel
theorem dksX3_digit_1 : cX3_digit.data.toList.drop 24 = dktX3_digit_1 := dk_seg dksX3_digit_0 24 rfl rfl
theorem dX3_digit_0 : decode cX3_digit 0 = .ok (.aload_n 0, 1) := dk_42 (dk_at dksX3_digit_0 0 rfl rfl)
theorem dX3_digit_1 : decode cX3_digit 1 = .ok (.invokevirtual 151, 3) := dk_182 0 151 (dk_at dksX3_digit_0 1 rfl rfl)
theorem dX3_digit_4 : decode cX3_digit 4 = .ok (.istore_n 2, 1) := dk_61 (dk_at dksX3_digit_0 4 rfl rfl)
theorem dX3_digit_5 : decode cX3_digit 5 = .ok (.aload_n 0, 1) := dk_42 (dk_at dksX3_digit_0 5 rfl rfl)
theorem dX3_digit_6 : decode cX3_digit 6 = .ok (.invokevirtual 181, 3) := dk_182 0 181 (dk_at dksX3_digit_0 6 rfl rfl)
theorem dX3_digit_9 : decode cX3_digit 9 = .ok (.ifCond .eq 11, 3) := dk_153 0 11 (dk_at dksX3_digit_0 9 rfl rfl)
theorem dX3_digit_12 : decode cX3_digit 12 = .ok (.iload_n 2, 1) := dk_28 (dk_at dksX3_digit_0 12 rfl rfl)
theorem dX3_digit_13 : decode cX3_digit 13 = .ok (.bipush 48, 2) := dk_16 48 (dk_at dksX3_digit_0 13 rfl rfl)
theorem dX3_digit_15 : decode cX3_digit 15 = .ok (.isub, 1) := dk_100 (dk_at dksX3_digit_0 15 rfl rfl)
theorem dX3_digit_16 : decode cX3_digit 16 = .ok (.iload_n 1, 1) := dk_27 (dk_at dksX3_digit_0 16 rfl rfl)
theorem dX3_digit_17 : decode cX3_digit 17 = .ok (.if_icmp .le 10, 3) := dk_164 0 10 (dk_at dksX3_digit_0 17 rfl rfl)
theorem dX3_digit_20 : decode cX3_digit 20 = .ok (.aload_n 0, 1) := dk_42 (dk_at dksX3_digit_0 20 rfl rfl)
theorem dX3_digit_21 : decode cX3_digit 21 = .ok (.invokevirtual 147, 3) := dk_182 0 147 (dk_at dksX3_digit_0 21 rfl rfl)
theorem dX3_digit_24 : decode cX3_digit 24 = .ok (.pop, 1) := dk_87 (dk_at dksX3_digit_1 0 rfl rfl)
theorem dX3_digit_25 : decode cX3_digit 25 = .ok (.iconst 0, 1) := dk_3 (dk_at dksX3_digit_1 1 rfl rfl)
theorem dX3_digit_26 : decode cX3_digit 26 = .ok (.ireturn, 1) := dk_172 (dk_at dksX3_digit_1 2 rfl rfl)
theorem dX3_digit_27 : decode cX3_digit 27 = .ok (.aload_n 0, 1) := dk_42 (dk_at dksX3_digit_1 3 rfl rfl)
theorem dX3_digit_28 : decode cX3_digit 28 = .ok (.dup, 1) := dk_89 (dk_at dksX3_digit_1 4 rfl rfl)
theorem dX3_digit_29 : decode cX3_digit 29 = .ok (.getfield 132, 3) := dk_180 0 132 (dk_at dksX3_digit_1 5 rfl rfl)
theorem dX3_digit_32 : decode cX3_digit 32 = .ok (.iconst 1, 1) := dk_4 (dk_at dksX3_digit_1 8 rfl rfl)
theorem dX3_digit_33 : decode cX3_digit 33 = .ok (.iadd, 1) := dk_96 (dk_at dksX3_digit_1 9 rfl rfl)
theorem dX3_digit_34 : decode cX3_digit 34 = .ok (.putfield 132, 3) := dk_181 0 132 (dk_at dksX3_digit_1 10 rfl rfl)
theorem dX3_digit_37 : decode cX3_digit 37 = .ok (.iload_n 2, 1) := dk_28 (dk_at dksX3_digit_1 13 rfl rfl)
theorem dX3_digit_38 : decode cX3_digit 38 = .ok (.bipush 48, 2) := dk_16 48 (dk_at dksX3_digit_1 14 rfl rfl)
theorem dX3_digit_40 : decode cX3_digit 40 = .ok (.isub, 1) := dk_100 (dk_at dksX3_digit_1 16 rfl rfl)
theorem dX3_digit_41 : decode cX3_digit 41 = .ok (.ireturn, 1) := dk_172 (dk_at dksX3_digit_1 17 rfl rfl)
abbrev cX3_text : ByteArray := prog_14_method_41_code
def yX3_text : MethodName := ⟨RX3, "text", "(I)I"⟩
def dkwX3_text_16 : List UInt8 := [181, 1, 60, 42, 3, 181, 1, 63, 42, 180, 1, 51, 172]
abbrev dktX3_text_16 : List UInt8 := dkwX3_text_16 ++ []
def dkwX3_text_15 : List UInt8 := [132, 4, 1, 167, 255, 218, 132, 3, 1, 167, 255, 201, 42, 3, 181, 1, 54, 42, 3, 181, 1, 57, 42, 3]
abbrev dktX3_text_15 : List UInt8 := dkwX3_text_15 ++ dktX3_text_16
def dkwX3_text_14 : List UInt8 := [180, 1, 5, 4, 100, 29, 100, 104, 21, 4, 96, 42, 180, 0, 49, 7, 29, 104, 21, 4, 96, 46, 79]
abbrev dktX3_text_14 : List UInt8 := dkwX3_text_14 ++ dktX3_text_15
def dkwX3_text_13 : List UInt8 := [62, 29, 42, 180, 1, 5, 162, 0, 53, 3, 54, 4, 21, 4, 7, 162, 0, 38, 42, 180, 0, 58, 8, 42]
abbrev dktX3_text_13 : List UInt8 := dkwX3_text_13 ++ dktX3_text_14
def dkwX3_text_12 : List UInt8 := [180, 0, 58, 29, 3, 79, 132, 3, 1, 167, 255, 239, 42, 180, 0, 58, 16, 40, 42, 180, 1, 5, 79, 3]
abbrev dktX3_text_12 : List UInt8 := dkwX3_text_12 ++ dktX3_text_13
def dkwX3_text_11 : List UInt8 := [180, 0, 46, 29, 46, 79, 132, 3, 1, 167, 255, 235, 3, 62, 29, 17, 1, 27, 162, 0, 16, 42]
abbrev dktX3_text_11 : List UInt8 := dkwX3_text_11 ++ dktX3_text_12
def dkwX3_text_10 : List UInt8 := [46, 79, 132, 3, 1, 167, 255, 236, 3, 62, 29, 16, 30, 162, 0, 21, 42, 180, 0, 43, 29, 42]
abbrev dktX3_text_10 : List UInt8 := dkwX3_text_10 ++ dktX3_text_11
def dkwX3_text_9 : List UInt8 := [42, 180, 1, 2, 181, 1, 51, 3, 62, 29, 7, 162, 0, 21, 42, 180, 0, 37, 29, 42, 180, 0, 40, 29]
abbrev dktX3_text_9 : List UInt8 := dkwX3_text_9 ++ dktX3_text_10
def dkwX3_text_8 : List UInt8 := [180, 0, 55, 7, 46, 79, 42, 89, 180, 1, 46, 4, 96, 181, 1, 46, 42, 180, 1, 46, 4, 100, 172, 42]
abbrev dktX3_text_8 : List UInt8 := dkwX3_text_8 ++ dktX3_text_9
def dkwX3_text_7 : List UInt8 := [17, 1, 0, 29, 96, 46, 79, 132, 3, 1, 167, 255, 223, 42, 180, 0, 55, 42, 180, 1, 46, 42]
abbrev dktX3_text_7 : List UInt8 := dkwX3_text_7 ++ dktX3_text_8
def dkwX3_text_6 : List UInt8 := [16, 64, 162, 0, 33, 42, 180, 0, 52, 16, 64, 42, 180, 1, 46, 104, 29, 96, 42, 180, 0, 52]
abbrev dktX3_text_6 : List UInt8 := dkwX3_text_6 ++ dktX3_text_7
def dkwX3_text_5 : List UInt8 := [180, 1, 43, 4, 96, 181, 1, 43, 42, 180, 1, 43, 4, 100, 172, 27, 5, 160, 0, 73, 3, 62, 29]
abbrev dktX3_text_5 : List UInt8 := dkwX3_text_5 ++ dktX3_text_6
def dkwX3_text_4 : List UInt8 := [180, 0, 9, 29, 51, 84, 132, 3, 1, 167, 255, 227, 42, 180, 0, 16, 42, 180, 1, 43, 28, 79, 42, 89]
abbrev dktX3_text_4 : List UInt8 := dkwX3_text_4 ++ dktX3_text_5
def dkwX3_text_3 : List UInt8 := [3, 62, 29, 28, 162, 0, 30, 42, 180, 0, 13, 17, 0, 240, 42, 180, 1, 43, 104, 29, 96, 42]
abbrev dktX3_text_3 : List UInt8 := dkwX3_text_3 ++ dktX3_text_4
def dkwX3_text_2 : List UInt8 := [182, 1, 49, 2, 159, 0, 5, 2, 172, 42, 180, 0, 122, 61, 42, 3, 181, 0, 122, 27, 4, 160, 0, 64]
abbrev dktX3_text_2 : List UInt8 := dkwX3_text_2 ++ dktX3_text_3
def dkwX3_text_1 : List UInt8 := [180, 1, 43, 7, 159, 0, 25, 27, 5, 160, 0, 11, 42, 180, 1, 46, 7, 159, 0, 12, 42, 27]
abbrev dktX3_text_1 : List UInt8 := dkwX3_text_1 ++ dktX3_text_2
def dkwX3_text_0 : List UInt8 := [42, 3, 181, 0, 109, 27, 133, 9, 20, 1, 32, 184, 0, 230, 153, 0, 38, 27, 4, 160, 0, 11, 42]
abbrev dktX3_text_0 : List UInt8 := dkwX3_text_0 ++ dktX3_text_1
theorem dksX3_text_0 : cX3_text.data.toList.drop 0 = dktX3_text_0 := by decide +kernel
theorem dksX3_text_1 : cX3_text.data.toList.drop 23 = dktX3_text_1 := dk_seg dksX3_text_0 23 rfl rfl
theorem dksX3_text_2 : cX3_text.data.toList.drop 45 = dktX3_text_2 := dk_seg dksX3_text_1 22 rfl rfl
theorem dksX3_text_3 : cX3_text.data.toList.drop 69 = dktX3_text_3 := dk_seg dksX3_text_2 24 rfl rfl
theorem dksX3_text_4 : cX3_text.data.toList.drop 91 = dktX3_text_4 := dk_seg dksX3_text_3 22 rfl rfl
theorem dksX3_text_5 : cX3_text.data.toList.drop 115 = dktX3_text_5 := dk_seg dksX3_text_4 24 rfl rfl
theorem dksX3_text_6 : cX3_text.data.toList.drop 138 = dktX3_text_6 := dk_seg dksX3_text_5 23 rfl rfl
theorem dksX3_text_7 : cX3_text.data.toList.drop 160 = dktX3_text_7 := dk_seg dksX3_text_6 22 rfl rfl
theorem dksX3_text_8 : cX3_text.data.toList.drop 182 = dktX3_text_8 := dk_seg dksX3_text_7 22 rfl rfl
theorem dksX3_text_9 : cX3_text.data.toList.drop 206 = dktX3_text_9 := dk_seg dksX3_text_8 24 rfl rfl
theorem dksX3_text_10 : cX3_text.data.toList.drop 230 = dktX3_text_10 := dk_seg dksX3_text_9 24 rfl rfl
theorem dksX3_text_11 : cX3_text.data.toList.drop 252 = dktX3_text_11 := dk_seg dksX3_text_10 22 rfl rfl
theorem dksX3_text_12 : cX3_text.data.toList.drop 274 = dktX3_text_12 := dk_seg dksX3_text_11 22 rfl rfl
theorem dksX3_text_13 : cX3_text.data.toList.drop 298 = dktX3_text_13 := dk_seg dksX3_text_12 24 rfl rfl
theorem dksX3_text_14 : cX3_text.data.toList.drop 322 = dktX3_text_14 := dk_seg dksX3_text_13 24 rfl rfl
theorem dksX3_text_15 : cX3_text.data.toList.drop 345 = dktX3_text_15 := dk_seg dksX3_text_14 23 rfl rfl
theorem dksX3_text_16 : cX3_text.data.toList.drop 369 = dktX3_text_16 := dk_seg dksX3_text_15 24 rfl rfl
theorem dX3_text_0 : decode cX3_text 0 = .ok (.aload_n 0, 1) := dk_42 (dk_at dksX3_text_0 0 rfl rfl)
theorem dX3_text_1 : decode cX3_text 1 = .ok (.iconst 0, 1) := dk_3 (dk_at dksX3_text_0 1 rfl rfl)
theorem dX3_text_2 : decode cX3_text 2 = .ok (.putfield 109, 3) := dk_181 0 109 (dk_at dksX3_text_0 2 rfl rfl)
theorem dX3_text_5 : decode cX3_text 5 = .ok (.iload_n 1, 1) := dk_27 (dk_at dksX3_text_0 5 rfl rfl)
theorem dX3_text_6 : decode cX3_text 6 = .ok (.i2l, 1) := dk_133 (dk_at dksX3_text_0 6 rfl rfl)
theorem dX3_text_7 : decode cX3_text 7 = .ok (.lconst 0, 1) := dk_9 (dk_at dksX3_text_0 7 rfl rfl)
theorem dX3_text_8 : decode cX3_text 8 = .ok (.ldc2_w 288, 3) := dk_20 1 32 (dk_at dksX3_text_0 8 rfl rfl)
theorem dX3_text_11 : decode cX3_text 11 = .ok (.invokestatic 230, 3) := dk_184 0 230 (dk_at dksX3_text_0 11 rfl rfl)
theorem dX3_text_14 : decode cX3_text 14 = .ok (.ifCond .eq 38, 3) := dk_153 0 38 (dk_at dksX3_text_0 14 rfl rfl)
theorem dX3_text_17 : decode cX3_text 17 = .ok (.iload_n 1, 1) := dk_27 (dk_at dksX3_text_0 17 rfl rfl)
theorem dX3_text_18 : decode cX3_text 18 = .ok (.iconst 1, 1) := dk_4 (dk_at dksX3_text_0 18 rfl rfl)
theorem dX3_text_19 : decode cX3_text 19 = .ok (.if_icmp .ne 11, 3) := dk_160 0 11 (dk_at dksX3_text_0 19 rfl rfl)
theorem dX3_text_22 : decode cX3_text 22 = .ok (.aload_n 0, 1) := dk_42 (dk_at dksX3_text_0 22 rfl rfl)
theorem dX3_text_23 : decode cX3_text 23 = .ok (.getfield 299, 3) := dk_180 1 43 (dk_at dksX3_text_1 0 rfl rfl)
theorem dX3_text_26 : decode cX3_text 26 = .ok (.iconst 4, 1) := dk_7 (dk_at dksX3_text_1 3 rfl rfl)
theorem dX3_text_27 : decode cX3_text 27 = .ok (.if_icmp .eq 25, 3) := dk_159 0 25 (dk_at dksX3_text_1 4 rfl rfl)
theorem dX3_text_30 : decode cX3_text 30 = .ok (.iload_n 1, 1) := dk_27 (dk_at dksX3_text_1 7 rfl rfl)
theorem dX3_text_31 : decode cX3_text 31 = .ok (.iconst 2, 1) := dk_5 (dk_at dksX3_text_1 8 rfl rfl)
theorem dX3_text_32 : decode cX3_text 32 = .ok (.if_icmp .ne 11, 3) := dk_160 0 11 (dk_at dksX3_text_1 9 rfl rfl)
theorem dX3_text_35 : decode cX3_text 35 = .ok (.aload_n 0, 1) := dk_42 (dk_at dksX3_text_1 12 rfl rfl)
theorem dX3_text_36 : decode cX3_text 36 = .ok (.getfield 302, 3) := dk_180 1 46 (dk_at dksX3_text_1 13 rfl rfl)
theorem dX3_text_39 : decode cX3_text 39 = .ok (.iconst 4, 1) := dk_7 (dk_at dksX3_text_1 16 rfl rfl)
theorem dX3_text_40 : decode cX3_text 40 = .ok (.if_icmp .eq 12, 3) := dk_159 0 12 (dk_at dksX3_text_1 17 rfl rfl)
theorem dX3_text_43 : decode cX3_text 43 = .ok (.aload_n 0, 1) := dk_42 (dk_at dksX3_text_1 20 rfl rfl)
theorem dX3_text_44 : decode cX3_text 44 = .ok (.iload_n 1, 1) := dk_27 (dk_at dksX3_text_1 21 rfl rfl)
theorem dX3_text_45 : decode cX3_text 45 = .ok (.invokevirtual 305, 3) := dk_182 1 49 (dk_at dksX3_text_2 0 rfl rfl)
theorem dX3_text_48 : decode cX3_text 48 = .ok (.iconst (-1), 1) := dk_2 (dk_at dksX3_text_2 3 rfl rfl)
theorem dX3_text_49 : decode cX3_text 49 = .ok (.if_icmp .eq 5, 3) := dk_159 0 5 (dk_at dksX3_text_2 4 rfl rfl)
theorem dX3_text_52 : decode cX3_text 52 = .ok (.iconst (-1), 1) := dk_2 (dk_at dksX3_text_2 7 rfl rfl)
theorem dX3_text_53 : decode cX3_text 53 = .ok (.ireturn, 1) := dk_172 (dk_at dksX3_text_2 8 rfl rfl)
theorem dX3_text_54 : decode cX3_text 54 = .ok (.aload_n 0, 1) := dk_42 (dk_at dksX3_text_2 9 rfl rfl)
theorem dX3_text_55 : decode cX3_text 55 = .ok (.getfield 122, 3) := dk_180 0 122 (dk_at dksX3_text_2 10 rfl rfl)
theorem dX3_text_58 : decode cX3_text 58 = .ok (.istore_n 2, 1) := dk_61 (dk_at dksX3_text_2 13 rfl rfl)
theorem dX3_text_59 : decode cX3_text 59 = .ok (.aload_n 0, 1) := dk_42 (dk_at dksX3_text_2 14 rfl rfl)
theorem dX3_text_60 : decode cX3_text 60 = .ok (.iconst 0, 1) := dk_3 (dk_at dksX3_text_2 15 rfl rfl)
theorem dX3_text_61 : decode cX3_text 61 = .ok (.putfield 122, 3) := dk_181 0 122 (dk_at dksX3_text_2 16 rfl rfl)
theorem dX3_text_64 : decode cX3_text 64 = .ok (.iload_n 1, 1) := dk_27 (dk_at dksX3_text_2 19 rfl rfl)
theorem dX3_text_65 : decode cX3_text 65 = .ok (.iconst 1, 1) := dk_4 (dk_at dksX3_text_2 20 rfl rfl)
theorem dX3_text_66 : decode cX3_text 66 = .ok (.if_icmp .ne 64, 3) := dk_160 0 64 (dk_at dksX3_text_2 21 rfl rfl)
theorem dX3_text_69 : decode cX3_text 69 = .ok (.iconst 0, 1) := dk_3 (dk_at dksX3_text_3 0 rfl rfl)
theorem dX3_text_70 : decode cX3_text 70 = .ok (.istore_n 3, 1) := dk_62 (dk_at dksX3_text_3 1 rfl rfl)
theorem dX3_text_71 : decode cX3_text 71 = .ok (.iload_n 3, 1) := dk_29 (dk_at dksX3_text_3 2 rfl rfl)
theorem dX3_text_72 : decode cX3_text 72 = .ok (.iload_n 2, 1) := dk_28 (dk_at dksX3_text_3 3 rfl rfl)
theorem dX3_text_73 : decode cX3_text 73 = .ok (.if_icmp .ge 30, 3) := dk_162 0 30 (dk_at dksX3_text_3 4 rfl rfl)
theorem dX3_text_76 : decode cX3_text 76 = .ok (.aload_n 0, 1) := dk_42 (dk_at dksX3_text_3 7 rfl rfl)
theorem dX3_text_77 : decode cX3_text 77 = .ok (.getfield 13, 3) := dk_180 0 13 (dk_at dksX3_text_3 8 rfl rfl)
theorem dX3_text_80 : decode cX3_text 80 = .ok (.sipush 240, 3) := dk_17 0 240 (dk_at dksX3_text_3 11 rfl rfl)
theorem dX3_text_83 : decode cX3_text 83 = .ok (.aload_n 0, 1) := dk_42 (dk_at dksX3_text_3 14 rfl rfl)
theorem dX3_text_84 : decode cX3_text 84 = .ok (.getfield 299, 3) := dk_180 1 43 (dk_at dksX3_text_3 15 rfl rfl)
theorem dX3_text_87 : decode cX3_text 87 = .ok (.imul, 1) := dk_104 (dk_at dksX3_text_3 18 rfl rfl)
theorem dX3_text_88 : decode cX3_text 88 = .ok (.iload_n 3, 1) := dk_29 (dk_at dksX3_text_3 19 rfl rfl)
theorem dX3_text_89 : decode cX3_text 89 = .ok (.iadd, 1) := dk_96 (dk_at dksX3_text_3 20 rfl rfl)
theorem dX3_text_90 : decode cX3_text 90 = .ok (.aload_n 0, 1) := dk_42 (dk_at dksX3_text_3 21 rfl rfl)
theorem dX3_text_91 : decode cX3_text 91 = .ok (.getfield 9, 3) := dk_180 0 9 (dk_at dksX3_text_4 0 rfl rfl)
theorem dX3_text_94 : decode cX3_text 94 = .ok (.iload_n 3, 1) := dk_29 (dk_at dksX3_text_4 3 rfl rfl)
theorem dX3_text_95 : decode cX3_text 95 = .ok (.baload, 1) := dk_51 (dk_at dksX3_text_4 4 rfl rfl)
theorem dX3_text_96 : decode cX3_text 96 = .ok (.bastore, 1) := dk_84 (dk_at dksX3_text_4 5 rfl rfl)
theorem dX3_text_97 : decode cX3_text 97 = .ok (.iinc 3 1, 3) := dk_132 3 1 (dk_at dksX3_text_4 6 rfl rfl)
theorem dX3_text_100 : decode cX3_text 100 = .ok (.goto (-29), 3) := dk_167 255 227 (dk_at dksX3_text_4 9 rfl rfl)
theorem dX3_text_103 : decode cX3_text 103 = .ok (.aload_n 0, 1) := dk_42 (dk_at dksX3_text_4 12 rfl rfl)
theorem dX3_text_104 : decode cX3_text 104 = .ok (.getfield 16, 3) := dk_180 0 16 (dk_at dksX3_text_4 13 rfl rfl)
theorem dX3_text_107 : decode cX3_text 107 = .ok (.aload_n 0, 1) := dk_42 (dk_at dksX3_text_4 16 rfl rfl)
theorem dX3_text_108 : decode cX3_text 108 = .ok (.getfield 299, 3) := dk_180 1 43 (dk_at dksX3_text_4 17 rfl rfl)
theorem dX3_text_111 : decode cX3_text 111 = .ok (.iload_n 2, 1) := dk_28 (dk_at dksX3_text_4 20 rfl rfl)
theorem dX3_text_112 : decode cX3_text 112 = .ok (.iastore, 1) := dk_79 (dk_at dksX3_text_4 21 rfl rfl)
theorem dX3_text_113 : decode cX3_text 113 = .ok (.aload_n 0, 1) := dk_42 (dk_at dksX3_text_4 22 rfl rfl)
theorem dX3_text_114 : decode cX3_text 114 = .ok (.dup, 1) := dk_89 (dk_at dksX3_text_4 23 rfl rfl)
theorem dX3_text_115 : decode cX3_text 115 = .ok (.getfield 299, 3) := dk_180 1 43 (dk_at dksX3_text_5 0 rfl rfl)
theorem dX3_text_118 : decode cX3_text 118 = .ok (.iconst 1, 1) := dk_4 (dk_at dksX3_text_5 3 rfl rfl)
theorem dX3_text_119 : decode cX3_text 119 = .ok (.iadd, 1) := dk_96 (dk_at dksX3_text_5 4 rfl rfl)
theorem dX3_text_120 : decode cX3_text 120 = .ok (.putfield 299, 3) := dk_181 1 43 (dk_at dksX3_text_5 5 rfl rfl)
theorem dX3_text_123 : decode cX3_text 123 = .ok (.aload_n 0, 1) := dk_42 (dk_at dksX3_text_5 8 rfl rfl)
theorem dX3_text_124 : decode cX3_text 124 = .ok (.getfield 299, 3) := dk_180 1 43 (dk_at dksX3_text_5 9 rfl rfl)
theorem dX3_text_127 : decode cX3_text 127 = .ok (.iconst 1, 1) := dk_4 (dk_at dksX3_text_5 12 rfl rfl)
theorem dX3_text_128 : decode cX3_text 128 = .ok (.isub, 1) := dk_100 (dk_at dksX3_text_5 13 rfl rfl)
theorem dX3_text_129 : decode cX3_text 129 = .ok (.ireturn, 1) := dk_172 (dk_at dksX3_text_5 14 rfl rfl)
theorem dX3_text_130 : decode cX3_text 130 = .ok (.iload_n 1, 1) := dk_27 (dk_at dksX3_text_5 15 rfl rfl)
theorem dX3_text_131 : decode cX3_text 131 = .ok (.iconst 2, 1) := dk_5 (dk_at dksX3_text_5 16 rfl rfl)
theorem dX3_text_132 : decode cX3_text 132 = .ok (.if_icmp .ne 73, 3) := dk_160 0 73 (dk_at dksX3_text_5 17 rfl rfl)
theorem dX3_text_135 : decode cX3_text 135 = .ok (.iconst 0, 1) := dk_3 (dk_at dksX3_text_5 20 rfl rfl)
theorem dX3_text_136 : decode cX3_text 136 = .ok (.istore_n 3, 1) := dk_62 (dk_at dksX3_text_5 21 rfl rfl)
theorem dX3_text_137 : decode cX3_text 137 = .ok (.iload_n 3, 1) := dk_29 (dk_at dksX3_text_5 22 rfl rfl)
theorem dX3_text_138 : decode cX3_text 138 = .ok (.bipush 64, 2) := dk_16 64 (dk_at dksX3_text_6 0 rfl rfl)
theorem dX3_text_140 : decode cX3_text 140 = .ok (.if_icmp .ge 33, 3) := dk_162 0 33 (dk_at dksX3_text_6 2 rfl rfl)
theorem dX3_text_143 : decode cX3_text 143 = .ok (.aload_n 0, 1) := dk_42 (dk_at dksX3_text_6 5 rfl rfl)
theorem dX3_text_144 : decode cX3_text 144 = .ok (.getfield 52, 3) := dk_180 0 52 (dk_at dksX3_text_6 6 rfl rfl)
theorem dX3_text_147 : decode cX3_text 147 = .ok (.bipush 64, 2) := dk_16 64 (dk_at dksX3_text_6 9 rfl rfl)
theorem dX3_text_149 : decode cX3_text 149 = .ok (.aload_n 0, 1) := dk_42 (dk_at dksX3_text_6 11 rfl rfl)
theorem dX3_text_150 : decode cX3_text 150 = .ok (.getfield 302, 3) := dk_180 1 46 (dk_at dksX3_text_6 12 rfl rfl)
theorem dX3_text_153 : decode cX3_text 153 = .ok (.imul, 1) := dk_104 (dk_at dksX3_text_6 15 rfl rfl)
theorem dX3_text_154 : decode cX3_text 154 = .ok (.iload_n 3, 1) := dk_29 (dk_at dksX3_text_6 16 rfl rfl)
theorem dX3_text_155 : decode cX3_text 155 = .ok (.iadd, 1) := dk_96 (dk_at dksX3_text_6 17 rfl rfl)
theorem dX3_text_156 : decode cX3_text 156 = .ok (.aload_n 0, 1) := dk_42 (dk_at dksX3_text_6 18 rfl rfl)
theorem dX3_text_157 : decode cX3_text 157 = .ok (.getfield 52, 3) := dk_180 0 52 (dk_at dksX3_text_6 19 rfl rfl)
theorem dX3_text_160 : decode cX3_text 160 = .ok (.sipush 256, 3) := dk_17 1 0 (dk_at dksX3_text_7 0 rfl rfl)
theorem dX3_text_163 : decode cX3_text 163 = .ok (.iload_n 3, 1) := dk_29 (dk_at dksX3_text_7 3 rfl rfl)
theorem dX3_text_164 : decode cX3_text 164 = .ok (.iadd, 1) := dk_96 (dk_at dksX3_text_7 4 rfl rfl)
theorem dX3_text_165 : decode cX3_text 165 = .ok (.iaload, 1) := dk_46 (dk_at dksX3_text_7 5 rfl rfl)
theorem dX3_text_166 : decode cX3_text 166 = .ok (.iastore, 1) := dk_79 (dk_at dksX3_text_7 6 rfl rfl)
theorem dX3_text_167 : decode cX3_text 167 = .ok (.iinc 3 1, 3) := dk_132 3 1 (dk_at dksX3_text_7 7 rfl rfl)
theorem dX3_text_170 : decode cX3_text 170 = .ok (.goto (-33), 3) := dk_167 255 223 (dk_at dksX3_text_7 10 rfl rfl)
theorem dX3_text_173 : decode cX3_text 173 = .ok (.aload_n 0, 1) := dk_42 (dk_at dksX3_text_7 13 rfl rfl)
theorem dX3_text_174 : decode cX3_text 174 = .ok (.getfield 55, 3) := dk_180 0 55 (dk_at dksX3_text_7 14 rfl rfl)
theorem dX3_text_177 : decode cX3_text 177 = .ok (.aload_n 0, 1) := dk_42 (dk_at dksX3_text_7 17 rfl rfl)
theorem dX3_text_178 : decode cX3_text 178 = .ok (.getfield 302, 3) := dk_180 1 46 (dk_at dksX3_text_7 18 rfl rfl)
theorem dX3_text_181 : decode cX3_text 181 = .ok (.aload_n 0, 1) := dk_42 (dk_at dksX3_text_7 21 rfl rfl)
theorem dX3_text_182 : decode cX3_text 182 = .ok (.getfield 55, 3) := dk_180 0 55 (dk_at dksX3_text_8 0 rfl rfl)
theorem dX3_text_185 : decode cX3_text 185 = .ok (.iconst 4, 1) := dk_7 (dk_at dksX3_text_8 3 rfl rfl)
theorem dX3_text_186 : decode cX3_text 186 = .ok (.iaload, 1) := dk_46 (dk_at dksX3_text_8 4 rfl rfl)
theorem dX3_text_187 : decode cX3_text 187 = .ok (.iastore, 1) := dk_79 (dk_at dksX3_text_8 5 rfl rfl)
theorem dX3_text_188 : decode cX3_text 188 = .ok (.aload_n 0, 1) := dk_42 (dk_at dksX3_text_8 6 rfl rfl)
theorem dX3_text_189 : decode cX3_text 189 = .ok (.dup, 1) := dk_89 (dk_at dksX3_text_8 7 rfl rfl)
theorem dX3_text_190 : decode cX3_text 190 = .ok (.getfield 302, 3) := dk_180 1 46 (dk_at dksX3_text_8 8 rfl rfl)
theorem dX3_text_193 : decode cX3_text 193 = .ok (.iconst 1, 1) := dk_4 (dk_at dksX3_text_8 11 rfl rfl)
theorem dX3_text_194 : decode cX3_text 194 = .ok (.iadd, 1) := dk_96 (dk_at dksX3_text_8 12 rfl rfl)
theorem dX3_text_195 : decode cX3_text 195 = .ok (.putfield 302, 3) := dk_181 1 46 (dk_at dksX3_text_8 13 rfl rfl)
theorem dX3_text_198 : decode cX3_text 198 = .ok (.aload_n 0, 1) := dk_42 (dk_at dksX3_text_8 16 rfl rfl)
theorem dX3_text_199 : decode cX3_text 199 = .ok (.getfield 302, 3) := dk_180 1 46 (dk_at dksX3_text_8 17 rfl rfl)
theorem dX3_text_202 : decode cX3_text 202 = .ok (.iconst 1, 1) := dk_4 (dk_at dksX3_text_8 20 rfl rfl)
theorem dX3_text_203 : decode cX3_text 203 = .ok (.isub, 1) := dk_100 (dk_at dksX3_text_8 21 rfl rfl)
theorem dX3_text_204 : decode cX3_text 204 = .ok (.ireturn, 1) := dk_172 (dk_at dksX3_text_8 22 rfl rfl)
theorem dX3_text_205 : decode cX3_text 205 = .ok (.aload_n 0, 1) := dk_42 (dk_at dksX3_text_8 23 rfl rfl)
theorem dX3_text_206 : decode cX3_text 206 = .ok (.aload_n 0, 1) := dk_42 (dk_at dksX3_text_9 0 rfl rfl)
theorem dX3_text_207 : decode cX3_text 207 = .ok (.getfield 258, 3) := dk_180 1 2 (dk_at dksX3_text_9 1 rfl rfl)
theorem dX3_text_210 : decode cX3_text 210 = .ok (.putfield 307, 3) := dk_181 1 51 (dk_at dksX3_text_9 4 rfl rfl)
theorem dX3_text_213 : decode cX3_text 213 = .ok (.iconst 0, 1) := dk_3 (dk_at dksX3_text_9 7 rfl rfl)
theorem dX3_text_214 : decode cX3_text 214 = .ok (.istore_n 3, 1) := dk_62 (dk_at dksX3_text_9 8 rfl rfl)
theorem dX3_text_215 : decode cX3_text 215 = .ok (.iload_n 3, 1) := dk_29 (dk_at dksX3_text_9 9 rfl rfl)
theorem dX3_text_216 : decode cX3_text 216 = .ok (.iconst 4, 1) := dk_7 (dk_at dksX3_text_9 10 rfl rfl)
theorem dX3_text_217 : decode cX3_text 217 = .ok (.if_icmp .ge 21, 3) := dk_162 0 21 (dk_at dksX3_text_9 11 rfl rfl)
theorem dX3_text_220 : decode cX3_text 220 = .ok (.aload_n 0, 1) := dk_42 (dk_at dksX3_text_9 14 rfl rfl)
theorem dX3_text_221 : decode cX3_text 221 = .ok (.getfield 37, 3) := dk_180 0 37 (dk_at dksX3_text_9 15 rfl rfl)
theorem dX3_text_224 : decode cX3_text 224 = .ok (.iload_n 3, 1) := dk_29 (dk_at dksX3_text_9 18 rfl rfl)
theorem dX3_text_225 : decode cX3_text 225 = .ok (.aload_n 0, 1) := dk_42 (dk_at dksX3_text_9 19 rfl rfl)
theorem dX3_text_226 : decode cX3_text 226 = .ok (.getfield 40, 3) := dk_180 0 40 (dk_at dksX3_text_9 20 rfl rfl)
theorem dX3_text_229 : decode cX3_text 229 = .ok (.iload_n 3, 1) := dk_29 (dk_at dksX3_text_9 23 rfl rfl)
theorem dX3_text_230 : decode cX3_text 230 = .ok (.iaload, 1) := dk_46 (dk_at dksX3_text_10 0 rfl rfl)
theorem dX3_text_231 : decode cX3_text 231 = .ok (.iastore, 1) := dk_79 (dk_at dksX3_text_10 1 rfl rfl)
theorem dX3_text_232 : decode cX3_text 232 = .ok (.iinc 3 1, 3) := dk_132 3 1 (dk_at dksX3_text_10 2 rfl rfl)
theorem dX3_text_235 : decode cX3_text 235 = .ok (.goto (-20), 3) := dk_167 255 236 (dk_at dksX3_text_10 5 rfl rfl)
theorem dX3_text_238 : decode cX3_text 238 = .ok (.iconst 0, 1) := dk_3 (dk_at dksX3_text_10 8 rfl rfl)
theorem dX3_text_239 : decode cX3_text 239 = .ok (.istore_n 3, 1) := dk_62 (dk_at dksX3_text_10 9 rfl rfl)
theorem dX3_text_240 : decode cX3_text 240 = .ok (.iload_n 3, 1) := dk_29 (dk_at dksX3_text_10 10 rfl rfl)
theorem dX3_text_241 : decode cX3_text 241 = .ok (.bipush 30, 2) := dk_16 30 (dk_at dksX3_text_10 11 rfl rfl)
theorem dX3_text_243 : decode cX3_text 243 = .ok (.if_icmp .ge 21, 3) := dk_162 0 21 (dk_at dksX3_text_10 13 rfl rfl)
theorem dX3_text_246 : decode cX3_text 246 = .ok (.aload_n 0, 1) := dk_42 (dk_at dksX3_text_10 16 rfl rfl)
theorem dX3_text_247 : decode cX3_text 247 = .ok (.getfield 43, 3) := dk_180 0 43 (dk_at dksX3_text_10 17 rfl rfl)
theorem dX3_text_250 : decode cX3_text 250 = .ok (.iload_n 3, 1) := dk_29 (dk_at dksX3_text_10 20 rfl rfl)
theorem dX3_text_251 : decode cX3_text 251 = .ok (.aload_n 0, 1) := dk_42 (dk_at dksX3_text_10 21 rfl rfl)
theorem dX3_text_252 : decode cX3_text 252 = .ok (.getfield 46, 3) := dk_180 0 46 (dk_at dksX3_text_11 0 rfl rfl)
theorem dX3_text_255 : decode cX3_text 255 = .ok (.iload_n 3, 1) := dk_29 (dk_at dksX3_text_11 3 rfl rfl)
theorem dX3_text_256 : decode cX3_text 256 = .ok (.iaload, 1) := dk_46 (dk_at dksX3_text_11 4 rfl rfl)
theorem dX3_text_257 : decode cX3_text 257 = .ok (.iastore, 1) := dk_79 (dk_at dksX3_text_11 5 rfl rfl)
theorem dX3_text_258 : decode cX3_text 258 = .ok (.iinc 3 1, 3) := dk_132 3 1 (dk_at dksX3_text_11 6 rfl rfl)
theorem dX3_text_261 : decode cX3_text 261 = .ok (.goto (-21), 3) := dk_167 255 235 (dk_at dksX3_text_11 9 rfl rfl)
theorem dX3_text_264 : decode cX3_text 264 = .ok (.iconst 0, 1) := dk_3 (dk_at dksX3_text_11 12 rfl rfl)
theorem dX3_text_265 : decode cX3_text 265 = .ok (.istore_n 3, 1) := dk_62 (dk_at dksX3_text_11 13 rfl rfl)
theorem dX3_text_266 : decode cX3_text 266 = .ok (.iload_n 3, 1) := dk_29 (dk_at dksX3_text_11 14 rfl rfl)
theorem dX3_text_267 : decode cX3_text 267 = .ok (.sipush 283, 3) := dk_17 1 27 (dk_at dksX3_text_11 15 rfl rfl)
theorem dX3_text_270 : decode cX3_text 270 = .ok (.if_icmp .ge 16, 3) := dk_162 0 16 (dk_at dksX3_text_11 18 rfl rfl)
theorem dX3_text_273 : decode cX3_text 273 = .ok (.aload_n 0, 1) := dk_42 (dk_at dksX3_text_11 21 rfl rfl)
theorem dX3_text_274 : decode cX3_text 274 = .ok (.getfield 58, 3) := dk_180 0 58 (dk_at dksX3_text_12 0 rfl rfl)
theorem dX3_text_277 : decode cX3_text 277 = .ok (.iload_n 3, 1) := dk_29 (dk_at dksX3_text_12 3 rfl rfl)
theorem dX3_text_278 : decode cX3_text 278 = .ok (.iconst 0, 1) := dk_3 (dk_at dksX3_text_12 4 rfl rfl)
theorem dX3_text_279 : decode cX3_text 279 = .ok (.iastore, 1) := dk_79 (dk_at dksX3_text_12 5 rfl rfl)
theorem dX3_text_280 : decode cX3_text 280 = .ok (.iinc 3 1, 3) := dk_132 3 1 (dk_at dksX3_text_12 6 rfl rfl)
theorem dX3_text_283 : decode cX3_text 283 = .ok (.goto (-17), 3) := dk_167 255 239 (dk_at dksX3_text_12 9 rfl rfl)
theorem dX3_text_286 : decode cX3_text 286 = .ok (.aload_n 0, 1) := dk_42 (dk_at dksX3_text_12 12 rfl rfl)
theorem dX3_text_287 : decode cX3_text 287 = .ok (.getfield 58, 3) := dk_180 0 58 (dk_at dksX3_text_12 13 rfl rfl)
theorem dX3_text_290 : decode cX3_text 290 = .ok (.bipush 40, 2) := dk_16 40 (dk_at dksX3_text_12 16 rfl rfl)
theorem dX3_text_292 : decode cX3_text 292 = .ok (.aload_n 0, 1) := dk_42 (dk_at dksX3_text_12 18 rfl rfl)
theorem dX3_text_293 : decode cX3_text 293 = .ok (.getfield 261, 3) := dk_180 1 5 (dk_at dksX3_text_12 19 rfl rfl)
theorem dX3_text_296 : decode cX3_text 296 = .ok (.iastore, 1) := dk_79 (dk_at dksX3_text_12 22 rfl rfl)
theorem dX3_text_297 : decode cX3_text 297 = .ok (.iconst 0, 1) := dk_3 (dk_at dksX3_text_12 23 rfl rfl)
theorem dX3_text_298 : decode cX3_text 298 = .ok (.istore_n 3, 1) := dk_62 (dk_at dksX3_text_13 0 rfl rfl)
theorem dX3_text_299 : decode cX3_text 299 = .ok (.iload_n 3, 1) := dk_29 (dk_at dksX3_text_13 1 rfl rfl)
theorem dX3_text_300 : decode cX3_text 300 = .ok (.aload_n 0, 1) := dk_42 (dk_at dksX3_text_13 2 rfl rfl)
theorem dX3_text_301 : decode cX3_text 301 = .ok (.getfield 261, 3) := dk_180 1 5 (dk_at dksX3_text_13 3 rfl rfl)
theorem dX3_text_304 : decode cX3_text 304 = .ok (.if_icmp .ge 53, 3) := dk_162 0 53 (dk_at dksX3_text_13 6 rfl rfl)
theorem dX3_text_307 : decode cX3_text 307 = .ok (.iconst 0, 1) := dk_3 (dk_at dksX3_text_13 9 rfl rfl)
theorem dX3_text_308 : decode cX3_text 308 = .ok (.istore 4, 2) := dk_54 4 (dk_at dksX3_text_13 10 rfl rfl)
theorem dX3_text_310 : decode cX3_text 310 = .ok (.iload 4, 2) := dk_21 4 (dk_at dksX3_text_13 12 rfl rfl)
theorem dX3_text_312 : decode cX3_text 312 = .ok (.iconst 4, 1) := dk_7 (dk_at dksX3_text_13 14 rfl rfl)
theorem dX3_text_313 : decode cX3_text 313 = .ok (.if_icmp .ge 38, 3) := dk_162 0 38 (dk_at dksX3_text_13 15 rfl rfl)
theorem dX3_text_316 : decode cX3_text 316 = .ok (.aload_n 0, 1) := dk_42 (dk_at dksX3_text_13 18 rfl rfl)
theorem dX3_text_317 : decode cX3_text 317 = .ok (.getfield 58, 3) := dk_180 0 58 (dk_at dksX3_text_13 19 rfl rfl)
theorem dX3_text_320 : decode cX3_text 320 = .ok (.iconst 5, 1) := dk_8 (dk_at dksX3_text_13 22 rfl rfl)
theorem dX3_text_321 : decode cX3_text 321 = .ok (.aload_n 0, 1) := dk_42 (dk_at dksX3_text_13 23 rfl rfl)
theorem dX3_text_322 : decode cX3_text 322 = .ok (.getfield 261, 3) := dk_180 1 5 (dk_at dksX3_text_14 0 rfl rfl)
theorem dX3_text_325 : decode cX3_text 325 = .ok (.iconst 1, 1) := dk_4 (dk_at dksX3_text_14 3 rfl rfl)
theorem dX3_text_326 : decode cX3_text 326 = .ok (.isub, 1) := dk_100 (dk_at dksX3_text_14 4 rfl rfl)
theorem dX3_text_327 : decode cX3_text 327 = .ok (.iload_n 3, 1) := dk_29 (dk_at dksX3_text_14 5 rfl rfl)
theorem dX3_text_328 : decode cX3_text 328 = .ok (.isub, 1) := dk_100 (dk_at dksX3_text_14 6 rfl rfl)
theorem dX3_text_329 : decode cX3_text 329 = .ok (.imul, 1) := dk_104 (dk_at dksX3_text_14 7 rfl rfl)
theorem dX3_text_330 : decode cX3_text 330 = .ok (.iload 4, 2) := dk_21 4 (dk_at dksX3_text_14 8 rfl rfl)
theorem dX3_text_332 : decode cX3_text 332 = .ok (.iadd, 1) := dk_96 (dk_at dksX3_text_14 10 rfl rfl)
theorem dX3_text_333 : decode cX3_text 333 = .ok (.aload_n 0, 1) := dk_42 (dk_at dksX3_text_14 11 rfl rfl)
theorem dX3_text_334 : decode cX3_text 334 = .ok (.getfield 49, 3) := dk_180 0 49 (dk_at dksX3_text_14 12 rfl rfl)
theorem dX3_text_337 : decode cX3_text 337 = .ok (.iconst 4, 1) := dk_7 (dk_at dksX3_text_14 15 rfl rfl)
theorem dX3_text_338 : decode cX3_text 338 = .ok (.iload_n 3, 1) := dk_29 (dk_at dksX3_text_14 16 rfl rfl)
theorem dX3_text_339 : decode cX3_text 339 = .ok (.imul, 1) := dk_104 (dk_at dksX3_text_14 17 rfl rfl)
theorem dX3_text_340 : decode cX3_text 340 = .ok (.iload 4, 2) := dk_21 4 (dk_at dksX3_text_14 18 rfl rfl)
theorem dX3_text_342 : decode cX3_text 342 = .ok (.iadd, 1) := dk_96 (dk_at dksX3_text_14 20 rfl rfl)
theorem dX3_text_343 : decode cX3_text 343 = .ok (.iaload, 1) := dk_46 (dk_at dksX3_text_14 21 rfl rfl)
theorem dX3_text_344 : decode cX3_text 344 = .ok (.iastore, 1) := dk_79 (dk_at dksX3_text_14 22 rfl rfl)
theorem dX3_text_345 : decode cX3_text 345 = .ok (.iinc 4 1, 3) := dk_132 4 1 (dk_at dksX3_text_15 0 rfl rfl)
theorem dX3_text_348 : decode cX3_text 348 = .ok (.goto (-38), 3) := dk_167 255 218 (dk_at dksX3_text_15 3 rfl rfl)
theorem dX3_text_351 : decode cX3_text 351 = .ok (.iinc 3 1, 3) := dk_132 3 1 (dk_at dksX3_text_15 6 rfl rfl)
theorem dX3_text_354 : decode cX3_text 354 = .ok (.goto (-55), 3) := dk_167 255 201 (dk_at dksX3_text_15 9 rfl rfl)
theorem dX3_text_357 : decode cX3_text 357 = .ok (.aload_n 0, 1) := dk_42 (dk_at dksX3_text_15 12 rfl rfl)
theorem dX3_text_358 : decode cX3_text 358 = .ok (.iconst 0, 1) := dk_3 (dk_at dksX3_text_15 13 rfl rfl)
theorem dX3_text_359 : decode cX3_text 359 = .ok (.putfield 310, 3) := dk_181 1 54 (dk_at dksX3_text_15 14 rfl rfl)
theorem dX3_text_362 : decode cX3_text 362 = .ok (.aload_n 0, 1) := dk_42 (dk_at dksX3_text_15 17 rfl rfl)
theorem dX3_text_363 : decode cX3_text 363 = .ok (.iconst 0, 1) := dk_3 (dk_at dksX3_text_15 18 rfl rfl)
theorem dX3_text_364 : decode cX3_text 364 = .ok (.putfield 313, 3) := dk_181 1 57 (dk_at dksX3_text_15 19 rfl rfl)
theorem dX3_text_367 : decode cX3_text 367 = .ok (.aload_n 0, 1) := dk_42 (dk_at dksX3_text_15 22 rfl rfl)
theorem dX3_text_368 : decode cX3_text 368 = .ok (.iconst 0, 1) := dk_3 (dk_at dksX3_text_15 23 rfl rfl)
theorem dX3_text_369 : decode cX3_text 369 = .ok (.putfield 316, 3) := dk_181 1 60 (dk_at dksX3_text_16 0 rfl rfl)
theorem dX3_text_372 : decode cX3_text 372 = .ok (.aload_n 0, 1) := dk_42 (dk_at dksX3_text_16 3 rfl rfl)
theorem dX3_text_373 : decode cX3_text 373 = .ok (.iconst 0, 1) := dk_3 (dk_at dksX3_text_16 4 rfl rfl)
theorem dX3_text_374 : decode cX3_text 374 = .ok (.putfield 319, 3) := dk_181 1 63 (dk_at dksX3_text_16 5 rfl rfl)
theorem dX3_text_377 : decode cX3_text 377 = .ok (.aload_n 0, 1) := dk_42 (dk_at dksX3_text_16 8 rfl rfl)
theorem dX3_text_378 : decode cX3_text 378 = .ok (.getfield 307, 3) := dk_180 1 51 (dk_at dksX3_text_16 9 rfl rfl)
theorem dX3_text_381 : decode cX3_text 381 = .ok (.ireturn, 1) := dk_172 (dk_at dksX3_text_16 12 rfl rfl)
abbrev cX3_rule : ByteArray := prog_14_method_53_code
def yX3_rule : MethodName := ⟨RX3, "rule", "(I)I"⟩
def dkwX3_rule_1 : List UInt8 := [42, 180, 0, 37, 27, 46, 167, 0, 4, 2, 172]
abbrev dktX3_rule_1 : List UInt8 := dkwX3_rule_1 ++ []
def dkwX3_rule_0 : List UInt8 := [42, 3, 181, 0, 109, 42, 180, 1, 51, 158, 0, 24, 27, 133, 9, 20, 1, 98, 184, 0, 230, 153, 0, 12]
abbrev dktX3_rule_0 : List UInt8 := dkwX3_rule_0 ++ dktX3_rule_1
theorem dksX3_rule_0 : cX3_rule.data.toList.drop 0 = dktX3_rule_0 := by decide +kernel
theorem dksX3_rule_1 : cX3_rule.data.toList.drop 24 = dktX3_rule_1 := dk_seg dksX3_rule_0 24 rfl rfl
theorem dX3_rule_0 : decode cX3_rule 0 = .ok (.aload_n 0, 1) := dk_42 (dk_at dksX3_rule_0 0 rfl rfl)
theorem dX3_rule_1 : decode cX3_rule 1 = .ok (.iconst 0, 1) := dk_3 (dk_at dksX3_rule_0 1 rfl rfl)
theorem dX3_rule_2 : decode cX3_rule 2 = .ok (.putfield 109, 3) := dk_181 0 109 (dk_at dksX3_rule_0 2 rfl rfl)
theorem dX3_rule_5 : decode cX3_rule 5 = .ok (.aload_n 0, 1) := dk_42 (dk_at dksX3_rule_0 5 rfl rfl)
theorem dX3_rule_6 : decode cX3_rule 6 = .ok (.getfield 307, 3) := dk_180 1 51 (dk_at dksX3_rule_0 6 rfl rfl)
theorem dX3_rule_9 : decode cX3_rule 9 = .ok (.ifCond .le 24, 3) := dk_158 0 24 (dk_at dksX3_rule_0 9 rfl rfl)
theorem dX3_rule_12 : decode cX3_rule 12 = .ok (.iload_n 1, 1) := dk_27 (dk_at dksX3_rule_0 12 rfl rfl)
theorem dX3_rule_13 : decode cX3_rule 13 = .ok (.i2l, 1) := dk_133 (dk_at dksX3_rule_0 13 rfl rfl)
theorem dX3_rule_14 : decode cX3_rule 14 = .ok (.lconst 0, 1) := dk_9 (dk_at dksX3_rule_0 14 rfl rfl)
theorem dX3_rule_15 : decode cX3_rule 15 = .ok (.ldc2_w 354, 3) := dk_20 1 98 (dk_at dksX3_rule_0 15 rfl rfl)
theorem dX3_rule_18 : decode cX3_rule 18 = .ok (.invokestatic 230, 3) := dk_184 0 230 (dk_at dksX3_rule_0 18 rfl rfl)
theorem dX3_rule_21 : decode cX3_rule 21 = .ok (.ifCond .eq 12, 3) := dk_153 0 12 (dk_at dksX3_rule_0 21 rfl rfl)
theorem dX3_rule_24 : decode cX3_rule 24 = .ok (.aload_n 0, 1) := dk_42 (dk_at dksX3_rule_1 0 rfl rfl)
theorem dX3_rule_25 : decode cX3_rule 25 = .ok (.getfield 37, 3) := dk_180 0 37 (dk_at dksX3_rule_1 1 rfl rfl)
theorem dX3_rule_28 : decode cX3_rule 28 = .ok (.iload_n 1, 1) := dk_27 (dk_at dksX3_rule_1 4 rfl rfl)
theorem dX3_rule_29 : decode cX3_rule 29 = .ok (.iaload, 1) := dk_46 (dk_at dksX3_rule_1 5 rfl rfl)
theorem dX3_rule_30 : decode cX3_rule 30 = .ok (.goto 4, 3) := dk_167 0 4 (dk_at dksX3_rule_1 6 rfl rfl)
theorem dX3_rule_33 : decode cX3_rule 33 = .ok (.iconst (-1), 1) := dk_2 (dk_at dksX3_rule_1 9 rfl rfl)
theorem dX3_rule_34 : decode cX3_rule 34 = .ok (.ireturn, 1) := dk_172 (dk_at dksX3_rule_1 10 rfl rfl)
abbrev cX3_kind : ByteArray := prog_14_method_54_code
def yX3_kind : MethodName := ⟨RX3, "kind", "(II)I"⟩
def dkwX3_kind_2 : List UInt8 := [167, 0, 9, 42, 27, 28, 182, 1, 66, 172]
abbrev dktX3_kind_2 : List UInt8 := dkwX3_kind_2 ++ []
def dkwX3_kind_1 : List UInt8 := [154, 0, 5, 2, 172, 28, 7, 160, 0, 18, 42, 27, 7, 182, 1, 66, 16, 6, 160, 0, 7, 2]
abbrev dktX3_kind_1 : List UInt8 := dkwX3_kind_1 ++ dktX3_kind_2
def dkwX3_kind_0 : List UInt8 := [42, 3, 181, 0, 109, 42, 27, 182, 1, 100, 153, 0, 15, 28, 133, 9, 20, 1, 103, 184, 0, 230]
abbrev dktX3_kind_0 : List UInt8 := dkwX3_kind_0 ++ dktX3_kind_1
theorem dksX3_kind_0 : cX3_kind.data.toList.drop 0 = dktX3_kind_0 := by decide +kernel
theorem dksX3_kind_1 : cX3_kind.data.toList.drop 22 = dktX3_kind_1 := dk_seg dksX3_kind_0 22 rfl rfl
theorem dksX3_kind_2 : cX3_kind.data.toList.drop 44 = dktX3_kind_2 := dk_seg dksX3_kind_1 22 rfl rfl
theorem dX3_kind_0 : decode cX3_kind 0 = .ok (.aload_n 0, 1) := dk_42 (dk_at dksX3_kind_0 0 rfl rfl)
theorem dX3_kind_1 : decode cX3_kind 1 = .ok (.iconst 0, 1) := dk_3 (dk_at dksX3_kind_0 1 rfl rfl)
theorem dX3_kind_2 : decode cX3_kind 2 = .ok (.putfield 109, 3) := dk_181 0 109 (dk_at dksX3_kind_0 2 rfl rfl)
theorem dX3_kind_5 : decode cX3_kind 5 = .ok (.aload_n 0, 1) := dk_42 (dk_at dksX3_kind_0 5 rfl rfl)
theorem dX3_kind_6 : decode cX3_kind 6 = .ok (.iload_n 1, 1) := dk_27 (dk_at dksX3_kind_0 6 rfl rfl)
theorem dX3_kind_7 : decode cX3_kind 7 = .ok (.invokevirtual 356, 3) := dk_182 1 100 (dk_at dksX3_kind_0 7 rfl rfl)
theorem dX3_kind_10 : decode cX3_kind 10 = .ok (.ifCond .eq 15, 3) := dk_153 0 15 (dk_at dksX3_kind_0 10 rfl rfl)
theorem dX3_kind_13 : decode cX3_kind 13 = .ok (.iload_n 2, 1) := dk_28 (dk_at dksX3_kind_0 13 rfl rfl)
theorem dX3_kind_14 : decode cX3_kind 14 = .ok (.i2l, 1) := dk_133 (dk_at dksX3_kind_0 14 rfl rfl)
theorem dX3_kind_15 : decode cX3_kind 15 = .ok (.lconst 0, 1) := dk_9 (dk_at dksX3_kind_0 15 rfl rfl)
theorem dX3_kind_16 : decode cX3_kind 16 = .ok (.ldc2_w 359, 3) := dk_20 1 103 (dk_at dksX3_kind_0 16 rfl rfl)
theorem dX3_kind_19 : decode cX3_kind 19 = .ok (.invokestatic 230, 3) := dk_184 0 230 (dk_at dksX3_kind_0 19 rfl rfl)
theorem dX3_kind_22 : decode cX3_kind 22 = .ok (.ifCond .ne 5, 3) := dk_154 0 5 (dk_at dksX3_kind_1 0 rfl rfl)
theorem dX3_kind_25 : decode cX3_kind 25 = .ok (.iconst (-1), 1) := dk_2 (dk_at dksX3_kind_1 3 rfl rfl)
theorem dX3_kind_26 : decode cX3_kind 26 = .ok (.ireturn, 1) := dk_172 (dk_at dksX3_kind_1 4 rfl rfl)
theorem dX3_kind_27 : decode cX3_kind 27 = .ok (.iload_n 2, 1) := dk_28 (dk_at dksX3_kind_1 5 rfl rfl)
theorem dX3_kind_28 : decode cX3_kind 28 = .ok (.iconst 4, 1) := dk_7 (dk_at dksX3_kind_1 6 rfl rfl)
theorem dX3_kind_29 : decode cX3_kind 29 = .ok (.if_icmp .ne 18, 3) := dk_160 0 18 (dk_at dksX3_kind_1 7 rfl rfl)
theorem dX3_kind_32 : decode cX3_kind 32 = .ok (.aload_n 0, 1) := dk_42 (dk_at dksX3_kind_1 10 rfl rfl)
theorem dX3_kind_33 : decode cX3_kind 33 = .ok (.iload_n 1, 1) := dk_27 (dk_at dksX3_kind_1 11 rfl rfl)
theorem dX3_kind_34 : decode cX3_kind 34 = .ok (.iconst 4, 1) := dk_7 (dk_at dksX3_kind_1 12 rfl rfl)
theorem dX3_kind_35 : decode cX3_kind 35 = .ok (.invokevirtual 322, 3) := dk_182 1 66 (dk_at dksX3_kind_1 13 rfl rfl)
theorem dX3_kind_38 : decode cX3_kind 38 = .ok (.bipush 6, 2) := dk_16 6 (dk_at dksX3_kind_1 16 rfl rfl)
theorem dX3_kind_40 : decode cX3_kind 40 = .ok (.if_icmp .ne 7, 3) := dk_160 0 7 (dk_at dksX3_kind_1 18 rfl rfl)
theorem dX3_kind_43 : decode cX3_kind 43 = .ok (.iconst (-1), 1) := dk_2 (dk_at dksX3_kind_1 21 rfl rfl)
theorem dX3_kind_44 : decode cX3_kind 44 = .ok (.goto 9, 3) := dk_167 0 9 (dk_at dksX3_kind_2 0 rfl rfl)
theorem dX3_kind_47 : decode cX3_kind 47 = .ok (.aload_n 0, 1) := dk_42 (dk_at dksX3_kind_2 3 rfl rfl)
theorem dX3_kind_48 : decode cX3_kind 48 = .ok (.iload_n 1, 1) := dk_27 (dk_at dksX3_kind_2 4 rfl rfl)
theorem dX3_kind_49 : decode cX3_kind 49 = .ok (.iload_n 2, 1) := dk_28 (dk_at dksX3_kind_2 5 rfl rfl)
theorem dX3_kind_50 : decode cX3_kind 50 = .ok (.invokevirtual 322, 3) := dk_182 1 66 (dk_at dksX3_kind_2 6 rfl rfl)
theorem dX3_kind_53 : decode cX3_kind 53 = .ok (.ireturn, 1) := dk_172 (dk_at dksX3_kind_2 9 rfl rfl)
abbrev cX3_isKind : ByteArray := prog_14_method_43_code
def yX3_isKind : MethodName := ⟨RX3, "isKind", "(I)Z"⟩
def dkwX3_isKind_0 : List UInt8 := [27, 155, 0, 15, 27, 42, 180, 1, 51, 162, 0, 7, 4, 167, 0, 4, 3, 172]
abbrev dktX3_isKind_0 : List UInt8 := dkwX3_isKind_0 ++ []
theorem dksX3_isKind_0 : cX3_isKind.data.toList.drop 0 = dktX3_isKind_0 := by decide +kernel
theorem dX3_isKind_0 : decode cX3_isKind 0 = .ok (.iload_n 1, 1) := dk_27 (dk_at dksX3_isKind_0 0 rfl rfl)
theorem dX3_isKind_1 : decode cX3_isKind 1 = .ok (.ifCond .lt 15, 3) := dk_155 0 15 (dk_at dksX3_isKind_0 1 rfl rfl)
theorem dX3_isKind_4 : decode cX3_isKind 4 = .ok (.iload_n 1, 1) := dk_27 (dk_at dksX3_isKind_0 4 rfl rfl)
theorem dX3_isKind_5 : decode cX3_isKind 5 = .ok (.aload_n 0, 1) := dk_42 (dk_at dksX3_isKind_0 5 rfl rfl)
theorem dX3_isKind_6 : decode cX3_isKind 6 = .ok (.getfield 307, 3) := dk_180 1 51 (dk_at dksX3_isKind_0 6 rfl rfl)
theorem dX3_isKind_9 : decode cX3_isKind 9 = .ok (.if_icmp .ge 7, 3) := dk_162 0 7 (dk_at dksX3_isKind_0 9 rfl rfl)
theorem dX3_isKind_12 : decode cX3_isKind 12 = .ok (.iconst 1, 1) := dk_4 (dk_at dksX3_isKind_0 12 rfl rfl)
theorem dX3_isKind_13 : decode cX3_isKind 13 = .ok (.goto 4, 3) := dk_167 0 4 (dk_at dksX3_isKind_0 13 rfl rfl)
theorem dX3_isKind_16 : decode cX3_isKind 16 = .ok (.iconst 0, 1) := dk_3 (dk_at dksX3_isKind_0 16 rfl rfl)
theorem dX3_isKind_17 : decode cX3_isKind 17 = .ok (.ireturn, 1) := dk_172 (dk_at dksX3_isKind_0 17 rfl rfl)
abbrev cX3_told : ByteArray := prog_14_method_45_code
def yX3_told : MethodName := ⟨RX3, "told", "(II)I"⟩
def dkwX3_told_0 : List UInt8 := [42, 180, 0, 43, 8, 27, 104, 28, 96, 46, 172]
abbrev dktX3_told_0 : List UInt8 := dkwX3_told_0 ++ []
theorem dksX3_told_0 : cX3_told.data.toList.drop 0 = dktX3_told_0 := by decide +kernel
theorem dX3_told_0 : decode cX3_told 0 = .ok (.aload_n 0, 1) := dk_42 (dk_at dksX3_told_0 0 rfl rfl)
theorem dX3_told_1 : decode cX3_told 1 = .ok (.getfield 43, 3) := dk_180 0 43 (dk_at dksX3_told_0 1 rfl rfl)
theorem dX3_told_4 : decode cX3_told 4 = .ok (.iconst 5, 1) := dk_8 (dk_at dksX3_told_0 4 rfl rfl)
theorem dX3_told_5 : decode cX3_told 5 = .ok (.iload_n 1, 1) := dk_27 (dk_at dksX3_told_0 5 rfl rfl)
theorem dX3_told_6 : decode cX3_told 6 = .ok (.imul, 1) := dk_104 (dk_at dksX3_told_0 6 rfl rfl)
theorem dX3_told_7 : decode cX3_told 7 = .ok (.iload_n 2, 1) := dk_28 (dk_at dksX3_told_0 7 rfl rfl)
theorem dX3_told_8 : decode cX3_told 8 = .ok (.iadd, 1) := dk_96 (dk_at dksX3_told_0 8 rfl rfl)
theorem dX3_told_9 : decode cX3_told 9 = .ok (.iaload, 1) := dk_46 (dk_at dksX3_told_0 9 rfl rfl)
theorem dX3_told_10 : decode cX3_told 10 = .ok (.ireturn, 1) := dk_172 (dk_at dksX3_told_0 10 rfl rfl)
abbrev cX3_box : ByteArray := prog_14_method_55_code
def yX3_box : MethodName := ⟨RX3, "box", "(II)I"⟩
def dkwX3_box_4 : List UInt8 := [16, 40, 46, 4, 100, 27, 100, 172, 42, 180, 0, 58, 8, 27, 104, 28, 96, 46, 172]
abbrev dktX3_box_4 : List UInt8 := dkwX3_box_4 ++ []
def dkwX3_box_3 : List UInt8 := [42, 42, 180, 0, 58, 27, 182, 1, 94, 172, 42, 42, 180, 0, 58, 27, 182, 1, 111, 172, 42, 180, 0, 58]
abbrev dktX3_box_3 : List UInt8 := dkwX3_box_3 ++ dktX3_box_4
def dkwX3_box_2 : List UInt8 := [170, 0, 0, 0, 57, 0, 0, 0, 4, 0, 0, 0, 6, 0, 0, 0, 25, 0, 0, 0, 35, 0, 0, 0, 45]
abbrev dktX3_box_2 : List UInt8 := dkwX3_box_2 ++ dktX3_box_3
def dkwX3_box_1 : List UInt8 := [153, 0, 7, 3, 167, 0, 4, 4, 181, 0, 109, 42, 180, 0, 109, 158, 0, 5, 3, 172, 28]
abbrev dktX3_box_1 : List UInt8 := dkwX3_box_1 ++ dktX3_box_2
def dkwX3_box_0 : List UInt8 := [42, 42, 42, 180, 0, 58, 27, 182, 1, 105, 153, 0, 19, 28, 133, 9, 20, 1, 109, 184, 0, 230]
abbrev dktX3_box_0 : List UInt8 := dkwX3_box_0 ++ dktX3_box_1
theorem dksX3_box_0 : cX3_box.data.toList.drop 0 = dktX3_box_0 := by decide +kernel
theorem dksX3_box_1 : cX3_box.data.toList.drop 22 = dktX3_box_1 := dk_seg dksX3_box_0 22 rfl rfl
theorem dksX3_box_2 : cX3_box.data.toList.drop 43 = dktX3_box_2 := dk_seg dksX3_box_1 21 rfl rfl
theorem dksX3_box_3 : cX3_box.data.toList.drop 68 = dktX3_box_3 := dk_seg dksX3_box_2 25 rfl rfl
theorem dksX3_box_4 : cX3_box.data.toList.drop 92 = dktX3_box_4 := dk_seg dksX3_box_3 24 rfl rfl
theorem dX3_box_0 : decode cX3_box 0 = .ok (.aload_n 0, 1) := dk_42 (dk_at dksX3_box_0 0 rfl rfl)
theorem dX3_box_1 : decode cX3_box 1 = .ok (.aload_n 0, 1) := dk_42 (dk_at dksX3_box_0 1 rfl rfl)
theorem dX3_box_2 : decode cX3_box 2 = .ok (.aload_n 0, 1) := dk_42 (dk_at dksX3_box_0 2 rfl rfl)
theorem dX3_box_3 : decode cX3_box 3 = .ok (.getfield 58, 3) := dk_180 0 58 (dk_at dksX3_box_0 3 rfl rfl)
theorem dX3_box_6 : decode cX3_box 6 = .ok (.iload_n 1, 1) := dk_27 (dk_at dksX3_box_0 6 rfl rfl)
theorem dX3_box_7 : decode cX3_box 7 = .ok (.invokevirtual 361, 3) := dk_182 1 105 (dk_at dksX3_box_0 7 rfl rfl)
theorem dX3_box_10 : decode cX3_box 10 = .ok (.ifCond .eq 19, 3) := dk_153 0 19 (dk_at dksX3_box_0 10 rfl rfl)
theorem dX3_box_13 : decode cX3_box 13 = .ok (.iload_n 2, 1) := dk_28 (dk_at dksX3_box_0 13 rfl rfl)
theorem dX3_box_14 : decode cX3_box 14 = .ok (.i2l, 1) := dk_133 (dk_at dksX3_box_0 14 rfl rfl)
theorem dX3_box_15 : decode cX3_box 15 = .ok (.lconst 0, 1) := dk_9 (dk_at dksX3_box_0 15 rfl rfl)
theorem dX3_box_16 : decode cX3_box 16 = .ok (.ldc2_w 365, 3) := dk_20 1 109 (dk_at dksX3_box_0 16 rfl rfl)
theorem dX3_box_19 : decode cX3_box 19 = .ok (.invokestatic 230, 3) := dk_184 0 230 (dk_at dksX3_box_0 19 rfl rfl)
theorem dX3_box_22 : decode cX3_box 22 = .ok (.ifCond .eq 7, 3) := dk_153 0 7 (dk_at dksX3_box_1 0 rfl rfl)
theorem dX3_box_25 : decode cX3_box 25 = .ok (.iconst 0, 1) := dk_3 (dk_at dksX3_box_1 3 rfl rfl)
theorem dX3_box_26 : decode cX3_box 26 = .ok (.goto 4, 3) := dk_167 0 4 (dk_at dksX3_box_1 4 rfl rfl)
theorem dX3_box_29 : decode cX3_box 29 = .ok (.iconst 1, 1) := dk_4 (dk_at dksX3_box_1 7 rfl rfl)
theorem dX3_box_30 : decode cX3_box 30 = .ok (.putfield 109, 3) := dk_181 0 109 (dk_at dksX3_box_1 8 rfl rfl)
theorem dX3_box_33 : decode cX3_box 33 = .ok (.aload_n 0, 1) := dk_42 (dk_at dksX3_box_1 11 rfl rfl)
theorem dX3_box_34 : decode cX3_box 34 = .ok (.getfield 109, 3) := dk_180 0 109 (dk_at dksX3_box_1 12 rfl rfl)
theorem dX3_box_37 : decode cX3_box 37 = .ok (.ifCond .le 5, 3) := dk_158 0 5 (dk_at dksX3_box_1 15 rfl rfl)
theorem dX3_box_40 : decode cX3_box 40 = .ok (.iconst 0, 1) := dk_3 (dk_at dksX3_box_1 18 rfl rfl)
theorem dX3_box_41 : decode cX3_box 41 = .ok (.ireturn, 1) := dk_172 (dk_at dksX3_box_1 19 rfl rfl)
theorem dX3_box_42 : decode cX3_box 42 = .ok (.iload_n 2, 1) := dk_28 (dk_at dksX3_box_1 20 rfl rfl)
theorem dX3_box_43 : decode cX3_box 43 = .ok (.tableswitch 57 4 6 #[25, 35, 45], 25) := by decide +kernel
theorem dX3_box_68 : decode cX3_box 68 = .ok (.aload_n 0, 1) := dk_42 (dk_at dksX3_box_3 0 rfl rfl)
theorem dX3_box_69 : decode cX3_box 69 = .ok (.aload_n 0, 1) := dk_42 (dk_at dksX3_box_3 1 rfl rfl)
theorem dX3_box_70 : decode cX3_box 70 = .ok (.getfield 58, 3) := dk_180 0 58 (dk_at dksX3_box_3 2 rfl rfl)
theorem dX3_box_73 : decode cX3_box 73 = .ok (.iload_n 1, 1) := dk_27 (dk_at dksX3_box_3 5 rfl rfl)
theorem dX3_box_74 : decode cX3_box 74 = .ok (.invokevirtual 350, 3) := dk_182 1 94 (dk_at dksX3_box_3 6 rfl rfl)
theorem dX3_box_77 : decode cX3_box 77 = .ok (.ireturn, 1) := dk_172 (dk_at dksX3_box_3 9 rfl rfl)
theorem dX3_box_78 : decode cX3_box 78 = .ok (.aload_n 0, 1) := dk_42 (dk_at dksX3_box_3 10 rfl rfl)
theorem dX3_box_79 : decode cX3_box 79 = .ok (.aload_n 0, 1) := dk_42 (dk_at dksX3_box_3 11 rfl rfl)
theorem dX3_box_80 : decode cX3_box 80 = .ok (.getfield 58, 3) := dk_180 0 58 (dk_at dksX3_box_3 12 rfl rfl)
theorem dX3_box_83 : decode cX3_box 83 = .ok (.iload_n 1, 1) := dk_27 (dk_at dksX3_box_3 15 rfl rfl)
theorem dX3_box_84 : decode cX3_box 84 = .ok (.invokevirtual 367, 3) := dk_182 1 111 (dk_at dksX3_box_3 16 rfl rfl)
theorem dX3_box_87 : decode cX3_box 87 = .ok (.ireturn, 1) := dk_172 (dk_at dksX3_box_3 19 rfl rfl)
theorem dX3_box_88 : decode cX3_box 88 = .ok (.aload_n 0, 1) := dk_42 (dk_at dksX3_box_3 20 rfl rfl)
theorem dX3_box_89 : decode cX3_box 89 = .ok (.getfield 58, 3) := dk_180 0 58 (dk_at dksX3_box_3 21 rfl rfl)
theorem dX3_box_92 : decode cX3_box 92 = .ok (.bipush 40, 2) := dk_16 40 (dk_at dksX3_box_4 0 rfl rfl)
theorem dX3_box_94 : decode cX3_box 94 = .ok (.iaload, 1) := dk_46 (dk_at dksX3_box_4 2 rfl rfl)
theorem dX3_box_95 : decode cX3_box 95 = .ok (.iconst 1, 1) := dk_4 (dk_at dksX3_box_4 3 rfl rfl)
theorem dX3_box_96 : decode cX3_box 96 = .ok (.isub, 1) := dk_100 (dk_at dksX3_box_4 4 rfl rfl)
theorem dX3_box_97 : decode cX3_box 97 = .ok (.iload_n 1, 1) := dk_27 (dk_at dksX3_box_4 5 rfl rfl)
theorem dX3_box_98 : decode cX3_box 98 = .ok (.isub, 1) := dk_100 (dk_at dksX3_box_4 6 rfl rfl)
theorem dX3_box_99 : decode cX3_box 99 = .ok (.ireturn, 1) := dk_172 (dk_at dksX3_box_4 7 rfl rfl)
theorem dX3_box_100 : decode cX3_box 100 = .ok (.aload_n 0, 1) := dk_42 (dk_at dksX3_box_4 8 rfl rfl)
theorem dX3_box_101 : decode cX3_box 101 = .ok (.getfield 58, 3) := dk_180 0 58 (dk_at dksX3_box_4 9 rfl rfl)
theorem dX3_box_104 : decode cX3_box 104 = .ok (.iconst 5, 1) := dk_8 (dk_at dksX3_box_4 12 rfl rfl)
theorem dX3_box_105 : decode cX3_box 105 = .ok (.iload_n 1, 1) := dk_27 (dk_at dksX3_box_4 13 rfl rfl)
theorem dX3_box_106 : decode cX3_box 106 = .ok (.imul, 1) := dk_104 (dk_at dksX3_box_4 14 rfl rfl)
theorem dX3_box_107 : decode cX3_box 107 = .ok (.iload_n 2, 1) := dk_28 (dk_at dksX3_box_4 15 rfl rfl)
theorem dX3_box_108 : decode cX3_box 108 = .ok (.iadd, 1) := dk_96 (dk_at dksX3_box_4 16 rfl rfl)
theorem dX3_box_109 : decode cX3_box 109 = .ok (.iaload, 1) := dk_46 (dk_at dksX3_box_4 17 rfl rfl)
theorem dX3_box_110 : decode cX3_box 110 = .ok (.ireturn, 1) := dk_172 (dk_at dksX3_box_4 18 rfl rfl)
abbrev cX3_isBox : ByteArray := prog_14_method_44_code
def yX3_isBox : MethodName := ⟨RX3, "isBox", "([II)Z"⟩
def dkwX3_isBox_1 : List UInt8 := [172]
abbrev dktX3_isBox_1 : List UInt8 := dkwX3_isBox_1 ++ []
def dkwX3_isBox_0 : List UInt8 := [42, 180, 1, 51, 158, 0, 19, 28, 155, 0, 15, 28, 43, 16, 40, 46, 162, 0, 7, 4, 167, 0, 4, 3]
abbrev dktX3_isBox_0 : List UInt8 := dkwX3_isBox_0 ++ dktX3_isBox_1
theorem dksX3_isBox_0 : cX3_isBox.data.toList.drop 0 = dktX3_isBox_0 := by decide +kernel
theorem dksX3_isBox_1 : cX3_isBox.data.toList.drop 24 = dktX3_isBox_1 := dk_seg dksX3_isBox_0 24 rfl rfl
theorem dX3_isBox_0 : decode cX3_isBox 0 = .ok (.aload_n 0, 1) := dk_42 (dk_at dksX3_isBox_0 0 rfl rfl)
theorem dX3_isBox_1 : decode cX3_isBox 1 = .ok (.getfield 307, 3) := dk_180 1 51 (dk_at dksX3_isBox_0 1 rfl rfl)
theorem dX3_isBox_4 : decode cX3_isBox 4 = .ok (.ifCond .le 19, 3) := dk_158 0 19 (dk_at dksX3_isBox_0 4 rfl rfl)
theorem dX3_isBox_7 : decode cX3_isBox 7 = .ok (.iload_n 2, 1) := dk_28 (dk_at dksX3_isBox_0 7 rfl rfl)
theorem dX3_isBox_8 : decode cX3_isBox 8 = .ok (.ifCond .lt 15, 3) := dk_155 0 15 (dk_at dksX3_isBox_0 8 rfl rfl)
theorem dX3_isBox_11 : decode cX3_isBox 11 = .ok (.iload_n 2, 1) := dk_28 (dk_at dksX3_isBox_0 11 rfl rfl)
theorem dX3_isBox_12 : decode cX3_isBox 12 = .ok (.aload_n 1, 1) := dk_43 (dk_at dksX3_isBox_0 12 rfl rfl)
theorem dX3_isBox_13 : decode cX3_isBox 13 = .ok (.bipush 40, 2) := dk_16 40 (dk_at dksX3_isBox_0 13 rfl rfl)
theorem dX3_isBox_15 : decode cX3_isBox 15 = .ok (.iaload, 1) := dk_46 (dk_at dksX3_isBox_0 15 rfl rfl)
theorem dX3_isBox_16 : decode cX3_isBox 16 = .ok (.if_icmp .ge 7, 3) := dk_162 0 7 (dk_at dksX3_isBox_0 16 rfl rfl)
theorem dX3_isBox_19 : decode cX3_isBox 19 = .ok (.iconst 1, 1) := dk_4 (dk_at dksX3_isBox_0 19 rfl rfl)
theorem dX3_isBox_20 : decode cX3_isBox 20 = .ok (.goto 4, 3) := dk_167 0 4 (dk_at dksX3_isBox_0 20 rfl rfl)
theorem dX3_isBox_23 : decode cX3_isBox 23 = .ok (.iconst 0, 1) := dk_3 (dk_at dksX3_isBox_0 23 rfl rfl)
theorem dX3_isBox_24 : decode cX3_isBox 24 = .ok (.ireturn, 1) := dk_172 (dk_at dksX3_isBox_1 0 rfl rfl)
abbrev cX3_valueOf : ByteArray := prog_14_method_49_code
def yX3_valueOf : MethodName := ⟨RX3, "valueOf", "([II)I"⟩
def dkwX3_valueOf_0 : List UInt8 := [42, 43, 28, 43, 16, 40, 46, 4, 100, 28, 100, 3, 182, 1, 90, 172]
abbrev dktX3_valueOf_0 : List UInt8 := dkwX3_valueOf_0 ++ []
theorem dksX3_valueOf_0 : cX3_valueOf.data.toList.drop 0 = dktX3_valueOf_0 := by decide +kernel
theorem dX3_valueOf_0 : decode cX3_valueOf 0 = .ok (.aload_n 0, 1) := dk_42 (dk_at dksX3_valueOf_0 0 rfl rfl)
theorem dX3_valueOf_1 : decode cX3_valueOf 1 = .ok (.aload_n 1, 1) := dk_43 (dk_at dksX3_valueOf_0 1 rfl rfl)
theorem dX3_valueOf_2 : decode cX3_valueOf 2 = .ok (.iload_n 2, 1) := dk_28 (dk_at dksX3_valueOf_0 2 rfl rfl)
theorem dX3_valueOf_3 : decode cX3_valueOf 3 = .ok (.aload_n 1, 1) := dk_43 (dk_at dksX3_valueOf_0 3 rfl rfl)
theorem dX3_valueOf_4 : decode cX3_valueOf 4 = .ok (.bipush 40, 2) := dk_16 40 (dk_at dksX3_valueOf_0 4 rfl rfl)
theorem dX3_valueOf_6 : decode cX3_valueOf 6 = .ok (.iaload, 1) := dk_46 (dk_at dksX3_valueOf_0 6 rfl rfl)
theorem dX3_valueOf_7 : decode cX3_valueOf 7 = .ok (.iconst 1, 1) := dk_4 (dk_at dksX3_valueOf_0 7 rfl rfl)
theorem dX3_valueOf_8 : decode cX3_valueOf 8 = .ok (.isub, 1) := dk_100 (dk_at dksX3_valueOf_0 8 rfl rfl)
theorem dX3_valueOf_9 : decode cX3_valueOf 9 = .ok (.iload_n 2, 1) := dk_28 (dk_at dksX3_valueOf_0 9 rfl rfl)
theorem dX3_valueOf_10 : decode cX3_valueOf 10 = .ok (.isub, 1) := dk_100 (dk_at dksX3_valueOf_0 10 rfl rfl)
theorem dX3_valueOf_11 : decode cX3_valueOf 11 = .ok (.iconst 0, 1) := dk_3 (dk_at dksX3_valueOf_0 11 rfl rfl)
theorem dX3_valueOf_12 : decode cX3_valueOf 12 = .ok (.invokevirtual 346, 3) := dk_182 1 90 (dk_at dksX3_valueOf_0 12 rfl rfl)
theorem dX3_valueOf_15 : decode cX3_valueOf 15 = .ok (.ireturn, 1) := dk_172 (dk_at dksX3_valueOf_0 15 rfl rfl)
abbrev cX3_valueOn : ByteArray := prog_14_method_48_code
def yX3_valueOn : MethodName := ⟨RX3, "valueOn", "([IIII)I"⟩
def dkwX3_valueOn_2 : List UInt8 := [182, 1, 86, 104, 172]
abbrev dktX3_valueOn_2 : List UInt8 := dkwX3_valueOn_2 ++ []
def dkwX3_valueOn_1 : List UInt8 := [16, 99, 43, 21, 5, 5, 96, 46, 21, 4, 96, 184, 1, 74, 29, 43, 16, 41, 46, 21, 4, 96]
abbrev dktX3_valueOn_1 : List UInt8 := dkwX3_valueOn_1 ++ dktX3_valueOn_2
def dkwX3_valueOn_0 : List UInt8 := [8, 28, 104, 54, 5, 43, 21, 5, 4, 96, 46, 42, 43, 21, 5, 3, 96, 46, 43, 21, 5, 4, 96, 46]
abbrev dktX3_valueOn_0 : List UInt8 := dkwX3_valueOn_0 ++ dktX3_valueOn_1
theorem dksX3_valueOn_0 : cX3_valueOn.data.toList.drop 0 = dktX3_valueOn_0 := by decide +kernel
theorem dksX3_valueOn_1 : cX3_valueOn.data.toList.drop 24 = dktX3_valueOn_1 := dk_seg dksX3_valueOn_0 24 rfl rfl
theorem dksX3_valueOn_2 : cX3_valueOn.data.toList.drop 46 = dktX3_valueOn_2 := dk_seg dksX3_valueOn_1 22 rfl rfl
theorem dX3_valueOn_0 : decode cX3_valueOn 0 = .ok (.iconst 5, 1) := dk_8 (dk_at dksX3_valueOn_0 0 rfl rfl)
theorem dX3_valueOn_1 : decode cX3_valueOn 1 = .ok (.iload_n 2, 1) := dk_28 (dk_at dksX3_valueOn_0 1 rfl rfl)
theorem dX3_valueOn_2 : decode cX3_valueOn 2 = .ok (.imul, 1) := dk_104 (dk_at dksX3_valueOn_0 2 rfl rfl)
theorem dX3_valueOn_3 : decode cX3_valueOn 3 = .ok (.istore 5, 2) := dk_54 5 (dk_at dksX3_valueOn_0 3 rfl rfl)
theorem dX3_valueOn_5 : decode cX3_valueOn 5 = .ok (.aload_n 1, 1) := dk_43 (dk_at dksX3_valueOn_0 5 rfl rfl)
theorem dX3_valueOn_6 : decode cX3_valueOn 6 = .ok (.iload 5, 2) := dk_21 5 (dk_at dksX3_valueOn_0 6 rfl rfl)
theorem dX3_valueOn_8 : decode cX3_valueOn 8 = .ok (.iconst 1, 1) := dk_4 (dk_at dksX3_valueOn_0 8 rfl rfl)
theorem dX3_valueOn_9 : decode cX3_valueOn 9 = .ok (.iadd, 1) := dk_96 (dk_at dksX3_valueOn_0 9 rfl rfl)
theorem dX3_valueOn_10 : decode cX3_valueOn 10 = .ok (.iaload, 1) := dk_46 (dk_at dksX3_valueOn_0 10 rfl rfl)
theorem dX3_valueOn_11 : decode cX3_valueOn 11 = .ok (.aload_n 0, 1) := dk_42 (dk_at dksX3_valueOn_0 11 rfl rfl)
theorem dX3_valueOn_12 : decode cX3_valueOn 12 = .ok (.aload_n 1, 1) := dk_43 (dk_at dksX3_valueOn_0 12 rfl rfl)
theorem dX3_valueOn_13 : decode cX3_valueOn 13 = .ok (.iload 5, 2) := dk_21 5 (dk_at dksX3_valueOn_0 13 rfl rfl)
theorem dX3_valueOn_15 : decode cX3_valueOn 15 = .ok (.iconst 0, 1) := dk_3 (dk_at dksX3_valueOn_0 15 rfl rfl)
theorem dX3_valueOn_16 : decode cX3_valueOn 16 = .ok (.iadd, 1) := dk_96 (dk_at dksX3_valueOn_0 16 rfl rfl)
theorem dX3_valueOn_17 : decode cX3_valueOn 17 = .ok (.iaload, 1) := dk_46 (dk_at dksX3_valueOn_0 17 rfl rfl)
theorem dX3_valueOn_18 : decode cX3_valueOn 18 = .ok (.aload_n 1, 1) := dk_43 (dk_at dksX3_valueOn_0 18 rfl rfl)
theorem dX3_valueOn_19 : decode cX3_valueOn 19 = .ok (.iload 5, 2) := dk_21 5 (dk_at dksX3_valueOn_0 19 rfl rfl)
theorem dX3_valueOn_21 : decode cX3_valueOn 21 = .ok (.iconst 1, 1) := dk_4 (dk_at dksX3_valueOn_0 21 rfl rfl)
theorem dX3_valueOn_22 : decode cX3_valueOn 22 = .ok (.iadd, 1) := dk_96 (dk_at dksX3_valueOn_0 22 rfl rfl)
theorem dX3_valueOn_23 : decode cX3_valueOn 23 = .ok (.iaload, 1) := dk_46 (dk_at dksX3_valueOn_0 23 rfl rfl)
theorem dX3_valueOn_24 : decode cX3_valueOn 24 = .ok (.bipush 99, 2) := dk_16 99 (dk_at dksX3_valueOn_1 0 rfl rfl)
theorem dX3_valueOn_26 : decode cX3_valueOn 26 = .ok (.aload_n 1, 1) := dk_43 (dk_at dksX3_valueOn_1 2 rfl rfl)
theorem dX3_valueOn_27 : decode cX3_valueOn 27 = .ok (.iload 5, 2) := dk_21 5 (dk_at dksX3_valueOn_1 3 rfl rfl)
theorem dX3_valueOn_29 : decode cX3_valueOn 29 = .ok (.iconst 2, 1) := dk_5 (dk_at dksX3_valueOn_1 5 rfl rfl)
theorem dX3_valueOn_30 : decode cX3_valueOn 30 = .ok (.iadd, 1) := dk_96 (dk_at dksX3_valueOn_1 6 rfl rfl)
theorem dX3_valueOn_31 : decode cX3_valueOn 31 = .ok (.iaload, 1) := dk_46 (dk_at dksX3_valueOn_1 7 rfl rfl)
theorem dX3_valueOn_32 : decode cX3_valueOn 32 = .ok (.iload 4, 2) := dk_21 4 (dk_at dksX3_valueOn_1 8 rfl rfl)
theorem dX3_valueOn_34 : decode cX3_valueOn 34 = .ok (.iadd, 1) := dk_96 (dk_at dksX3_valueOn_1 10 rfl rfl)
theorem dX3_valueOn_35 : decode cX3_valueOn 35 = .ok (.invokestatic 330, 3) := dk_184 1 74 (dk_at dksX3_valueOn_1 11 rfl rfl)
theorem dX3_valueOn_38 : decode cX3_valueOn 38 = .ok (.iload_n 3, 1) := dk_29 (dk_at dksX3_valueOn_1 14 rfl rfl)
theorem dX3_valueOn_39 : decode cX3_valueOn 39 = .ok (.aload_n 1, 1) := dk_43 (dk_at dksX3_valueOn_1 15 rfl rfl)
theorem dX3_valueOn_40 : decode cX3_valueOn 40 = .ok (.bipush 41, 2) := dk_16 41 (dk_at dksX3_valueOn_1 16 rfl rfl)
theorem dX3_valueOn_42 : decode cX3_valueOn 42 = .ok (.iaload, 1) := dk_46 (dk_at dksX3_valueOn_1 18 rfl rfl)
theorem dX3_valueOn_43 : decode cX3_valueOn 43 = .ok (.iload 4, 2) := dk_21 4 (dk_at dksX3_valueOn_1 19 rfl rfl)
theorem dX3_valueOn_45 : decode cX3_valueOn 45 = .ok (.iadd, 1) := dk_96 (dk_at dksX3_valueOn_1 21 rfl rfl)
theorem dX3_valueOn_46 : decode cX3_valueOn 46 = .ok (.invokevirtual 342, 3) := dk_182 1 86 (dk_at dksX3_valueOn_2 0 rfl rfl)
theorem dX3_valueOn_49 : decode cX3_valueOn 49 = .ok (.imul, 1) := dk_104 (dk_at dksX3_valueOn_2 3 rfl rfl)
theorem dX3_valueOn_50 : decode cX3_valueOn 50 = .ok (.ireturn, 1) := dk_172 (dk_at dksX3_valueOn_2 4 rfl rfl)
abbrev cX3_portionOf : ByteArray := prog_14_method_46_code
def yX3_portionOf : MethodName := ⟨RX3, "portionOf", "(IIIII)I"⟩
def dkwX3_portionOf_4 : List UInt8 := [21, 6, 184, 1, 74, 184, 1, 69, 100, 184, 1, 69, 172]
abbrev dktX3_portionOf_4 : List UInt8 := dkwX3_portionOf_4 ++ []
def dkwX3_portionOf_3 : List UInt8 := [180, 0, 20, 16, 109, 21, 5, 79, 42, 182, 1, 71, 54, 6, 3, 42, 27, 6, 182, 1, 66, 3, 16, 9]
abbrev dktX3_portionOf_3 : List UInt8 := dkwX3_portionOf_3 ++ dktX3_portionOf_4
def dkwX3_portionOf_2 : List UInt8 := [16, 110, 28, 79, 42, 180, 0, 20, 16, 121, 21, 4, 79, 42, 180, 0, 20, 16, 107, 27, 79, 42]
abbrev dktX3_portionOf_2 : List UInt8 := dkwX3_portionOf_2 ++ dktX3_portionOf_3
def dkwX3_portionOf_1 : List UInt8 := [180, 0, 20, 16, 97, 29, 79, 42, 180, 0, 20, 16, 111, 42, 27, 5, 182, 1, 66, 79, 42, 180, 0, 20]
abbrev dktX3_portionOf_1 : List UInt8 := dkwX3_portionOf_1 ++ dktX3_portionOf_2
def dkwX3_portionOf_0 : List UInt8 := [3, 29, 42, 27, 5, 182, 1, 66, 100, 184, 1, 69, 54, 6, 42, 180, 0, 64, 2, 159, 0, 64, 42]
abbrev dktX3_portionOf_0 : List UInt8 := dkwX3_portionOf_0 ++ dktX3_portionOf_1
theorem dksX3_portionOf_0 : cX3_portionOf.data.toList.drop 0 = dktX3_portionOf_0 := by decide +kernel
theorem dksX3_portionOf_1 : cX3_portionOf.data.toList.drop 23 = dktX3_portionOf_1 := dk_seg dksX3_portionOf_0 23 rfl rfl
theorem dksX3_portionOf_2 : cX3_portionOf.data.toList.drop 47 = dktX3_portionOf_2 := dk_seg dksX3_portionOf_1 24 rfl rfl
theorem dksX3_portionOf_3 : cX3_portionOf.data.toList.drop 69 = dktX3_portionOf_3 := dk_seg dksX3_portionOf_2 22 rfl rfl
theorem dksX3_portionOf_4 : cX3_portionOf.data.toList.drop 93 = dktX3_portionOf_4 := dk_seg dksX3_portionOf_3 24 rfl rfl
theorem dX3_portionOf_0 : decode cX3_portionOf 0 = .ok (.iconst 0, 1) := dk_3 (dk_at dksX3_portionOf_0 0 rfl rfl)
theorem dX3_portionOf_1 : decode cX3_portionOf 1 = .ok (.iload_n 3, 1) := dk_29 (dk_at dksX3_portionOf_0 1 rfl rfl)
theorem dX3_portionOf_2 : decode cX3_portionOf 2 = .ok (.aload_n 0, 1) := dk_42 (dk_at dksX3_portionOf_0 2 rfl rfl)
theorem dX3_portionOf_3 : decode cX3_portionOf 3 = .ok (.iload_n 1, 1) := dk_27 (dk_at dksX3_portionOf_0 3 rfl rfl)
theorem dX3_portionOf_4 : decode cX3_portionOf 4 = .ok (.iconst 2, 1) := dk_5 (dk_at dksX3_portionOf_0 4 rfl rfl)
theorem dX3_portionOf_5 : decode cX3_portionOf 5 = .ok (.invokevirtual 322, 3) := dk_182 1 66 (dk_at dksX3_portionOf_0 5 rfl rfl)
theorem dX3_portionOf_8 : decode cX3_portionOf 8 = .ok (.isub, 1) := dk_100 (dk_at dksX3_portionOf_0 8 rfl rfl)
theorem dX3_portionOf_9 : decode cX3_portionOf 9 = .ok (.invokestatic 325, 3) := dk_184 1 69 (dk_at dksX3_portionOf_0 9 rfl rfl)
theorem dX3_portionOf_12 : decode cX3_portionOf 12 = .ok (.istore 6, 2) := dk_54 6 (dk_at dksX3_portionOf_0 12 rfl rfl)
theorem dX3_portionOf_14 : decode cX3_portionOf 14 = .ok (.aload_n 0, 1) := dk_42 (dk_at dksX3_portionOf_0 14 rfl rfl)
theorem dX3_portionOf_15 : decode cX3_portionOf 15 = .ok (.getfield 64, 3) := dk_180 0 64 (dk_at dksX3_portionOf_0 15 rfl rfl)
theorem dX3_portionOf_18 : decode cX3_portionOf 18 = .ok (.iconst (-1), 1) := dk_2 (dk_at dksX3_portionOf_0 18 rfl rfl)
theorem dX3_portionOf_19 : decode cX3_portionOf 19 = .ok (.if_icmp .eq 64, 3) := dk_159 0 64 (dk_at dksX3_portionOf_0 19 rfl rfl)
theorem dX3_portionOf_22 : decode cX3_portionOf 22 = .ok (.aload_n 0, 1) := dk_42 (dk_at dksX3_portionOf_0 22 rfl rfl)
theorem dX3_portionOf_23 : decode cX3_portionOf 23 = .ok (.getfield 20, 3) := dk_180 0 20 (dk_at dksX3_portionOf_1 0 rfl rfl)
theorem dX3_portionOf_26 : decode cX3_portionOf 26 = .ok (.bipush 97, 2) := dk_16 97 (dk_at dksX3_portionOf_1 3 rfl rfl)
theorem dX3_portionOf_28 : decode cX3_portionOf 28 = .ok (.iload_n 3, 1) := dk_29 (dk_at dksX3_portionOf_1 5 rfl rfl)
theorem dX3_portionOf_29 : decode cX3_portionOf 29 = .ok (.iastore, 1) := dk_79 (dk_at dksX3_portionOf_1 6 rfl rfl)
theorem dX3_portionOf_30 : decode cX3_portionOf 30 = .ok (.aload_n 0, 1) := dk_42 (dk_at dksX3_portionOf_1 7 rfl rfl)
theorem dX3_portionOf_31 : decode cX3_portionOf 31 = .ok (.getfield 20, 3) := dk_180 0 20 (dk_at dksX3_portionOf_1 8 rfl rfl)
theorem dX3_portionOf_34 : decode cX3_portionOf 34 = .ok (.bipush 111, 2) := dk_16 111 (dk_at dksX3_portionOf_1 11 rfl rfl)
theorem dX3_portionOf_36 : decode cX3_portionOf 36 = .ok (.aload_n 0, 1) := dk_42 (dk_at dksX3_portionOf_1 13 rfl rfl)
theorem dX3_portionOf_37 : decode cX3_portionOf 37 = .ok (.iload_n 1, 1) := dk_27 (dk_at dksX3_portionOf_1 14 rfl rfl)
theorem dX3_portionOf_38 : decode cX3_portionOf 38 = .ok (.iconst 2, 1) := dk_5 (dk_at dksX3_portionOf_1 15 rfl rfl)
theorem dX3_portionOf_39 : decode cX3_portionOf 39 = .ok (.invokevirtual 322, 3) := dk_182 1 66 (dk_at dksX3_portionOf_1 16 rfl rfl)
theorem dX3_portionOf_42 : decode cX3_portionOf 42 = .ok (.iastore, 1) := dk_79 (dk_at dksX3_portionOf_1 19 rfl rfl)
theorem dX3_portionOf_43 : decode cX3_portionOf 43 = .ok (.aload_n 0, 1) := dk_42 (dk_at dksX3_portionOf_1 20 rfl rfl)
theorem dX3_portionOf_44 : decode cX3_portionOf 44 = .ok (.getfield 20, 3) := dk_180 0 20 (dk_at dksX3_portionOf_1 21 rfl rfl)
theorem dX3_portionOf_47 : decode cX3_portionOf 47 = .ok (.bipush 110, 2) := dk_16 110 (dk_at dksX3_portionOf_2 0 rfl rfl)
theorem dX3_portionOf_49 : decode cX3_portionOf 49 = .ok (.iload_n 2, 1) := dk_28 (dk_at dksX3_portionOf_2 2 rfl rfl)
theorem dX3_portionOf_50 : decode cX3_portionOf 50 = .ok (.iastore, 1) := dk_79 (dk_at dksX3_portionOf_2 3 rfl rfl)
theorem dX3_portionOf_51 : decode cX3_portionOf 51 = .ok (.aload_n 0, 1) := dk_42 (dk_at dksX3_portionOf_2 4 rfl rfl)
theorem dX3_portionOf_52 : decode cX3_portionOf 52 = .ok (.getfield 20, 3) := dk_180 0 20 (dk_at dksX3_portionOf_2 5 rfl rfl)
theorem dX3_portionOf_55 : decode cX3_portionOf 55 = .ok (.bipush 121, 2) := dk_16 121 (dk_at dksX3_portionOf_2 8 rfl rfl)
theorem dX3_portionOf_57 : decode cX3_portionOf 57 = .ok (.iload 4, 2) := dk_21 4 (dk_at dksX3_portionOf_2 10 rfl rfl)
theorem dX3_portionOf_59 : decode cX3_portionOf 59 = .ok (.iastore, 1) := dk_79 (dk_at dksX3_portionOf_2 12 rfl rfl)
theorem dX3_portionOf_60 : decode cX3_portionOf 60 = .ok (.aload_n 0, 1) := dk_42 (dk_at dksX3_portionOf_2 13 rfl rfl)
theorem dX3_portionOf_61 : decode cX3_portionOf 61 = .ok (.getfield 20, 3) := dk_180 0 20 (dk_at dksX3_portionOf_2 14 rfl rfl)
theorem dX3_portionOf_64 : decode cX3_portionOf 64 = .ok (.bipush 107, 2) := dk_16 107 (dk_at dksX3_portionOf_2 17 rfl rfl)
theorem dX3_portionOf_66 : decode cX3_portionOf 66 = .ok (.iload_n 1, 1) := dk_27 (dk_at dksX3_portionOf_2 19 rfl rfl)
theorem dX3_portionOf_67 : decode cX3_portionOf 67 = .ok (.iastore, 1) := dk_79 (dk_at dksX3_portionOf_2 20 rfl rfl)
theorem dX3_portionOf_68 : decode cX3_portionOf 68 = .ok (.aload_n 0, 1) := dk_42 (dk_at dksX3_portionOf_2 21 rfl rfl)
theorem dX3_portionOf_69 : decode cX3_portionOf 69 = .ok (.getfield 20, 3) := dk_180 0 20 (dk_at dksX3_portionOf_3 0 rfl rfl)
theorem dX3_portionOf_72 : decode cX3_portionOf 72 = .ok (.bipush 109, 2) := dk_16 109 (dk_at dksX3_portionOf_3 3 rfl rfl)
theorem dX3_portionOf_74 : decode cX3_portionOf 74 = .ok (.iload 5, 2) := dk_21 5 (dk_at dksX3_portionOf_3 5 rfl rfl)
theorem dX3_portionOf_76 : decode cX3_portionOf 76 = .ok (.iastore, 1) := dk_79 (dk_at dksX3_portionOf_3 7 rfl rfl)
theorem dX3_portionOf_77 : decode cX3_portionOf 77 = .ok (.aload_n 0, 1) := dk_42 (dk_at dksX3_portionOf_3 8 rfl rfl)
theorem dX3_portionOf_78 : decode cX3_portionOf 78 = .ok (.invokevirtual 327, 3) := dk_182 1 71 (dk_at dksX3_portionOf_3 9 rfl rfl)
theorem dX3_portionOf_81 : decode cX3_portionOf 81 = .ok (.istore 6, 2) := dk_54 6 (dk_at dksX3_portionOf_3 12 rfl rfl)
theorem dX3_portionOf_83 : decode cX3_portionOf 83 = .ok (.iconst 0, 1) := dk_3 (dk_at dksX3_portionOf_3 14 rfl rfl)
theorem dX3_portionOf_84 : decode cX3_portionOf 84 = .ok (.aload_n 0, 1) := dk_42 (dk_at dksX3_portionOf_3 15 rfl rfl)
theorem dX3_portionOf_85 : decode cX3_portionOf 85 = .ok (.iload_n 1, 1) := dk_27 (dk_at dksX3_portionOf_3 16 rfl rfl)
theorem dX3_portionOf_86 : decode cX3_portionOf 86 = .ok (.iconst 3, 1) := dk_6 (dk_at dksX3_portionOf_3 17 rfl rfl)
theorem dX3_portionOf_87 : decode cX3_portionOf 87 = .ok (.invokevirtual 322, 3) := dk_182 1 66 (dk_at dksX3_portionOf_3 18 rfl rfl)
theorem dX3_portionOf_90 : decode cX3_portionOf 90 = .ok (.iconst 0, 1) := dk_3 (dk_at dksX3_portionOf_3 21 rfl rfl)
theorem dX3_portionOf_91 : decode cX3_portionOf 91 = .ok (.bipush 9, 2) := dk_16 9 (dk_at dksX3_portionOf_3 22 rfl rfl)
theorem dX3_portionOf_93 : decode cX3_portionOf 93 = .ok (.iload 6, 2) := dk_21 6 (dk_at dksX3_portionOf_4 0 rfl rfl)
theorem dX3_portionOf_95 : decode cX3_portionOf 95 = .ok (.invokestatic 330, 3) := dk_184 1 74 (dk_at dksX3_portionOf_4 2 rfl rfl)
theorem dX3_portionOf_98 : decode cX3_portionOf 98 = .ok (.invokestatic 325, 3) := dk_184 1 69 (dk_at dksX3_portionOf_4 5 rfl rfl)
theorem dX3_portionOf_101 : decode cX3_portionOf 101 = .ok (.isub, 1) := dk_100 (dk_at dksX3_portionOf_4 8 rfl rfl)
theorem dX3_portionOf_102 : decode cX3_portionOf 102 = .ok (.invokestatic 325, 3) := dk_184 1 69 (dk_at dksX3_portionOf_4 9 rfl rfl)
theorem dX3_portionOf_105 : decode cX3_portionOf 105 = .ok (.ireturn, 1) := dk_172 (dk_at dksX3_portionOf_4 12 rfl rfl)
abbrev cX3_worthNow : ByteArray := prog_14_method_47_code
def yX3_worthNow : MethodName := ⟨RX3, "worthNow", "()I"⟩
def dkwX3_worthNow_7 : List UInt8 := [180, 0, 217, 172]
abbrev dktX3_worthNow_7 : List UInt8 := dkwX3_worthNow_7 ++ []
def dkwX3_worthNow_6 : List UInt8 := [46, 182, 1, 37, 42, 180, 0, 71, 29, 31, 80, 42, 180, 0, 75, 29, 42, 180, 0, 217, 79, 42]
abbrev dktX3_worthNow_6 : List UInt8 := dkwX3_worthNow_6 ++ dktX3_worthNow_7
def dkwX3_worthNow_5 : List UInt8 := [29, 46, 172, 42, 42, 180, 0, 13, 17, 0, 240, 42, 180, 0, 64, 104, 42, 180, 0, 16, 42, 180, 0, 64]
abbrev dktX3_worthNow_5 : List UInt8 := dkwX3_worthNow_5 ++ dktX3_worthNow_6
def dkwX3_worthNow_4 : List UInt8 := [97, 64, 31, 20, 1, 84, 113, 136, 62, 42, 180, 0, 71, 29, 47, 31, 148, 154, 0, 10, 42, 180, 0, 75]
abbrev dktX3_worthNow_4 : List UInt8 := dkwX3_worthNow_4 ++ dktX3_worthNow_5
def dkwX3_worthNow_3 : List UInt8 := [31, 105, 42, 180, 0, 20, 16, 107, 46, 133, 97, 64, 20, 1, 82, 31, 105, 42, 180, 0, 64, 133, 97, 10]
abbrev dktX3_worthNow_3 : List UInt8 := dkwX3_worthNow_3 ++ dktX3_worthNow_4
def dkwX3_worthNow_2 : List UInt8 := [16, 110, 46, 133, 97, 64, 20, 1, 80, 31, 105, 42, 180, 0, 20, 16, 121, 46, 133, 97, 64, 20, 1, 80]
abbrev dktX3_worthNow_2 : List UInt8 := dkwX3_worthNow_2 ++ dktX3_worthNow_3
def dkwX3_worthNow_1 : List UInt8 := [20, 1, 78, 31, 105, 42, 180, 0, 20, 16, 111, 46, 133, 97, 64, 20, 1, 80, 31, 105, 42, 180, 0, 20]
abbrev dktX3_worthNow_1 : List UInt8 := dkwX3_worthNow_1 ++ dktX3_worthNow_2
def dkwX3_worthNow_0 : List UInt8 := [42, 180, 0, 20, 16, 109, 46, 133, 64, 20, 1, 76, 31, 105, 42, 180, 0, 20, 16, 97, 46, 133, 97, 64]
abbrev dktX3_worthNow_0 : List UInt8 := dkwX3_worthNow_0 ++ dktX3_worthNow_1
theorem dksX3_worthNow_0 : cX3_worthNow.data.toList.drop 0 = dktX3_worthNow_0 := by decide +kernel
theorem dksX3_worthNow_1 : cX3_worthNow.data.toList.drop 24 = dktX3_worthNow_1 := dk_seg dksX3_worthNow_0 24 rfl rfl
theorem dksX3_worthNow_2 : cX3_worthNow.data.toList.drop 48 = dktX3_worthNow_2 := dk_seg dksX3_worthNow_1 24 rfl rfl
theorem dksX3_worthNow_3 : cX3_worthNow.data.toList.drop 72 = dktX3_worthNow_3 := dk_seg dksX3_worthNow_2 24 rfl rfl
theorem dksX3_worthNow_4 : cX3_worthNow.data.toList.drop 96 = dktX3_worthNow_4 := dk_seg dksX3_worthNow_3 24 rfl rfl
theorem dksX3_worthNow_5 : cX3_worthNow.data.toList.drop 120 = dktX3_worthNow_5 := dk_seg dksX3_worthNow_4 24 rfl rfl
theorem dksX3_worthNow_6 : cX3_worthNow.data.toList.drop 144 = dktX3_worthNow_6 := dk_seg dksX3_worthNow_5 24 rfl rfl
theorem dksX3_worthNow_7 : cX3_worthNow.data.toList.drop 166 = dktX3_worthNow_7 := dk_seg dksX3_worthNow_6 22 rfl rfl
theorem dX3_worthNow_0 : decode cX3_worthNow 0 = .ok (.aload_n 0, 1) := dk_42 (dk_at dksX3_worthNow_0 0 rfl rfl)
theorem dX3_worthNow_1 : decode cX3_worthNow 1 = .ok (.getfield 20, 3) := dk_180 0 20 (dk_at dksX3_worthNow_0 1 rfl rfl)
theorem dX3_worthNow_4 : decode cX3_worthNow 4 = .ok (.bipush 109, 2) := dk_16 109 (dk_at dksX3_worthNow_0 4 rfl rfl)
theorem dX3_worthNow_6 : decode cX3_worthNow 6 = .ok (.iaload, 1) := dk_46 (dk_at dksX3_worthNow_0 6 rfl rfl)
theorem dX3_worthNow_7 : decode cX3_worthNow 7 = .ok (.i2l, 1) := dk_133 (dk_at dksX3_worthNow_0 7 rfl rfl)
theorem dX3_worthNow_8 : decode cX3_worthNow 8 = .ok (.lstore_n 1, 1) := dk_64 (dk_at dksX3_worthNow_0 8 rfl rfl)
theorem dX3_worthNow_9 : decode cX3_worthNow 9 = .ok (.ldc2_w 332, 3) := dk_20 1 76 (dk_at dksX3_worthNow_0 9 rfl rfl)
theorem dX3_worthNow_12 : decode cX3_worthNow 12 = .ok (.lload_n 1, 1) := dk_31 (dk_at dksX3_worthNow_0 12 rfl rfl)
theorem dX3_worthNow_13 : decode cX3_worthNow 13 = .ok (.lmul, 1) := dk_105 (dk_at dksX3_worthNow_0 13 rfl rfl)
theorem dX3_worthNow_14 : decode cX3_worthNow 14 = .ok (.aload_n 0, 1) := dk_42 (dk_at dksX3_worthNow_0 14 rfl rfl)
theorem dX3_worthNow_15 : decode cX3_worthNow 15 = .ok (.getfield 20, 3) := dk_180 0 20 (dk_at dksX3_worthNow_0 15 rfl rfl)
theorem dX3_worthNow_18 : decode cX3_worthNow 18 = .ok (.bipush 97, 2) := dk_16 97 (dk_at dksX3_worthNow_0 18 rfl rfl)
theorem dX3_worthNow_20 : decode cX3_worthNow 20 = .ok (.iaload, 1) := dk_46 (dk_at dksX3_worthNow_0 20 rfl rfl)
theorem dX3_worthNow_21 : decode cX3_worthNow 21 = .ok (.i2l, 1) := dk_133 (dk_at dksX3_worthNow_0 21 rfl rfl)
theorem dX3_worthNow_22 : decode cX3_worthNow 22 = .ok (.ladd, 1) := dk_97 (dk_at dksX3_worthNow_0 22 rfl rfl)
theorem dX3_worthNow_23 : decode cX3_worthNow 23 = .ok (.lstore_n 1, 1) := dk_64 (dk_at dksX3_worthNow_0 23 rfl rfl)
theorem dX3_worthNow_24 : decode cX3_worthNow 24 = .ok (.ldc2_w 334, 3) := dk_20 1 78 (dk_at dksX3_worthNow_1 0 rfl rfl)
theorem dX3_worthNow_27 : decode cX3_worthNow 27 = .ok (.lload_n 1, 1) := dk_31 (dk_at dksX3_worthNow_1 3 rfl rfl)
theorem dX3_worthNow_28 : decode cX3_worthNow 28 = .ok (.lmul, 1) := dk_105 (dk_at dksX3_worthNow_1 4 rfl rfl)
theorem dX3_worthNow_29 : decode cX3_worthNow 29 = .ok (.aload_n 0, 1) := dk_42 (dk_at dksX3_worthNow_1 5 rfl rfl)
theorem dX3_worthNow_30 : decode cX3_worthNow 30 = .ok (.getfield 20, 3) := dk_180 0 20 (dk_at dksX3_worthNow_1 6 rfl rfl)
theorem dX3_worthNow_33 : decode cX3_worthNow 33 = .ok (.bipush 111, 2) := dk_16 111 (dk_at dksX3_worthNow_1 9 rfl rfl)
theorem dX3_worthNow_35 : decode cX3_worthNow 35 = .ok (.iaload, 1) := dk_46 (dk_at dksX3_worthNow_1 11 rfl rfl)
theorem dX3_worthNow_36 : decode cX3_worthNow 36 = .ok (.i2l, 1) := dk_133 (dk_at dksX3_worthNow_1 12 rfl rfl)
theorem dX3_worthNow_37 : decode cX3_worthNow 37 = .ok (.ladd, 1) := dk_97 (dk_at dksX3_worthNow_1 13 rfl rfl)
theorem dX3_worthNow_38 : decode cX3_worthNow 38 = .ok (.lstore_n 1, 1) := dk_64 (dk_at dksX3_worthNow_1 14 rfl rfl)
theorem dX3_worthNow_39 : decode cX3_worthNow 39 = .ok (.ldc2_w 336, 3) := dk_20 1 80 (dk_at dksX3_worthNow_1 15 rfl rfl)
theorem dX3_worthNow_42 : decode cX3_worthNow 42 = .ok (.lload_n 1, 1) := dk_31 (dk_at dksX3_worthNow_1 18 rfl rfl)
theorem dX3_worthNow_43 : decode cX3_worthNow 43 = .ok (.lmul, 1) := dk_105 (dk_at dksX3_worthNow_1 19 rfl rfl)
theorem dX3_worthNow_44 : decode cX3_worthNow 44 = .ok (.aload_n 0, 1) := dk_42 (dk_at dksX3_worthNow_1 20 rfl rfl)
theorem dX3_worthNow_45 : decode cX3_worthNow 45 = .ok (.getfield 20, 3) := dk_180 0 20 (dk_at dksX3_worthNow_1 21 rfl rfl)
theorem dX3_worthNow_48 : decode cX3_worthNow 48 = .ok (.bipush 110, 2) := dk_16 110 (dk_at dksX3_worthNow_2 0 rfl rfl)
theorem dX3_worthNow_50 : decode cX3_worthNow 50 = .ok (.iaload, 1) := dk_46 (dk_at dksX3_worthNow_2 2 rfl rfl)
theorem dX3_worthNow_51 : decode cX3_worthNow 51 = .ok (.i2l, 1) := dk_133 (dk_at dksX3_worthNow_2 3 rfl rfl)
theorem dX3_worthNow_52 : decode cX3_worthNow 52 = .ok (.ladd, 1) := dk_97 (dk_at dksX3_worthNow_2 4 rfl rfl)
theorem dX3_worthNow_53 : decode cX3_worthNow 53 = .ok (.lstore_n 1, 1) := dk_64 (dk_at dksX3_worthNow_2 5 rfl rfl)
theorem dX3_worthNow_54 : decode cX3_worthNow 54 = .ok (.ldc2_w 336, 3) := dk_20 1 80 (dk_at dksX3_worthNow_2 6 rfl rfl)
theorem dX3_worthNow_57 : decode cX3_worthNow 57 = .ok (.lload_n 1, 1) := dk_31 (dk_at dksX3_worthNow_2 9 rfl rfl)
theorem dX3_worthNow_58 : decode cX3_worthNow 58 = .ok (.lmul, 1) := dk_105 (dk_at dksX3_worthNow_2 10 rfl rfl)
theorem dX3_worthNow_59 : decode cX3_worthNow 59 = .ok (.aload_n 0, 1) := dk_42 (dk_at dksX3_worthNow_2 11 rfl rfl)
theorem dX3_worthNow_60 : decode cX3_worthNow 60 = .ok (.getfield 20, 3) := dk_180 0 20 (dk_at dksX3_worthNow_2 12 rfl rfl)
theorem dX3_worthNow_63 : decode cX3_worthNow 63 = .ok (.bipush 121, 2) := dk_16 121 (dk_at dksX3_worthNow_2 15 rfl rfl)
theorem dX3_worthNow_65 : decode cX3_worthNow 65 = .ok (.iaload, 1) := dk_46 (dk_at dksX3_worthNow_2 17 rfl rfl)
theorem dX3_worthNow_66 : decode cX3_worthNow 66 = .ok (.i2l, 1) := dk_133 (dk_at dksX3_worthNow_2 18 rfl rfl)
theorem dX3_worthNow_67 : decode cX3_worthNow 67 = .ok (.ladd, 1) := dk_97 (dk_at dksX3_worthNow_2 19 rfl rfl)
theorem dX3_worthNow_68 : decode cX3_worthNow 68 = .ok (.lstore_n 1, 1) := dk_64 (dk_at dksX3_worthNow_2 20 rfl rfl)
theorem dX3_worthNow_69 : decode cX3_worthNow 69 = .ok (.ldc2_w 336, 3) := dk_20 1 80 (dk_at dksX3_worthNow_2 21 rfl rfl)
theorem dX3_worthNow_72 : decode cX3_worthNow 72 = .ok (.lload_n 1, 1) := dk_31 (dk_at dksX3_worthNow_3 0 rfl rfl)
theorem dX3_worthNow_73 : decode cX3_worthNow 73 = .ok (.lmul, 1) := dk_105 (dk_at dksX3_worthNow_3 1 rfl rfl)
theorem dX3_worthNow_74 : decode cX3_worthNow 74 = .ok (.aload_n 0, 1) := dk_42 (dk_at dksX3_worthNow_3 2 rfl rfl)
theorem dX3_worthNow_75 : decode cX3_worthNow 75 = .ok (.getfield 20, 3) := dk_180 0 20 (dk_at dksX3_worthNow_3 3 rfl rfl)
theorem dX3_worthNow_78 : decode cX3_worthNow 78 = .ok (.bipush 107, 2) := dk_16 107 (dk_at dksX3_worthNow_3 6 rfl rfl)
theorem dX3_worthNow_80 : decode cX3_worthNow 80 = .ok (.iaload, 1) := dk_46 (dk_at dksX3_worthNow_3 8 rfl rfl)
theorem dX3_worthNow_81 : decode cX3_worthNow 81 = .ok (.i2l, 1) := dk_133 (dk_at dksX3_worthNow_3 9 rfl rfl)
theorem dX3_worthNow_82 : decode cX3_worthNow 82 = .ok (.ladd, 1) := dk_97 (dk_at dksX3_worthNow_3 10 rfl rfl)
theorem dX3_worthNow_83 : decode cX3_worthNow 83 = .ok (.lstore_n 1, 1) := dk_64 (dk_at dksX3_worthNow_3 11 rfl rfl)
theorem dX3_worthNow_84 : decode cX3_worthNow 84 = .ok (.ldc2_w 338, 3) := dk_20 1 82 (dk_at dksX3_worthNow_3 12 rfl rfl)
theorem dX3_worthNow_87 : decode cX3_worthNow 87 = .ok (.lload_n 1, 1) := dk_31 (dk_at dksX3_worthNow_3 15 rfl rfl)
theorem dX3_worthNow_88 : decode cX3_worthNow 88 = .ok (.lmul, 1) := dk_105 (dk_at dksX3_worthNow_3 16 rfl rfl)
theorem dX3_worthNow_89 : decode cX3_worthNow 89 = .ok (.aload_n 0, 1) := dk_42 (dk_at dksX3_worthNow_3 17 rfl rfl)
theorem dX3_worthNow_90 : decode cX3_worthNow 90 = .ok (.getfield 64, 3) := dk_180 0 64 (dk_at dksX3_worthNow_3 18 rfl rfl)
theorem dX3_worthNow_93 : decode cX3_worthNow 93 = .ok (.i2l, 1) := dk_133 (dk_at dksX3_worthNow_3 21 rfl rfl)
theorem dX3_worthNow_94 : decode cX3_worthNow 94 = .ok (.ladd, 1) := dk_97 (dk_at dksX3_worthNow_3 22 rfl rfl)
theorem dX3_worthNow_95 : decode cX3_worthNow 95 = .ok (.lconst 1, 1) := dk_10 (dk_at dksX3_worthNow_3 23 rfl rfl)
theorem dX3_worthNow_96 : decode cX3_worthNow 96 = .ok (.ladd, 1) := dk_97 (dk_at dksX3_worthNow_4 0 rfl rfl)
theorem dX3_worthNow_97 : decode cX3_worthNow 97 = .ok (.lstore_n 1, 1) := dk_64 (dk_at dksX3_worthNow_4 1 rfl rfl)
theorem dX3_worthNow_98 : decode cX3_worthNow 98 = .ok (.lload_n 1, 1) := dk_31 (dk_at dksX3_worthNow_4 2 rfl rfl)
theorem dX3_worthNow_99 : decode cX3_worthNow 99 = .ok (.ldc2_w 340, 3) := dk_20 1 84 (dk_at dksX3_worthNow_4 3 rfl rfl)
theorem dX3_worthNow_102 : decode cX3_worthNow 102 = .ok (.lrem, 1) := dk_113 (dk_at dksX3_worthNow_4 6 rfl rfl)
theorem dX3_worthNow_103 : decode cX3_worthNow 103 = .ok (.l2i, 1) := dk_136 (dk_at dksX3_worthNow_4 7 rfl rfl)
theorem dX3_worthNow_104 : decode cX3_worthNow 104 = .ok (.istore_n 3, 1) := dk_62 (dk_at dksX3_worthNow_4 8 rfl rfl)
theorem dX3_worthNow_105 : decode cX3_worthNow 105 = .ok (.aload_n 0, 1) := dk_42 (dk_at dksX3_worthNow_4 9 rfl rfl)
theorem dX3_worthNow_106 : decode cX3_worthNow 106 = .ok (.getfield 71, 3) := dk_180 0 71 (dk_at dksX3_worthNow_4 10 rfl rfl)
theorem dX3_worthNow_109 : decode cX3_worthNow 109 = .ok (.iload_n 3, 1) := dk_29 (dk_at dksX3_worthNow_4 13 rfl rfl)
theorem dX3_worthNow_110 : decode cX3_worthNow 110 = .ok (.laload, 1) := dk_47 (dk_at dksX3_worthNow_4 14 rfl rfl)
theorem dX3_worthNow_111 : decode cX3_worthNow 111 = .ok (.lload_n 1, 1) := dk_31 (dk_at dksX3_worthNow_4 15 rfl rfl)
theorem dX3_worthNow_112 : decode cX3_worthNow 112 = .ok (.lcmp, 1) := dk_148 (dk_at dksX3_worthNow_4 16 rfl rfl)
theorem dX3_worthNow_113 : decode cX3_worthNow 113 = .ok (.ifCond .ne 10, 3) := dk_154 0 10 (dk_at dksX3_worthNow_4 17 rfl rfl)
theorem dX3_worthNow_116 : decode cX3_worthNow 116 = .ok (.aload_n 0, 1) := dk_42 (dk_at dksX3_worthNow_4 20 rfl rfl)
theorem dX3_worthNow_117 : decode cX3_worthNow 117 = .ok (.getfield 75, 3) := dk_180 0 75 (dk_at dksX3_worthNow_4 21 rfl rfl)
theorem dX3_worthNow_120 : decode cX3_worthNow 120 = .ok (.iload_n 3, 1) := dk_29 (dk_at dksX3_worthNow_5 0 rfl rfl)
theorem dX3_worthNow_121 : decode cX3_worthNow 121 = .ok (.iaload, 1) := dk_46 (dk_at dksX3_worthNow_5 1 rfl rfl)
theorem dX3_worthNow_122 : decode cX3_worthNow 122 = .ok (.ireturn, 1) := dk_172 (dk_at dksX3_worthNow_5 2 rfl rfl)
theorem dX3_worthNow_123 : decode cX3_worthNow 123 = .ok (.aload_n 0, 1) := dk_42 (dk_at dksX3_worthNow_5 3 rfl rfl)
theorem dX3_worthNow_124 : decode cX3_worthNow 124 = .ok (.aload_n 0, 1) := dk_42 (dk_at dksX3_worthNow_5 4 rfl rfl)
theorem dX3_worthNow_125 : decode cX3_worthNow 125 = .ok (.getfield 13, 3) := dk_180 0 13 (dk_at dksX3_worthNow_5 5 rfl rfl)
theorem dX3_worthNow_128 : decode cX3_worthNow 128 = .ok (.sipush 240, 3) := dk_17 0 240 (dk_at dksX3_worthNow_5 8 rfl rfl)
theorem dX3_worthNow_131 : decode cX3_worthNow 131 = .ok (.aload_n 0, 1) := dk_42 (dk_at dksX3_worthNow_5 11 rfl rfl)
theorem dX3_worthNow_132 : decode cX3_worthNow 132 = .ok (.getfield 64, 3) := dk_180 0 64 (dk_at dksX3_worthNow_5 12 rfl rfl)
theorem dX3_worthNow_135 : decode cX3_worthNow 135 = .ok (.imul, 1) := dk_104 (dk_at dksX3_worthNow_5 15 rfl rfl)
theorem dX3_worthNow_136 : decode cX3_worthNow 136 = .ok (.aload_n 0, 1) := dk_42 (dk_at dksX3_worthNow_5 16 rfl rfl)
theorem dX3_worthNow_137 : decode cX3_worthNow 137 = .ok (.getfield 16, 3) := dk_180 0 16 (dk_at dksX3_worthNow_5 17 rfl rfl)
theorem dX3_worthNow_140 : decode cX3_worthNow 140 = .ok (.aload_n 0, 1) := dk_42 (dk_at dksX3_worthNow_5 20 rfl rfl)
theorem dX3_worthNow_141 : decode cX3_worthNow 141 = .ok (.getfield 64, 3) := dk_180 0 64 (dk_at dksX3_worthNow_5 21 rfl rfl)
theorem dX3_worthNow_144 : decode cX3_worthNow 144 = .ok (.iaload, 1) := dk_46 (dk_at dksX3_worthNow_6 0 rfl rfl)
theorem dX3_worthNow_145 : decode cX3_worthNow 145 = .ok (.invokevirtual 293, 3) := dk_182 1 37 (dk_at dksX3_worthNow_6 1 rfl rfl)
theorem dX3_worthNow_148 : decode cX3_worthNow 148 = .ok (.aload_n 0, 1) := dk_42 (dk_at dksX3_worthNow_6 4 rfl rfl)
theorem dX3_worthNow_149 : decode cX3_worthNow 149 = .ok (.getfield 71, 3) := dk_180 0 71 (dk_at dksX3_worthNow_6 5 rfl rfl)
theorem dX3_worthNow_152 : decode cX3_worthNow 152 = .ok (.iload_n 3, 1) := dk_29 (dk_at dksX3_worthNow_6 8 rfl rfl)
theorem dX3_worthNow_153 : decode cX3_worthNow 153 = .ok (.lload_n 1, 1) := dk_31 (dk_at dksX3_worthNow_6 9 rfl rfl)
theorem dX3_worthNow_154 : decode cX3_worthNow 154 = .ok (.lastore, 1) := dk_80 (dk_at dksX3_worthNow_6 10 rfl rfl)
theorem dX3_worthNow_155 : decode cX3_worthNow 155 = .ok (.aload_n 0, 1) := dk_42 (dk_at dksX3_worthNow_6 11 rfl rfl)
theorem dX3_worthNow_156 : decode cX3_worthNow 156 = .ok (.getfield 75, 3) := dk_180 0 75 (dk_at dksX3_worthNow_6 12 rfl rfl)
theorem dX3_worthNow_159 : decode cX3_worthNow 159 = .ok (.iload_n 3, 1) := dk_29 (dk_at dksX3_worthNow_6 15 rfl rfl)
theorem dX3_worthNow_160 : decode cX3_worthNow 160 = .ok (.aload_n 0, 1) := dk_42 (dk_at dksX3_worthNow_6 16 rfl rfl)
theorem dX3_worthNow_161 : decode cX3_worthNow 161 = .ok (.getfield 217, 3) := dk_180 0 217 (dk_at dksX3_worthNow_6 17 rfl rfl)
theorem dX3_worthNow_164 : decode cX3_worthNow 164 = .ok (.iastore, 1) := dk_79 (dk_at dksX3_worthNow_6 20 rfl rfl)
theorem dX3_worthNow_165 : decode cX3_worthNow 165 = .ok (.aload_n 0, 1) := dk_42 (dk_at dksX3_worthNow_6 21 rfl rfl)
theorem dX3_worthNow_166 : decode cX3_worthNow 166 = .ok (.getfield 217, 3) := dk_180 0 217 (dk_at dksX3_worthNow_7 0 rfl rfl)
theorem dX3_worthNow_169 : decode cX3_worthNow 169 = .ok (.ireturn, 1) := dk_172 (dk_at dksX3_worthNow_7 3 rfl rfl)
abbrev cX3_weightOf : ByteArray := prog_14_method_52_code
def yX3_weightOf : MethodName := ⟨RX3, "weightOf", "([II)I"⟩
def dkwX3_weightOf_0 : List UInt8 := [43, 8, 28, 104, 4, 96, 46, 42, 43, 8, 28, 104, 3, 96, 46, 4, 182, 1, 66, 104, 172]
abbrev dktX3_weightOf_0 : List UInt8 := dkwX3_weightOf_0 ++ []
theorem dksX3_weightOf_0 : cX3_weightOf.data.toList.drop 0 = dktX3_weightOf_0 := by decide +kernel
theorem dX3_weightOf_0 : decode cX3_weightOf 0 = .ok (.aload_n 1, 1) := dk_43 (dk_at dksX3_weightOf_0 0 rfl rfl)
theorem dX3_weightOf_1 : decode cX3_weightOf 1 = .ok (.iconst 5, 1) := dk_8 (dk_at dksX3_weightOf_0 1 rfl rfl)
theorem dX3_weightOf_2 : decode cX3_weightOf 2 = .ok (.iload_n 2, 1) := dk_28 (dk_at dksX3_weightOf_0 2 rfl rfl)
theorem dX3_weightOf_3 : decode cX3_weightOf 3 = .ok (.imul, 1) := dk_104 (dk_at dksX3_weightOf_0 3 rfl rfl)
theorem dX3_weightOf_4 : decode cX3_weightOf 4 = .ok (.iconst 1, 1) := dk_4 (dk_at dksX3_weightOf_0 4 rfl rfl)
theorem dX3_weightOf_5 : decode cX3_weightOf 5 = .ok (.iadd, 1) := dk_96 (dk_at dksX3_weightOf_0 5 rfl rfl)
theorem dX3_weightOf_6 : decode cX3_weightOf 6 = .ok (.iaload, 1) := dk_46 (dk_at dksX3_weightOf_0 6 rfl rfl)
theorem dX3_weightOf_7 : decode cX3_weightOf 7 = .ok (.aload_n 0, 1) := dk_42 (dk_at dksX3_weightOf_0 7 rfl rfl)
theorem dX3_weightOf_8 : decode cX3_weightOf 8 = .ok (.aload_n 1, 1) := dk_43 (dk_at dksX3_weightOf_0 8 rfl rfl)
theorem dX3_weightOf_9 : decode cX3_weightOf 9 = .ok (.iconst 5, 1) := dk_8 (dk_at dksX3_weightOf_0 9 rfl rfl)
theorem dX3_weightOf_10 : decode cX3_weightOf 10 = .ok (.iload_n 2, 1) := dk_28 (dk_at dksX3_weightOf_0 10 rfl rfl)
theorem dX3_weightOf_11 : decode cX3_weightOf 11 = .ok (.imul, 1) := dk_104 (dk_at dksX3_weightOf_0 11 rfl rfl)
theorem dX3_weightOf_12 : decode cX3_weightOf 12 = .ok (.iconst 0, 1) := dk_3 (dk_at dksX3_weightOf_0 12 rfl rfl)
theorem dX3_weightOf_13 : decode cX3_weightOf 13 = .ok (.iadd, 1) := dk_96 (dk_at dksX3_weightOf_0 13 rfl rfl)
theorem dX3_weightOf_14 : decode cX3_weightOf 14 = .ok (.iaload, 1) := dk_46 (dk_at dksX3_weightOf_0 14 rfl rfl)
theorem dX3_weightOf_15 : decode cX3_weightOf 15 = .ok (.iconst 1, 1) := dk_4 (dk_at dksX3_weightOf_0 15 rfl rfl)
theorem dX3_weightOf_16 : decode cX3_weightOf 16 = .ok (.invokevirtual 322, 3) := dk_182 1 66 (dk_at dksX3_weightOf_0 16 rfl rfl)
theorem dX3_weightOf_19 : decode cX3_weightOf 19 = .ok (.imul, 1) := dk_104 (dk_at dksX3_weightOf_0 19 rfl rfl)
theorem dX3_weightOf_20 : decode cX3_weightOf 20 = .ok (.ireturn, 1) := dk_172 (dk_at dksX3_weightOf_0 20 rfl rfl)
abbrev cX3_law : ByteArray := prog_14_method_56_code
def yX3_law : MethodName := ⟨RX3, "law", "(I)Z"⟩
def dkwX3_law_1 : List UInt8 := [154, 0, 5, 3, 172, 42, 27, 181, 0, 64, 4, 172]
abbrev dktX3_law_1 : List UInt8 := dkwX3_law_1 ++ []
def dkwX3_law_0 : List UInt8 := [42, 3, 181, 0, 109, 27, 2, 159, 0, 21, 27, 133, 9, 42, 180, 1, 43, 4, 100, 133, 184, 0, 230]
abbrev dktX3_law_0 : List UInt8 := dkwX3_law_0 ++ dktX3_law_1
theorem dksX3_law_0 : cX3_law.data.toList.drop 0 = dktX3_law_0 := by decide +kernel
theorem dksX3_law_1 : cX3_law.data.toList.drop 23 = dktX3_law_1 := dk_seg dksX3_law_0 23 rfl rfl
theorem dX3_law_0 : decode cX3_law 0 = .ok (.aload_n 0, 1) := dk_42 (dk_at dksX3_law_0 0 rfl rfl)
theorem dX3_law_1 : decode cX3_law 1 = .ok (.iconst 0, 1) := dk_3 (dk_at dksX3_law_0 1 rfl rfl)
theorem dX3_law_2 : decode cX3_law 2 = .ok (.putfield 109, 3) := dk_181 0 109 (dk_at dksX3_law_0 2 rfl rfl)
theorem dX3_law_5 : decode cX3_law 5 = .ok (.iload_n 1, 1) := dk_27 (dk_at dksX3_law_0 5 rfl rfl)
theorem dX3_law_6 : decode cX3_law 6 = .ok (.iconst (-1), 1) := dk_2 (dk_at dksX3_law_0 6 rfl rfl)
theorem dX3_law_7 : decode cX3_law 7 = .ok (.if_icmp .eq 21, 3) := dk_159 0 21 (dk_at dksX3_law_0 7 rfl rfl)
theorem dX3_law_10 : decode cX3_law 10 = .ok (.iload_n 1, 1) := dk_27 (dk_at dksX3_law_0 10 rfl rfl)
theorem dX3_law_11 : decode cX3_law 11 = .ok (.i2l, 1) := dk_133 (dk_at dksX3_law_0 11 rfl rfl)
theorem dX3_law_12 : decode cX3_law 12 = .ok (.lconst 0, 1) := dk_9 (dk_at dksX3_law_0 12 rfl rfl)
theorem dX3_law_13 : decode cX3_law 13 = .ok (.aload_n 0, 1) := dk_42 (dk_at dksX3_law_0 13 rfl rfl)
theorem dX3_law_14 : decode cX3_law 14 = .ok (.getfield 299, 3) := dk_180 1 43 (dk_at dksX3_law_0 14 rfl rfl)
theorem dX3_law_17 : decode cX3_law 17 = .ok (.iconst 1, 1) := dk_4 (dk_at dksX3_law_0 17 rfl rfl)
theorem dX3_law_18 : decode cX3_law 18 = .ok (.isub, 1) := dk_100 (dk_at dksX3_law_0 18 rfl rfl)
theorem dX3_law_19 : decode cX3_law 19 = .ok (.i2l, 1) := dk_133 (dk_at dksX3_law_0 19 rfl rfl)
theorem dX3_law_20 : decode cX3_law 20 = .ok (.invokestatic 230, 3) := dk_184 0 230 (dk_at dksX3_law_0 20 rfl rfl)
theorem dX3_law_23 : decode cX3_law 23 = .ok (.ifCond .ne 5, 3) := dk_154 0 5 (dk_at dksX3_law_1 0 rfl rfl)
theorem dX3_law_26 : decode cX3_law 26 = .ok (.iconst 0, 1) := dk_3 (dk_at dksX3_law_1 3 rfl rfl)
theorem dX3_law_27 : decode cX3_law 27 = .ok (.ireturn, 1) := dk_172 (dk_at dksX3_law_1 4 rfl rfl)
theorem dX3_law_28 : decode cX3_law 28 = .ok (.aload_n 0, 1) := dk_42 (dk_at dksX3_law_1 5 rfl rfl)
theorem dX3_law_29 : decode cX3_law 29 = .ok (.iload_n 1, 1) := dk_27 (dk_at dksX3_law_1 6 rfl rfl)
theorem dX3_law_30 : decode cX3_law 30 = .ok (.putfield 64, 3) := dk_181 0 64 (dk_at dksX3_law_1 7 rfl rfl)
theorem dX3_law_33 : decode cX3_law 33 = .ok (.iconst 1, 1) := dk_4 (dk_at dksX3_law_1 10 rfl rfl)
theorem dX3_law_34 : decode cX3_law 34 = .ok (.ireturn, 1) := dk_172 (dk_at dksX3_law_1 11 rfl rfl)
abbrev cX3_habit : ByteArray := prog_14_method_57_code
def yX3_habit : MethodName := ⟨RX3, "habit", "(I)Z"⟩
def dkwX3_habit_1 : List UInt8 := [160, 0, 5, 3, 172, 42, 27, 181, 0, 68, 4, 172]
abbrev dktX3_habit_1 : List UInt8 := dkwX3_habit_1 ++ []
def dkwX3_habit_0 : List UInt8 := [42, 3, 181, 0, 109, 27, 133, 9, 20, 1, 114, 184, 0, 230, 153, 0, 11, 27, 42, 180, 0, 68]
abbrev dktX3_habit_0 : List UInt8 := dkwX3_habit_0 ++ dktX3_habit_1
theorem dksX3_habit_0 : cX3_habit.data.toList.drop 0 = dktX3_habit_0 := by decide +kernel
theorem dksX3_habit_1 : cX3_habit.data.toList.drop 22 = dktX3_habit_1 := dk_seg dksX3_habit_0 22 rfl rfl
theorem dX3_habit_0 : decode cX3_habit 0 = .ok (.aload_n 0, 1) := dk_42 (dk_at dksX3_habit_0 0 rfl rfl)
theorem dX3_habit_1 : decode cX3_habit 1 = .ok (.iconst 0, 1) := dk_3 (dk_at dksX3_habit_0 1 rfl rfl)
theorem dX3_habit_2 : decode cX3_habit 2 = .ok (.putfield 109, 3) := dk_181 0 109 (dk_at dksX3_habit_0 2 rfl rfl)
theorem dX3_habit_5 : decode cX3_habit 5 = .ok (.iload_n 1, 1) := dk_27 (dk_at dksX3_habit_0 5 rfl rfl)
theorem dX3_habit_6 : decode cX3_habit 6 = .ok (.i2l, 1) := dk_133 (dk_at dksX3_habit_0 6 rfl rfl)
theorem dX3_habit_7 : decode cX3_habit 7 = .ok (.lconst 0, 1) := dk_9 (dk_at dksX3_habit_0 7 rfl rfl)
theorem dX3_habit_8 : decode cX3_habit 8 = .ok (.ldc2_w 370, 3) := dk_20 1 114 (dk_at dksX3_habit_0 8 rfl rfl)
theorem dX3_habit_11 : decode cX3_habit 11 = .ok (.invokestatic 230, 3) := dk_184 0 230 (dk_at dksX3_habit_0 11 rfl rfl)
theorem dX3_habit_14 : decode cX3_habit 14 = .ok (.ifCond .eq 11, 3) := dk_153 0 11 (dk_at dksX3_habit_0 14 rfl rfl)
theorem dX3_habit_17 : decode cX3_habit 17 = .ok (.iload_n 1, 1) := dk_27 (dk_at dksX3_habit_0 17 rfl rfl)
theorem dX3_habit_18 : decode cX3_habit 18 = .ok (.aload_n 0, 1) := dk_42 (dk_at dksX3_habit_0 18 rfl rfl)
theorem dX3_habit_19 : decode cX3_habit 19 = .ok (.getfield 68, 3) := dk_180 0 68 (dk_at dksX3_habit_0 19 rfl rfl)
theorem dX3_habit_22 : decode cX3_habit 22 = .ok (.if_icmp .ne 5, 3) := dk_160 0 5 (dk_at dksX3_habit_1 0 rfl rfl)
theorem dX3_habit_25 : decode cX3_habit 25 = .ok (.iconst 0, 1) := dk_3 (dk_at dksX3_habit_1 3 rfl rfl)
theorem dX3_habit_26 : decode cX3_habit 26 = .ok (.ireturn, 1) := dk_172 (dk_at dksX3_habit_1 4 rfl rfl)
theorem dX3_habit_27 : decode cX3_habit 27 = .ok (.aload_n 0, 1) := dk_42 (dk_at dksX3_habit_1 5 rfl rfl)
theorem dX3_habit_28 : decode cX3_habit 28 = .ok (.iload_n 1, 1) := dk_27 (dk_at dksX3_habit_1 6 rfl rfl)
theorem dX3_habit_29 : decode cX3_habit 29 = .ok (.putfield 68, 3) := dk_181 0 68 (dk_at dksX3_habit_1 7 rfl rfl)
theorem dX3_habit_32 : decode cX3_habit 32 = .ok (.iconst 1, 1) := dk_4 (dk_at dksX3_habit_1 10 rfl rfl)
theorem dX3_habit_33 : decode cX3_habit 33 = .ok (.ireturn, 1) := dk_172 (dk_at dksX3_habit_1 11 rfl rfl)
abbrev cX3_put_2 : ByteArray := prog_14_method_61_code
def yX3_put_2 : MethodName := ⟨RX3, "put", "(IIZ)I"⟩
def dkwX3_put_2_2 : List UInt8 := [46, 172]
abbrev dktX3_put_2_2 : List UInt8 := dkwX3_put_2_2 ++ []
def dkwX3_put_2_1 : List UInt8 := [42, 180, 0, 58, 27, 28, 29, 153, 0, 7, 4, 167, 0, 4, 3, 184, 1, 127, 42, 180, 0, 58, 16, 40]
abbrev dktX3_put_2_1 : List UInt8 := dkwX3_put_2_1 ++ dktX3_put_2_2
def dkwX3_put_2_0 : List UInt8 := [42, 3, 181, 0, 109, 42, 42, 180, 0, 58, 27, 28, 182, 1, 120, 154, 0, 5, 2, 172, 42, 182, 1, 124]
abbrev dktX3_put_2_0 : List UInt8 := dkwX3_put_2_0 ++ dktX3_put_2_1
theorem dksX3_put_2_0 : cX3_put_2.data.toList.drop 0 = dktX3_put_2_0 := by decide +kernel
theorem dksX3_put_2_1 : cX3_put_2.data.toList.drop 24 = dktX3_put_2_1 := dk_seg dksX3_put_2_0 24 rfl rfl
theorem dksX3_put_2_2 : cX3_put_2.data.toList.drop 48 = dktX3_put_2_2 := dk_seg dksX3_put_2_1 24 rfl rfl
theorem dX3_put_2_0 : decode cX3_put_2 0 = .ok (.aload_n 0, 1) := dk_42 (dk_at dksX3_put_2_0 0 rfl rfl)
theorem dX3_put_2_1 : decode cX3_put_2 1 = .ok (.iconst 0, 1) := dk_3 (dk_at dksX3_put_2_0 1 rfl rfl)
theorem dX3_put_2_2 : decode cX3_put_2 2 = .ok (.putfield 109, 3) := dk_181 0 109 (dk_at dksX3_put_2_0 2 rfl rfl)
theorem dX3_put_2_5 : decode cX3_put_2 5 = .ok (.aload_n 0, 1) := dk_42 (dk_at dksX3_put_2_0 5 rfl rfl)
theorem dX3_put_2_6 : decode cX3_put_2 6 = .ok (.aload_n 0, 1) := dk_42 (dk_at dksX3_put_2_0 6 rfl rfl)
theorem dX3_put_2_7 : decode cX3_put_2 7 = .ok (.getfield 58, 3) := dk_180 0 58 (dk_at dksX3_put_2_0 7 rfl rfl)
theorem dX3_put_2_10 : decode cX3_put_2 10 = .ok (.iload_n 1, 1) := dk_27 (dk_at dksX3_put_2_0 10 rfl rfl)
theorem dX3_put_2_11 : decode cX3_put_2 11 = .ok (.iload_n 2, 1) := dk_28 (dk_at dksX3_put_2_0 11 rfl rfl)
theorem dX3_put_2_12 : decode cX3_put_2 12 = .ok (.invokevirtual 376, 3) := dk_182 1 120 (dk_at dksX3_put_2_0 12 rfl rfl)
theorem dX3_put_2_15 : decode cX3_put_2 15 = .ok (.ifCond .ne 5, 3) := dk_154 0 5 (dk_at dksX3_put_2_0 15 rfl rfl)
theorem dX3_put_2_18 : decode cX3_put_2 18 = .ok (.iconst (-1), 1) := dk_2 (dk_at dksX3_put_2_0 18 rfl rfl)
theorem dX3_put_2_19 : decode cX3_put_2 19 = .ok (.ireturn, 1) := dk_172 (dk_at dksX3_put_2_0 19 rfl rfl)
theorem dX3_put_2_20 : decode cX3_put_2 20 = .ok (.aload_n 0, 1) := dk_42 (dk_at dksX3_put_2_0 20 rfl rfl)
theorem dX3_put_2_21 : decode cX3_put_2 21 = .ok (.invokevirtual 380, 3) := dk_182 1 124 (dk_at dksX3_put_2_0 21 rfl rfl)
theorem dX3_put_2_24 : decode cX3_put_2 24 = .ok (.aload_n 0, 1) := dk_42 (dk_at dksX3_put_2_1 0 rfl rfl)
theorem dX3_put_2_25 : decode cX3_put_2 25 = .ok (.getfield 58, 3) := dk_180 0 58 (dk_at dksX3_put_2_1 1 rfl rfl)
theorem dX3_put_2_28 : decode cX3_put_2 28 = .ok (.iload_n 1, 1) := dk_27 (dk_at dksX3_put_2_1 4 rfl rfl)
theorem dX3_put_2_29 : decode cX3_put_2 29 = .ok (.iload_n 2, 1) := dk_28 (dk_at dksX3_put_2_1 5 rfl rfl)
theorem dX3_put_2_30 : decode cX3_put_2 30 = .ok (.iload_n 3, 1) := dk_29 (dk_at dksX3_put_2_1 6 rfl rfl)
theorem dX3_put_2_31 : decode cX3_put_2 31 = .ok (.ifCond .eq 7, 3) := dk_153 0 7 (dk_at dksX3_put_2_1 7 rfl rfl)
theorem dX3_put_2_34 : decode cX3_put_2 34 = .ok (.iconst 1, 1) := dk_4 (dk_at dksX3_put_2_1 10 rfl rfl)
theorem dX3_put_2_35 : decode cX3_put_2 35 = .ok (.goto 4, 3) := dk_167 0 4 (dk_at dksX3_put_2_1 11 rfl rfl)
theorem dX3_put_2_38 : decode cX3_put_2 38 = .ok (.iconst 0, 1) := dk_3 (dk_at dksX3_put_2_1 14 rfl rfl)
theorem dX3_put_2_39 : decode cX3_put_2 39 = .ok (.invokestatic 383, 3) := dk_184 1 127 (dk_at dksX3_put_2_1 15 rfl rfl)
theorem dX3_put_2_42 : decode cX3_put_2 42 = .ok (.aload_n 0, 1) := dk_42 (dk_at dksX3_put_2_1 18 rfl rfl)
theorem dX3_put_2_43 : decode cX3_put_2 43 = .ok (.getfield 58, 3) := dk_180 0 58 (dk_at dksX3_put_2_1 19 rfl rfl)
theorem dX3_put_2_46 : decode cX3_put_2 46 = .ok (.bipush 40, 2) := dk_16 40 (dk_at dksX3_put_2_1 22 rfl rfl)
theorem dX3_put_2_48 : decode cX3_put_2 48 = .ok (.iaload, 1) := dk_46 (dk_at dksX3_put_2_2 0 rfl rfl)
theorem dX3_put_2_49 : decode cX3_put_2 49 = .ok (.ireturn, 1) := dk_172 (dk_at dksX3_put_2_2 1 rfl rfl)
abbrev cX3_canPut : ByteArray := prog_14_method_59_code
def yX3_canPut : MethodName := ⟨RX3, "canPut", "([III)Z"⟩
def dkwX3_canPut_2 : List UInt8 := [167, 0, 4, 3, 172]
abbrev dktX3_canPut_2 : List UInt8 := dkwX3_canPut_2 ++ []
def dkwX3_canPut_1 : List UInt8 := [16, 8, 162, 0, 23, 42, 43, 182, 1, 116, 29, 96, 42, 180, 0, 37, 3, 46, 163, 0, 7, 4]
abbrev dktX3_canPut_1 : List UInt8 := dkwX3_canPut_1 ++ dktX3_canPut_2
def dkwX3_canPut_0 : List UInt8 := [42, 28, 182, 1, 100, 153, 0, 44, 29, 133, 10, 20, 1, 114, 184, 0, 230, 153, 0, 32, 43, 16, 40, 46]
abbrev dktX3_canPut_0 : List UInt8 := dkwX3_canPut_0 ++ dktX3_canPut_1
theorem dksX3_canPut_0 : cX3_canPut.data.toList.drop 0 = dktX3_canPut_0 := by decide +kernel
theorem dksX3_canPut_1 : cX3_canPut.data.toList.drop 24 = dktX3_canPut_1 := dk_seg dksX3_canPut_0 24 rfl rfl
theorem dksX3_canPut_2 : cX3_canPut.data.toList.drop 46 = dktX3_canPut_2 := dk_seg dksX3_canPut_1 22 rfl rfl
theorem dX3_canPut_0 : decode cX3_canPut 0 = .ok (.aload_n 0, 1) := dk_42 (dk_at dksX3_canPut_0 0 rfl rfl)
theorem dX3_canPut_1 : decode cX3_canPut 1 = .ok (.iload_n 2, 1) := dk_28 (dk_at dksX3_canPut_0 1 rfl rfl)
theorem dX3_canPut_2 : decode cX3_canPut 2 = .ok (.invokevirtual 356, 3) := dk_182 1 100 (dk_at dksX3_canPut_0 2 rfl rfl)
theorem dX3_canPut_5 : decode cX3_canPut 5 = .ok (.ifCond .eq 44, 3) := dk_153 0 44 (dk_at dksX3_canPut_0 5 rfl rfl)
theorem dX3_canPut_8 : decode cX3_canPut 8 = .ok (.iload_n 3, 1) := dk_29 (dk_at dksX3_canPut_0 8 rfl rfl)
theorem dX3_canPut_9 : decode cX3_canPut 9 = .ok (.i2l, 1) := dk_133 (dk_at dksX3_canPut_0 9 rfl rfl)
theorem dX3_canPut_10 : decode cX3_canPut 10 = .ok (.lconst 1, 1) := dk_10 (dk_at dksX3_canPut_0 10 rfl rfl)
theorem dX3_canPut_11 : decode cX3_canPut 11 = .ok (.ldc2_w 370, 3) := dk_20 1 114 (dk_at dksX3_canPut_0 11 rfl rfl)
theorem dX3_canPut_14 : decode cX3_canPut 14 = .ok (.invokestatic 230, 3) := dk_184 0 230 (dk_at dksX3_canPut_0 14 rfl rfl)
theorem dX3_canPut_17 : decode cX3_canPut 17 = .ok (.ifCond .eq 32, 3) := dk_153 0 32 (dk_at dksX3_canPut_0 17 rfl rfl)
theorem dX3_canPut_20 : decode cX3_canPut 20 = .ok (.aload_n 1, 1) := dk_43 (dk_at dksX3_canPut_0 20 rfl rfl)
theorem dX3_canPut_21 : decode cX3_canPut 21 = .ok (.bipush 40, 2) := dk_16 40 (dk_at dksX3_canPut_0 21 rfl rfl)
theorem dX3_canPut_23 : decode cX3_canPut 23 = .ok (.iaload, 1) := dk_46 (dk_at dksX3_canPut_0 23 rfl rfl)
theorem dX3_canPut_24 : decode cX3_canPut 24 = .ok (.bipush 8, 2) := dk_16 8 (dk_at dksX3_canPut_1 0 rfl rfl)
theorem dX3_canPut_26 : decode cX3_canPut 26 = .ok (.if_icmp .ge 23, 3) := dk_162 0 23 (dk_at dksX3_canPut_1 2 rfl rfl)
theorem dX3_canPut_29 : decode cX3_canPut 29 = .ok (.aload_n 0, 1) := dk_42 (dk_at dksX3_canPut_1 5 rfl rfl)
theorem dX3_canPut_30 : decode cX3_canPut 30 = .ok (.aload_n 1, 1) := dk_43 (dk_at dksX3_canPut_1 6 rfl rfl)
theorem dX3_canPut_31 : decode cX3_canPut 31 = .ok (.invokevirtual 372, 3) := dk_182 1 116 (dk_at dksX3_canPut_1 7 rfl rfl)
theorem dX3_canPut_34 : decode cX3_canPut 34 = .ok (.iload_n 3, 1) := dk_29 (dk_at dksX3_canPut_1 10 rfl rfl)
theorem dX3_canPut_35 : decode cX3_canPut 35 = .ok (.iadd, 1) := dk_96 (dk_at dksX3_canPut_1 11 rfl rfl)
theorem dX3_canPut_36 : decode cX3_canPut 36 = .ok (.aload_n 0, 1) := dk_42 (dk_at dksX3_canPut_1 12 rfl rfl)
theorem dX3_canPut_37 : decode cX3_canPut 37 = .ok (.getfield 37, 3) := dk_180 0 37 (dk_at dksX3_canPut_1 13 rfl rfl)
theorem dX3_canPut_40 : decode cX3_canPut 40 = .ok (.iconst 0, 1) := dk_3 (dk_at dksX3_canPut_1 16 rfl rfl)
theorem dX3_canPut_41 : decode cX3_canPut 41 = .ok (.iaload, 1) := dk_46 (dk_at dksX3_canPut_1 17 rfl rfl)
theorem dX3_canPut_42 : decode cX3_canPut 42 = .ok (.if_icmp .gt 7, 3) := dk_163 0 7 (dk_at dksX3_canPut_1 18 rfl rfl)
theorem dX3_canPut_45 : decode cX3_canPut 45 = .ok (.iconst 1, 1) := dk_4 (dk_at dksX3_canPut_1 21 rfl rfl)
theorem dX3_canPut_46 : decode cX3_canPut 46 = .ok (.goto 4, 3) := dk_167 0 4 (dk_at dksX3_canPut_2 0 rfl rfl)
theorem dX3_canPut_49 : decode cX3_canPut 49 = .ok (.iconst 0, 1) := dk_3 (dk_at dksX3_canPut_2 3 rfl rfl)
theorem dX3_canPut_50 : decode cX3_canPut 50 = .ok (.ireturn, 1) := dk_172 (dk_at dksX3_canPut_2 4 rfl rfl)
abbrev cX3_sumIn : ByteArray := prog_14_method_50_code
def yX3_sumIn : MethodName := ⟨RX3, "sumIn", "([I)I"⟩
def dkwX3_sumIn_1 : List UInt8 := [132, 3, 1, 167, 255, 235, 28, 172]
abbrev dktX3_sumIn_1 : List UInt8 := dkwX3_sumIn_1 ++ []
def dkwX3_sumIn_0 : List UInt8 := [3, 61, 3, 62, 29, 43, 16, 40, 46, 162, 0, 19, 28, 43, 8, 29, 104, 4, 96, 46, 96, 61]
abbrev dktX3_sumIn_0 : List UInt8 := dkwX3_sumIn_0 ++ dktX3_sumIn_1
theorem dksX3_sumIn_0 : cX3_sumIn.data.toList.drop 0 = dktX3_sumIn_0 := by decide +kernel
theorem dksX3_sumIn_1 : cX3_sumIn.data.toList.drop 22 = dktX3_sumIn_1 := dk_seg dksX3_sumIn_0 22 rfl rfl
theorem dX3_sumIn_0 : decode cX3_sumIn 0 = .ok (.iconst 0, 1) := dk_3 (dk_at dksX3_sumIn_0 0 rfl rfl)
theorem dX3_sumIn_1 : decode cX3_sumIn 1 = .ok (.istore_n 2, 1) := dk_61 (dk_at dksX3_sumIn_0 1 rfl rfl)
theorem dX3_sumIn_2 : decode cX3_sumIn 2 = .ok (.iconst 0, 1) := dk_3 (dk_at dksX3_sumIn_0 2 rfl rfl)
theorem dX3_sumIn_3 : decode cX3_sumIn 3 = .ok (.istore_n 3, 1) := dk_62 (dk_at dksX3_sumIn_0 3 rfl rfl)
theorem dX3_sumIn_4 : decode cX3_sumIn 4 = .ok (.iload_n 3, 1) := dk_29 (dk_at dksX3_sumIn_0 4 rfl rfl)
theorem dX3_sumIn_5 : decode cX3_sumIn 5 = .ok (.aload_n 1, 1) := dk_43 (dk_at dksX3_sumIn_0 5 rfl rfl)
theorem dX3_sumIn_6 : decode cX3_sumIn 6 = .ok (.bipush 40, 2) := dk_16 40 (dk_at dksX3_sumIn_0 6 rfl rfl)
theorem dX3_sumIn_8 : decode cX3_sumIn 8 = .ok (.iaload, 1) := dk_46 (dk_at dksX3_sumIn_0 8 rfl rfl)
theorem dX3_sumIn_9 : decode cX3_sumIn 9 = .ok (.if_icmp .ge 19, 3) := dk_162 0 19 (dk_at dksX3_sumIn_0 9 rfl rfl)
theorem dX3_sumIn_12 : decode cX3_sumIn 12 = .ok (.iload_n 2, 1) := dk_28 (dk_at dksX3_sumIn_0 12 rfl rfl)
theorem dX3_sumIn_13 : decode cX3_sumIn 13 = .ok (.aload_n 1, 1) := dk_43 (dk_at dksX3_sumIn_0 13 rfl rfl)
theorem dX3_sumIn_14 : decode cX3_sumIn 14 = .ok (.iconst 5, 1) := dk_8 (dk_at dksX3_sumIn_0 14 rfl rfl)
theorem dX3_sumIn_15 : decode cX3_sumIn 15 = .ok (.iload_n 3, 1) := dk_29 (dk_at dksX3_sumIn_0 15 rfl rfl)
theorem dX3_sumIn_16 : decode cX3_sumIn 16 = .ok (.imul, 1) := dk_104 (dk_at dksX3_sumIn_0 16 rfl rfl)
theorem dX3_sumIn_17 : decode cX3_sumIn 17 = .ok (.iconst 1, 1) := dk_4 (dk_at dksX3_sumIn_0 17 rfl rfl)
theorem dX3_sumIn_18 : decode cX3_sumIn 18 = .ok (.iadd, 1) := dk_96 (dk_at dksX3_sumIn_0 18 rfl rfl)
theorem dX3_sumIn_19 : decode cX3_sumIn 19 = .ok (.iaload, 1) := dk_46 (dk_at dksX3_sumIn_0 19 rfl rfl)
theorem dX3_sumIn_20 : decode cX3_sumIn 20 = .ok (.iadd, 1) := dk_96 (dk_at dksX3_sumIn_0 20 rfl rfl)
theorem dX3_sumIn_21 : decode cX3_sumIn 21 = .ok (.istore_n 2, 1) := dk_61 (dk_at dksX3_sumIn_0 21 rfl rfl)
theorem dX3_sumIn_22 : decode cX3_sumIn 22 = .ok (.iinc 3 1, 3) := dk_132 3 1 (dk_at dksX3_sumIn_1 0 rfl rfl)
theorem dX3_sumIn_25 : decode cX3_sumIn 25 = .ok (.goto (-21), 3) := dk_167 255 235 (dk_at dksX3_sumIn_1 3 rfl rfl)
theorem dX3_sumIn_28 : decode cX3_sumIn 28 = .ok (.iload_n 2, 1) := dk_28 (dk_at dksX3_sumIn_1 6 rfl rfl)
theorem dX3_sumIn_29 : decode cX3_sumIn 29 = .ok (.ireturn, 1) := dk_172 (dk_at dksX3_sumIn_1 7 rfl rfl)
abbrev cX3_remember : ByteArray := prog_14_method_58_code
def yX3_remember : MethodName := ⟨RX3, "remember", "()V"⟩
def dkwX3_remember_4 : List UInt8 := [181, 1, 60, 177]
abbrev dktX3_remember_4 : List UInt8 := dkwX3_remember_4 ++ []
def dkwX3_remember_3 : List UInt8 := [27, 96, 42, 180, 0, 58, 27, 46, 79, 132, 1, 1, 167, 255, 225, 42, 89, 180, 1, 60, 4, 96]
abbrev dktX3_remember_3 : List UInt8 := dkwX3_remember_3 ++ dktX3_remember_4
def dkwX3_remember_2 : List UInt8 := [181, 1, 60, 3, 60, 27, 17, 1, 27, 162, 0, 30, 42, 180, 0, 78, 17, 1, 27, 42, 180, 1, 60, 104]
abbrev dktX3_remember_2 : List UInt8 := dkwX3_remember_2 ++ dktX3_remember_3
def dkwX3_remember_1 : List UInt8 := [180, 0, 78, 27, 17, 1, 27, 96, 46, 79, 132, 1, 1, 167, 255, 230, 42, 89, 180, 1, 60, 4, 100]
abbrev dktX3_remember_1 : List UInt8 := dkwX3_remember_1 ++ dktX3_remember_2
def dkwX3_remember_0 : List UInt8 := [42, 180, 1, 60, 16, 40, 160, 0, 44, 3, 60, 27, 17, 43, 29, 162, 0, 25, 42, 180, 0, 78, 27, 42]
abbrev dktX3_remember_0 : List UInt8 := dkwX3_remember_0 ++ dktX3_remember_1
theorem dksX3_remember_0 : cX3_remember.data.toList.drop 0 = dktX3_remember_0 := by decide +kernel
theorem dksX3_remember_1 : cX3_remember.data.toList.drop 24 = dktX3_remember_1 := dk_seg dksX3_remember_0 24 rfl rfl
theorem dksX3_remember_2 : cX3_remember.data.toList.drop 47 = dktX3_remember_2 := dk_seg dksX3_remember_1 23 rfl rfl
theorem dksX3_remember_3 : cX3_remember.data.toList.drop 71 = dktX3_remember_3 := dk_seg dksX3_remember_2 24 rfl rfl
theorem dksX3_remember_4 : cX3_remember.data.toList.drop 93 = dktX3_remember_4 := dk_seg dksX3_remember_3 22 rfl rfl
theorem dX3_remember_0 : decode cX3_remember 0 = .ok (.aload_n 0, 1) := dk_42 (dk_at dksX3_remember_0 0 rfl rfl)
theorem dX3_remember_1 : decode cX3_remember 1 = .ok (.getfield 316, 3) := dk_180 1 60 (dk_at dksX3_remember_0 1 rfl rfl)
theorem dX3_remember_4 : decode cX3_remember 4 = .ok (.bipush 40, 2) := dk_16 40 (dk_at dksX3_remember_0 4 rfl rfl)
theorem dX3_remember_6 : decode cX3_remember 6 = .ok (.if_icmp .ne 44, 3) := dk_160 0 44 (dk_at dksX3_remember_0 6 rfl rfl)
theorem dX3_remember_9 : decode cX3_remember 9 = .ok (.iconst 0, 1) := dk_3 (dk_at dksX3_remember_0 9 rfl rfl)
theorem dX3_remember_10 : decode cX3_remember 10 = .ok (.istore_n 1, 1) := dk_60 (dk_at dksX3_remember_0 10 rfl rfl)
theorem dX3_remember_11 : decode cX3_remember 11 = .ok (.iload_n 1, 1) := dk_27 (dk_at dksX3_remember_0 11 rfl rfl)
theorem dX3_remember_12 : decode cX3_remember 12 = .ok (.sipush 11037, 3) := dk_17 43 29 (dk_at dksX3_remember_0 12 rfl rfl)
theorem dX3_remember_15 : decode cX3_remember 15 = .ok (.if_icmp .ge 25, 3) := dk_162 0 25 (dk_at dksX3_remember_0 15 rfl rfl)
theorem dX3_remember_18 : decode cX3_remember 18 = .ok (.aload_n 0, 1) := dk_42 (dk_at dksX3_remember_0 18 rfl rfl)
theorem dX3_remember_19 : decode cX3_remember 19 = .ok (.getfield 78, 3) := dk_180 0 78 (dk_at dksX3_remember_0 19 rfl rfl)
theorem dX3_remember_22 : decode cX3_remember 22 = .ok (.iload_n 1, 1) := dk_27 (dk_at dksX3_remember_0 22 rfl rfl)
theorem dX3_remember_23 : decode cX3_remember 23 = .ok (.aload_n 0, 1) := dk_42 (dk_at dksX3_remember_0 23 rfl rfl)
theorem dX3_remember_24 : decode cX3_remember 24 = .ok (.getfield 78, 3) := dk_180 0 78 (dk_at dksX3_remember_1 0 rfl rfl)
theorem dX3_remember_27 : decode cX3_remember 27 = .ok (.iload_n 1, 1) := dk_27 (dk_at dksX3_remember_1 3 rfl rfl)
theorem dX3_remember_28 : decode cX3_remember 28 = .ok (.sipush 283, 3) := dk_17 1 27 (dk_at dksX3_remember_1 4 rfl rfl)
theorem dX3_remember_31 : decode cX3_remember 31 = .ok (.iadd, 1) := dk_96 (dk_at dksX3_remember_1 7 rfl rfl)
theorem dX3_remember_32 : decode cX3_remember 32 = .ok (.iaload, 1) := dk_46 (dk_at dksX3_remember_1 8 rfl rfl)
theorem dX3_remember_33 : decode cX3_remember 33 = .ok (.iastore, 1) := dk_79 (dk_at dksX3_remember_1 9 rfl rfl)
theorem dX3_remember_34 : decode cX3_remember 34 = .ok (.iinc 1 1, 3) := dk_132 1 1 (dk_at dksX3_remember_1 10 rfl rfl)
theorem dX3_remember_37 : decode cX3_remember 37 = .ok (.goto (-26), 3) := dk_167 255 230 (dk_at dksX3_remember_1 13 rfl rfl)
theorem dX3_remember_40 : decode cX3_remember 40 = .ok (.aload_n 0, 1) := dk_42 (dk_at dksX3_remember_1 16 rfl rfl)
theorem dX3_remember_41 : decode cX3_remember 41 = .ok (.dup, 1) := dk_89 (dk_at dksX3_remember_1 17 rfl rfl)
theorem dX3_remember_42 : decode cX3_remember 42 = .ok (.getfield 316, 3) := dk_180 1 60 (dk_at dksX3_remember_1 18 rfl rfl)
theorem dX3_remember_45 : decode cX3_remember 45 = .ok (.iconst 1, 1) := dk_4 (dk_at dksX3_remember_1 21 rfl rfl)
theorem dX3_remember_46 : decode cX3_remember 46 = .ok (.isub, 1) := dk_100 (dk_at dksX3_remember_1 22 rfl rfl)
theorem dX3_remember_47 : decode cX3_remember 47 = .ok (.putfield 316, 3) := dk_181 1 60 (dk_at dksX3_remember_2 0 rfl rfl)
theorem dX3_remember_50 : decode cX3_remember 50 = .ok (.iconst 0, 1) := dk_3 (dk_at dksX3_remember_2 3 rfl rfl)
theorem dX3_remember_51 : decode cX3_remember 51 = .ok (.istore_n 1, 1) := dk_60 (dk_at dksX3_remember_2 4 rfl rfl)
theorem dX3_remember_52 : decode cX3_remember 52 = .ok (.iload_n 1, 1) := dk_27 (dk_at dksX3_remember_2 5 rfl rfl)
theorem dX3_remember_53 : decode cX3_remember 53 = .ok (.sipush 283, 3) := dk_17 1 27 (dk_at dksX3_remember_2 6 rfl rfl)
theorem dX3_remember_56 : decode cX3_remember 56 = .ok (.if_icmp .ge 30, 3) := dk_162 0 30 (dk_at dksX3_remember_2 9 rfl rfl)
theorem dX3_remember_59 : decode cX3_remember 59 = .ok (.aload_n 0, 1) := dk_42 (dk_at dksX3_remember_2 12 rfl rfl)
theorem dX3_remember_60 : decode cX3_remember 60 = .ok (.getfield 78, 3) := dk_180 0 78 (dk_at dksX3_remember_2 13 rfl rfl)
theorem dX3_remember_63 : decode cX3_remember 63 = .ok (.sipush 283, 3) := dk_17 1 27 (dk_at dksX3_remember_2 16 rfl rfl)
theorem dX3_remember_66 : decode cX3_remember 66 = .ok (.aload_n 0, 1) := dk_42 (dk_at dksX3_remember_2 19 rfl rfl)
theorem dX3_remember_67 : decode cX3_remember 67 = .ok (.getfield 316, 3) := dk_180 1 60 (dk_at dksX3_remember_2 20 rfl rfl)
theorem dX3_remember_70 : decode cX3_remember 70 = .ok (.imul, 1) := dk_104 (dk_at dksX3_remember_2 23 rfl rfl)
theorem dX3_remember_71 : decode cX3_remember 71 = .ok (.iload_n 1, 1) := dk_27 (dk_at dksX3_remember_3 0 rfl rfl)
theorem dX3_remember_72 : decode cX3_remember 72 = .ok (.iadd, 1) := dk_96 (dk_at dksX3_remember_3 1 rfl rfl)
theorem dX3_remember_73 : decode cX3_remember 73 = .ok (.aload_n 0, 1) := dk_42 (dk_at dksX3_remember_3 2 rfl rfl)
theorem dX3_remember_74 : decode cX3_remember 74 = .ok (.getfield 58, 3) := dk_180 0 58 (dk_at dksX3_remember_3 3 rfl rfl)
theorem dX3_remember_77 : decode cX3_remember 77 = .ok (.iload_n 1, 1) := dk_27 (dk_at dksX3_remember_3 6 rfl rfl)
theorem dX3_remember_78 : decode cX3_remember 78 = .ok (.iaload, 1) := dk_46 (dk_at dksX3_remember_3 7 rfl rfl)
theorem dX3_remember_79 : decode cX3_remember 79 = .ok (.iastore, 1) := dk_79 (dk_at dksX3_remember_3 8 rfl rfl)
theorem dX3_remember_80 : decode cX3_remember 80 = .ok (.iinc 1 1, 3) := dk_132 1 1 (dk_at dksX3_remember_3 9 rfl rfl)
theorem dX3_remember_83 : decode cX3_remember 83 = .ok (.goto (-31), 3) := dk_167 255 225 (dk_at dksX3_remember_3 12 rfl rfl)
theorem dX3_remember_86 : decode cX3_remember 86 = .ok (.aload_n 0, 1) := dk_42 (dk_at dksX3_remember_3 15 rfl rfl)
theorem dX3_remember_87 : decode cX3_remember 87 = .ok (.dup, 1) := dk_89 (dk_at dksX3_remember_3 16 rfl rfl)
theorem dX3_remember_88 : decode cX3_remember 88 = .ok (.getfield 316, 3) := dk_180 1 60 (dk_at dksX3_remember_3 17 rfl rfl)
theorem dX3_remember_91 : decode cX3_remember 91 = .ok (.iconst 1, 1) := dk_4 (dk_at dksX3_remember_3 20 rfl rfl)
theorem dX3_remember_92 : decode cX3_remember 92 = .ok (.iadd, 1) := dk_96 (dk_at dksX3_remember_3 21 rfl rfl)
theorem dX3_remember_93 : decode cX3_remember 93 = .ok (.putfield 316, 3) := dk_181 1 60 (dk_at dksX3_remember_4 0 rfl rfl)
theorem dX3_remember_96 : decode cX3_remember 96 = .ok (.return_, 1) := dk_177 (dk_at dksX3_remember_4 3 rfl rfl)
abbrev cX3_puts : ByteArray := prog_14_method_60_code
def yX3_puts : MethodName := ⟨RX3, "puts", "([IIII)V"⟩
def dkwX3_puts_2 : List UInt8 := [7, 42, 16, 41, 46, 79, 42, 16, 40, 92, 46, 4, 96, 79, 177]
abbrev dktX3_puts_2 : List UInt8 := dkwX3_puts_2 ++ []
def dkwX3_puts_1 : List UInt8 := [79, 132, 4, 255, 167, 255, 238, 42, 3, 27, 79, 42, 4, 28, 79, 42, 5, 3, 79, 42, 6, 29, 79, 42]
abbrev dktX3_puts_1 : List UInt8 := dkwX3_puts_1 ++ dktX3_puts_2
def dkwX3_puts_0 : List UInt8 := [8, 42, 16, 40, 46, 104, 4, 100, 54, 4, 21, 4, 155, 0, 19, 42, 21, 4, 8, 96, 42, 21, 4, 46]
abbrev dktX3_puts_0 : List UInt8 := dkwX3_puts_0 ++ dktX3_puts_1
theorem dksX3_puts_0 : cX3_puts.data.toList.drop 0 = dktX3_puts_0 := by decide +kernel
theorem dksX3_puts_1 : cX3_puts.data.toList.drop 24 = dktX3_puts_1 := dk_seg dksX3_puts_0 24 rfl rfl
theorem dksX3_puts_2 : cX3_puts.data.toList.drop 48 = dktX3_puts_2 := dk_seg dksX3_puts_1 24 rfl rfl
theorem dX3_puts_0 : decode cX3_puts 0 = .ok (.iconst 5, 1) := dk_8 (dk_at dksX3_puts_0 0 rfl rfl)
theorem dX3_puts_1 : decode cX3_puts 1 = .ok (.aload_n 0, 1) := dk_42 (dk_at dksX3_puts_0 1 rfl rfl)
theorem dX3_puts_2 : decode cX3_puts 2 = .ok (.bipush 40, 2) := dk_16 40 (dk_at dksX3_puts_0 2 rfl rfl)
theorem dX3_puts_4 : decode cX3_puts 4 = .ok (.iaload, 1) := dk_46 (dk_at dksX3_puts_0 4 rfl rfl)
theorem dX3_puts_5 : decode cX3_puts 5 = .ok (.imul, 1) := dk_104 (dk_at dksX3_puts_0 5 rfl rfl)
theorem dX3_puts_6 : decode cX3_puts 6 = .ok (.iconst 1, 1) := dk_4 (dk_at dksX3_puts_0 6 rfl rfl)
theorem dX3_puts_7 : decode cX3_puts 7 = .ok (.isub, 1) := dk_100 (dk_at dksX3_puts_0 7 rfl rfl)
theorem dX3_puts_8 : decode cX3_puts 8 = .ok (.istore 4, 2) := dk_54 4 (dk_at dksX3_puts_0 8 rfl rfl)
theorem dX3_puts_10 : decode cX3_puts 10 = .ok (.iload 4, 2) := dk_21 4 (dk_at dksX3_puts_0 10 rfl rfl)
theorem dX3_puts_12 : decode cX3_puts 12 = .ok (.ifCond .lt 19, 3) := dk_155 0 19 (dk_at dksX3_puts_0 12 rfl rfl)
theorem dX3_puts_15 : decode cX3_puts 15 = .ok (.aload_n 0, 1) := dk_42 (dk_at dksX3_puts_0 15 rfl rfl)
theorem dX3_puts_16 : decode cX3_puts 16 = .ok (.iload 4, 2) := dk_21 4 (dk_at dksX3_puts_0 16 rfl rfl)
theorem dX3_puts_18 : decode cX3_puts 18 = .ok (.iconst 5, 1) := dk_8 (dk_at dksX3_puts_0 18 rfl rfl)
theorem dX3_puts_19 : decode cX3_puts 19 = .ok (.iadd, 1) := dk_96 (dk_at dksX3_puts_0 19 rfl rfl)
theorem dX3_puts_20 : decode cX3_puts 20 = .ok (.aload_n 0, 1) := dk_42 (dk_at dksX3_puts_0 20 rfl rfl)
theorem dX3_puts_21 : decode cX3_puts 21 = .ok (.iload 4, 2) := dk_21 4 (dk_at dksX3_puts_0 21 rfl rfl)
theorem dX3_puts_23 : decode cX3_puts 23 = .ok (.iaload, 1) := dk_46 (dk_at dksX3_puts_0 23 rfl rfl)
theorem dX3_puts_24 : decode cX3_puts 24 = .ok (.iastore, 1) := dk_79 (dk_at dksX3_puts_1 0 rfl rfl)
theorem dX3_puts_25 : decode cX3_puts 25 = .ok (.iinc 4 (-1), 3) := dk_132 4 255 (dk_at dksX3_puts_1 1 rfl rfl)
theorem dX3_puts_28 : decode cX3_puts 28 = .ok (.goto (-18), 3) := dk_167 255 238 (dk_at dksX3_puts_1 4 rfl rfl)
theorem dX3_puts_31 : decode cX3_puts 31 = .ok (.aload_n 0, 1) := dk_42 (dk_at dksX3_puts_1 7 rfl rfl)
theorem dX3_puts_32 : decode cX3_puts 32 = .ok (.iconst 0, 1) := dk_3 (dk_at dksX3_puts_1 8 rfl rfl)
theorem dX3_puts_33 : decode cX3_puts 33 = .ok (.iload_n 1, 1) := dk_27 (dk_at dksX3_puts_1 9 rfl rfl)
theorem dX3_puts_34 : decode cX3_puts 34 = .ok (.iastore, 1) := dk_79 (dk_at dksX3_puts_1 10 rfl rfl)
theorem dX3_puts_35 : decode cX3_puts 35 = .ok (.aload_n 0, 1) := dk_42 (dk_at dksX3_puts_1 11 rfl rfl)
theorem dX3_puts_36 : decode cX3_puts 36 = .ok (.iconst 1, 1) := dk_4 (dk_at dksX3_puts_1 12 rfl rfl)
theorem dX3_puts_37 : decode cX3_puts 37 = .ok (.iload_n 2, 1) := dk_28 (dk_at dksX3_puts_1 13 rfl rfl)
theorem dX3_puts_38 : decode cX3_puts 38 = .ok (.iastore, 1) := dk_79 (dk_at dksX3_puts_1 14 rfl rfl)
theorem dX3_puts_39 : decode cX3_puts 39 = .ok (.aload_n 0, 1) := dk_42 (dk_at dksX3_puts_1 15 rfl rfl)
theorem dX3_puts_40 : decode cX3_puts 40 = .ok (.iconst 2, 1) := dk_5 (dk_at dksX3_puts_1 16 rfl rfl)
theorem dX3_puts_41 : decode cX3_puts 41 = .ok (.iconst 0, 1) := dk_3 (dk_at dksX3_puts_1 17 rfl rfl)
theorem dX3_puts_42 : decode cX3_puts 42 = .ok (.iastore, 1) := dk_79 (dk_at dksX3_puts_1 18 rfl rfl)
theorem dX3_puts_43 : decode cX3_puts 43 = .ok (.aload_n 0, 1) := dk_42 (dk_at dksX3_puts_1 19 rfl rfl)
theorem dX3_puts_44 : decode cX3_puts 44 = .ok (.iconst 3, 1) := dk_6 (dk_at dksX3_puts_1 20 rfl rfl)
theorem dX3_puts_45 : decode cX3_puts 45 = .ok (.iload_n 3, 1) := dk_29 (dk_at dksX3_puts_1 21 rfl rfl)
theorem dX3_puts_46 : decode cX3_puts 46 = .ok (.iastore, 1) := dk_79 (dk_at dksX3_puts_1 22 rfl rfl)
theorem dX3_puts_47 : decode cX3_puts 47 = .ok (.aload_n 0, 1) := dk_42 (dk_at dksX3_puts_1 23 rfl rfl)
theorem dX3_puts_48 : decode cX3_puts 48 = .ok (.iconst 4, 1) := dk_7 (dk_at dksX3_puts_2 0 rfl rfl)
theorem dX3_puts_49 : decode cX3_puts 49 = .ok (.aload_n 0, 1) := dk_42 (dk_at dksX3_puts_2 1 rfl rfl)
theorem dX3_puts_50 : decode cX3_puts 50 = .ok (.bipush 41, 2) := dk_16 41 (dk_at dksX3_puts_2 2 rfl rfl)
theorem dX3_puts_52 : decode cX3_puts 52 = .ok (.iaload, 1) := dk_46 (dk_at dksX3_puts_2 4 rfl rfl)
theorem dX3_puts_53 : decode cX3_puts 53 = .ok (.iastore, 1) := dk_79 (dk_at dksX3_puts_2 5 rfl rfl)
theorem dX3_puts_54 : decode cX3_puts 54 = .ok (.aload_n 0, 1) := dk_42 (dk_at dksX3_puts_2 6 rfl rfl)
theorem dX3_puts_55 : decode cX3_puts 55 = .ok (.bipush 40, 2) := dk_16 40 (dk_at dksX3_puts_2 7 rfl rfl)
theorem dX3_puts_57 : decode cX3_puts 57 = .ok (.dup2, 1) := dk_92 (dk_at dksX3_puts_2 9 rfl rfl)
theorem dX3_puts_58 : decode cX3_puts 58 = .ok (.iaload, 1) := dk_46 (dk_at dksX3_puts_2 10 rfl rfl)
theorem dX3_puts_59 : decode cX3_puts 59 = .ok (.iconst 1, 1) := dk_4 (dk_at dksX3_puts_2 11 rfl rfl)
theorem dX3_puts_60 : decode cX3_puts 60 = .ok (.iadd, 1) := dk_96 (dk_at dksX3_puts_2 12 rfl rfl)
theorem dX3_puts_61 : decode cX3_puts 61 = .ok (.iastore, 1) := dk_79 (dk_at dksX3_puts_2 13 rfl rfl)
theorem dX3_puts_62 : decode cX3_puts 62 = .ok (.return_, 1) := dk_177 (dk_at dksX3_puts_2 14 rfl rfl)
abbrev cX3_take : ByteArray := prog_14_method_64_code
def yX3_take : MethodName := ⟨RX3, "take", "(I)I"⟩
def dkwX3_take_1 : List UInt8 := [42, 180, 0, 58, 27, 182, 1, 135, 172]
abbrev dktX3_take_1 : List UInt8 := dkwX3_take_1 ++ []
def dkwX3_take_0 : List UInt8 := [42, 3, 181, 0, 109, 42, 42, 180, 0, 58, 27, 182, 1, 105, 154, 0, 5, 2, 172, 42, 182, 1, 124, 42]
abbrev dktX3_take_0 : List UInt8 := dkwX3_take_0 ++ dktX3_take_1
theorem dksX3_take_0 : cX3_take.data.toList.drop 0 = dktX3_take_0 := by decide +kernel
theorem dksX3_take_1 : cX3_take.data.toList.drop 24 = dktX3_take_1 := dk_seg dksX3_take_0 24 rfl rfl
theorem dX3_take_0 : decode cX3_take 0 = .ok (.aload_n 0, 1) := dk_42 (dk_at dksX3_take_0 0 rfl rfl)
theorem dX3_take_1 : decode cX3_take 1 = .ok (.iconst 0, 1) := dk_3 (dk_at dksX3_take_0 1 rfl rfl)
theorem dX3_take_2 : decode cX3_take 2 = .ok (.putfield 109, 3) := dk_181 0 109 (dk_at dksX3_take_0 2 rfl rfl)
theorem dX3_take_5 : decode cX3_take 5 = .ok (.aload_n 0, 1) := dk_42 (dk_at dksX3_take_0 5 rfl rfl)
theorem dX3_take_6 : decode cX3_take 6 = .ok (.aload_n 0, 1) := dk_42 (dk_at dksX3_take_0 6 rfl rfl)
theorem dX3_take_7 : decode cX3_take 7 = .ok (.getfield 58, 3) := dk_180 0 58 (dk_at dksX3_take_0 7 rfl rfl)
theorem dX3_take_10 : decode cX3_take 10 = .ok (.iload_n 1, 1) := dk_27 (dk_at dksX3_take_0 10 rfl rfl)
theorem dX3_take_11 : decode cX3_take 11 = .ok (.invokevirtual 361, 3) := dk_182 1 105 (dk_at dksX3_take_0 11 rfl rfl)
theorem dX3_take_14 : decode cX3_take 14 = .ok (.ifCond .ne 5, 3) := dk_154 0 5 (dk_at dksX3_take_0 14 rfl rfl)
theorem dX3_take_17 : decode cX3_take 17 = .ok (.iconst (-1), 1) := dk_2 (dk_at dksX3_take_0 17 rfl rfl)
theorem dX3_take_18 : decode cX3_take 18 = .ok (.ireturn, 1) := dk_172 (dk_at dksX3_take_0 18 rfl rfl)
theorem dX3_take_19 : decode cX3_take 19 = .ok (.aload_n 0, 1) := dk_42 (dk_at dksX3_take_0 19 rfl rfl)
theorem dX3_take_20 : decode cX3_take 20 = .ok (.invokevirtual 380, 3) := dk_182 1 124 (dk_at dksX3_take_0 20 rfl rfl)
theorem dX3_take_23 : decode cX3_take 23 = .ok (.aload_n 0, 1) := dk_42 (dk_at dksX3_take_0 23 rfl rfl)
theorem dX3_take_24 : decode cX3_take 24 = .ok (.aload_n 0, 1) := dk_42 (dk_at dksX3_take_1 0 rfl rfl)
theorem dX3_take_25 : decode cX3_take 25 = .ok (.getfield 58, 3) := dk_180 0 58 (dk_at dksX3_take_1 1 rfl rfl)
theorem dX3_take_28 : decode cX3_take 28 = .ok (.iload_n 1, 1) := dk_27 (dk_at dksX3_take_1 4 rfl rfl)
theorem dX3_take_29 : decode cX3_take 29 = .ok (.invokevirtual 391, 3) := dk_182 1 135 (dk_at dksX3_take_1 5 rfl rfl)
theorem dX3_take_32 : decode cX3_take 32 = .ok (.ireturn, 1) := dk_172 (dk_at dksX3_take_1 8 rfl rfl)
abbrev cX3_eats : ByteArray := prog_14_method_63_code
def yX3_eats : MethodName := ⟨RX3, "eats", "([II)I"⟩
def dkwX3_eats_5 : List UInt8 := [184, 1, 131, 29, 172]
abbrev dktX3_eats_5 : List UInt8 := dkwX3_eats_5 ++ []
def dkwX3_eats_4 : List UInt8 := [104, 5, 96, 46, 79, 43, 21, 4, 6, 96, 29, 79, 43, 16, 42, 92, 46, 4, 96, 79, 43, 28]
abbrev dktX3_eats_4 : List UInt8 := dkwX3_eats_4 ++ dktX3_eats_5
def dkwX3_eats_3 : List UInt8 := [96, 46, 79, 43, 21, 4, 4, 96, 43, 8, 28, 104, 4, 96, 46, 79, 43, 21, 4, 5, 96, 43, 8, 28]
abbrev dktX3_eats_3 : List UInt8 := dkwX3_eats_3 ++ dktX3_eats_4
def dkwX3_eats_2 : List UInt8 := [28, 182, 1, 94, 62, 16, 43, 7, 43, 16, 42, 46, 104, 96, 54, 4, 43, 21, 4, 43, 8, 28, 104, 3]
abbrev dktX3_eats_2 : List UInt8 := dkwX3_eats_2 ++ dktX3_eats_3
def dkwX3_eats_1 : List UInt8 := [16, 42, 29, 96, 7, 96, 46, 79, 132, 3, 1, 167, 255, 232, 43, 16, 42, 92, 46, 4, 100, 79, 42, 43]
abbrev dktX3_eats_1 : List UInt8 := dkwX3_eats_1 ++ dktX3_eats_2
def dkwX3_eats_0 : List UInt8 := [43, 16, 42, 46, 16, 60, 160, 0, 40, 4, 62, 29, 17, 0, 236, 163, 0, 23, 43, 16, 42, 29, 96, 43]
abbrev dktX3_eats_0 : List UInt8 := dkwX3_eats_0 ++ dktX3_eats_1
theorem dksX3_eats_0 : cX3_eats.data.toList.drop 0 = dktX3_eats_0 := by decide +kernel
theorem dksX3_eats_1 : cX3_eats.data.toList.drop 24 = dktX3_eats_1 := dk_seg dksX3_eats_0 24 rfl rfl
theorem dksX3_eats_2 : cX3_eats.data.toList.drop 48 = dktX3_eats_2 := dk_seg dksX3_eats_1 24 rfl rfl
theorem dksX3_eats_3 : cX3_eats.data.toList.drop 72 = dktX3_eats_3 := dk_seg dksX3_eats_2 24 rfl rfl
theorem dksX3_eats_4 : cX3_eats.data.toList.drop 96 = dktX3_eats_4 := dk_seg dksX3_eats_3 24 rfl rfl
theorem dksX3_eats_5 : cX3_eats.data.toList.drop 118 = dktX3_eats_5 := dk_seg dksX3_eats_4 22 rfl rfl
theorem dX3_eats_0 : decode cX3_eats 0 = .ok (.aload_n 1, 1) := dk_43 (dk_at dksX3_eats_0 0 rfl rfl)
theorem dX3_eats_1 : decode cX3_eats 1 = .ok (.bipush 42, 2) := dk_16 42 (dk_at dksX3_eats_0 1 rfl rfl)
theorem dX3_eats_3 : decode cX3_eats 3 = .ok (.iaload, 1) := dk_46 (dk_at dksX3_eats_0 3 rfl rfl)
theorem dX3_eats_4 : decode cX3_eats 4 = .ok (.bipush 60, 2) := dk_16 60 (dk_at dksX3_eats_0 4 rfl rfl)
theorem dX3_eats_6 : decode cX3_eats 6 = .ok (.if_icmp .ne 40, 3) := dk_160 0 40 (dk_at dksX3_eats_0 6 rfl rfl)
theorem dX3_eats_9 : decode cX3_eats 9 = .ok (.iconst 1, 1) := dk_4 (dk_at dksX3_eats_0 9 rfl rfl)
theorem dX3_eats_10 : decode cX3_eats 10 = .ok (.istore_n 3, 1) := dk_62 (dk_at dksX3_eats_0 10 rfl rfl)
theorem dX3_eats_11 : decode cX3_eats 11 = .ok (.iload_n 3, 1) := dk_29 (dk_at dksX3_eats_0 11 rfl rfl)
theorem dX3_eats_12 : decode cX3_eats 12 = .ok (.sipush 236, 3) := dk_17 0 236 (dk_at dksX3_eats_0 12 rfl rfl)
theorem dX3_eats_15 : decode cX3_eats 15 = .ok (.if_icmp .gt 23, 3) := dk_163 0 23 (dk_at dksX3_eats_0 15 rfl rfl)
theorem dX3_eats_18 : decode cX3_eats 18 = .ok (.aload_n 1, 1) := dk_43 (dk_at dksX3_eats_0 18 rfl rfl)
theorem dX3_eats_19 : decode cX3_eats 19 = .ok (.bipush 42, 2) := dk_16 42 (dk_at dksX3_eats_0 19 rfl rfl)
theorem dX3_eats_21 : decode cX3_eats 21 = .ok (.iload_n 3, 1) := dk_29 (dk_at dksX3_eats_0 21 rfl rfl)
theorem dX3_eats_22 : decode cX3_eats 22 = .ok (.iadd, 1) := dk_96 (dk_at dksX3_eats_0 22 rfl rfl)
theorem dX3_eats_23 : decode cX3_eats 23 = .ok (.aload_n 1, 1) := dk_43 (dk_at dksX3_eats_0 23 rfl rfl)
theorem dX3_eats_24 : decode cX3_eats 24 = .ok (.bipush 42, 2) := dk_16 42 (dk_at dksX3_eats_1 0 rfl rfl)
theorem dX3_eats_26 : decode cX3_eats 26 = .ok (.iload_n 3, 1) := dk_29 (dk_at dksX3_eats_1 2 rfl rfl)
theorem dX3_eats_27 : decode cX3_eats 27 = .ok (.iadd, 1) := dk_96 (dk_at dksX3_eats_1 3 rfl rfl)
theorem dX3_eats_28 : decode cX3_eats 28 = .ok (.iconst 4, 1) := dk_7 (dk_at dksX3_eats_1 4 rfl rfl)
theorem dX3_eats_29 : decode cX3_eats 29 = .ok (.iadd, 1) := dk_96 (dk_at dksX3_eats_1 5 rfl rfl)
theorem dX3_eats_30 : decode cX3_eats 30 = .ok (.iaload, 1) := dk_46 (dk_at dksX3_eats_1 6 rfl rfl)
theorem dX3_eats_31 : decode cX3_eats 31 = .ok (.iastore, 1) := dk_79 (dk_at dksX3_eats_1 7 rfl rfl)
theorem dX3_eats_32 : decode cX3_eats 32 = .ok (.iinc 3 1, 3) := dk_132 3 1 (dk_at dksX3_eats_1 8 rfl rfl)
theorem dX3_eats_35 : decode cX3_eats 35 = .ok (.goto (-24), 3) := dk_167 255 232 (dk_at dksX3_eats_1 11 rfl rfl)
theorem dX3_eats_38 : decode cX3_eats 38 = .ok (.aload_n 1, 1) := dk_43 (dk_at dksX3_eats_1 14 rfl rfl)
theorem dX3_eats_39 : decode cX3_eats 39 = .ok (.bipush 42, 2) := dk_16 42 (dk_at dksX3_eats_1 15 rfl rfl)
theorem dX3_eats_41 : decode cX3_eats 41 = .ok (.dup2, 1) := dk_92 (dk_at dksX3_eats_1 17 rfl rfl)
theorem dX3_eats_42 : decode cX3_eats 42 = .ok (.iaload, 1) := dk_46 (dk_at dksX3_eats_1 18 rfl rfl)
theorem dX3_eats_43 : decode cX3_eats 43 = .ok (.iconst 1, 1) := dk_4 (dk_at dksX3_eats_1 19 rfl rfl)
theorem dX3_eats_44 : decode cX3_eats 44 = .ok (.isub, 1) := dk_100 (dk_at dksX3_eats_1 20 rfl rfl)
theorem dX3_eats_45 : decode cX3_eats 45 = .ok (.iastore, 1) := dk_79 (dk_at dksX3_eats_1 21 rfl rfl)
theorem dX3_eats_46 : decode cX3_eats 46 = .ok (.aload_n 0, 1) := dk_42 (dk_at dksX3_eats_1 22 rfl rfl)
theorem dX3_eats_47 : decode cX3_eats 47 = .ok (.aload_n 1, 1) := dk_43 (dk_at dksX3_eats_1 23 rfl rfl)
theorem dX3_eats_48 : decode cX3_eats 48 = .ok (.iload_n 2, 1) := dk_28 (dk_at dksX3_eats_2 0 rfl rfl)
theorem dX3_eats_49 : decode cX3_eats 49 = .ok (.invokevirtual 350, 3) := dk_182 1 94 (dk_at dksX3_eats_2 1 rfl rfl)
theorem dX3_eats_52 : decode cX3_eats 52 = .ok (.istore_n 3, 1) := dk_62 (dk_at dksX3_eats_2 4 rfl rfl)
theorem dX3_eats_53 : decode cX3_eats 53 = .ok (.bipush 43, 2) := dk_16 43 (dk_at dksX3_eats_2 5 rfl rfl)
theorem dX3_eats_55 : decode cX3_eats 55 = .ok (.iconst 4, 1) := dk_7 (dk_at dksX3_eats_2 7 rfl rfl)
theorem dX3_eats_56 : decode cX3_eats 56 = .ok (.aload_n 1, 1) := dk_43 (dk_at dksX3_eats_2 8 rfl rfl)
theorem dX3_eats_57 : decode cX3_eats 57 = .ok (.bipush 42, 2) := dk_16 42 (dk_at dksX3_eats_2 9 rfl rfl)
theorem dX3_eats_59 : decode cX3_eats 59 = .ok (.iaload, 1) := dk_46 (dk_at dksX3_eats_2 11 rfl rfl)
theorem dX3_eats_60 : decode cX3_eats 60 = .ok (.imul, 1) := dk_104 (dk_at dksX3_eats_2 12 rfl rfl)
theorem dX3_eats_61 : decode cX3_eats 61 = .ok (.iadd, 1) := dk_96 (dk_at dksX3_eats_2 13 rfl rfl)
theorem dX3_eats_62 : decode cX3_eats 62 = .ok (.istore 4, 2) := dk_54 4 (dk_at dksX3_eats_2 14 rfl rfl)
theorem dX3_eats_64 : decode cX3_eats 64 = .ok (.aload_n 1, 1) := dk_43 (dk_at dksX3_eats_2 16 rfl rfl)
theorem dX3_eats_65 : decode cX3_eats 65 = .ok (.iload 4, 2) := dk_21 4 (dk_at dksX3_eats_2 17 rfl rfl)
theorem dX3_eats_67 : decode cX3_eats 67 = .ok (.aload_n 1, 1) := dk_43 (dk_at dksX3_eats_2 19 rfl rfl)
theorem dX3_eats_68 : decode cX3_eats 68 = .ok (.iconst 5, 1) := dk_8 (dk_at dksX3_eats_2 20 rfl rfl)
theorem dX3_eats_69 : decode cX3_eats 69 = .ok (.iload_n 2, 1) := dk_28 (dk_at dksX3_eats_2 21 rfl rfl)
theorem dX3_eats_70 : decode cX3_eats 70 = .ok (.imul, 1) := dk_104 (dk_at dksX3_eats_2 22 rfl rfl)
theorem dX3_eats_71 : decode cX3_eats 71 = .ok (.iconst 0, 1) := dk_3 (dk_at dksX3_eats_2 23 rfl rfl)
theorem dX3_eats_72 : decode cX3_eats 72 = .ok (.iadd, 1) := dk_96 (dk_at dksX3_eats_3 0 rfl rfl)
theorem dX3_eats_73 : decode cX3_eats 73 = .ok (.iaload, 1) := dk_46 (dk_at dksX3_eats_3 1 rfl rfl)
theorem dX3_eats_74 : decode cX3_eats 74 = .ok (.iastore, 1) := dk_79 (dk_at dksX3_eats_3 2 rfl rfl)
theorem dX3_eats_75 : decode cX3_eats 75 = .ok (.aload_n 1, 1) := dk_43 (dk_at dksX3_eats_3 3 rfl rfl)
theorem dX3_eats_76 : decode cX3_eats 76 = .ok (.iload 4, 2) := dk_21 4 (dk_at dksX3_eats_3 4 rfl rfl)
theorem dX3_eats_78 : decode cX3_eats 78 = .ok (.iconst 1, 1) := dk_4 (dk_at dksX3_eats_3 6 rfl rfl)
theorem dX3_eats_79 : decode cX3_eats 79 = .ok (.iadd, 1) := dk_96 (dk_at dksX3_eats_3 7 rfl rfl)
theorem dX3_eats_80 : decode cX3_eats 80 = .ok (.aload_n 1, 1) := dk_43 (dk_at dksX3_eats_3 8 rfl rfl)
theorem dX3_eats_81 : decode cX3_eats 81 = .ok (.iconst 5, 1) := dk_8 (dk_at dksX3_eats_3 9 rfl rfl)
theorem dX3_eats_82 : decode cX3_eats 82 = .ok (.iload_n 2, 1) := dk_28 (dk_at dksX3_eats_3 10 rfl rfl)
theorem dX3_eats_83 : decode cX3_eats 83 = .ok (.imul, 1) := dk_104 (dk_at dksX3_eats_3 11 rfl rfl)
theorem dX3_eats_84 : decode cX3_eats 84 = .ok (.iconst 1, 1) := dk_4 (dk_at dksX3_eats_3 12 rfl rfl)
theorem dX3_eats_85 : decode cX3_eats 85 = .ok (.iadd, 1) := dk_96 (dk_at dksX3_eats_3 13 rfl rfl)
theorem dX3_eats_86 : decode cX3_eats 86 = .ok (.iaload, 1) := dk_46 (dk_at dksX3_eats_3 14 rfl rfl)
theorem dX3_eats_87 : decode cX3_eats 87 = .ok (.iastore, 1) := dk_79 (dk_at dksX3_eats_3 15 rfl rfl)
theorem dX3_eats_88 : decode cX3_eats 88 = .ok (.aload_n 1, 1) := dk_43 (dk_at dksX3_eats_3 16 rfl rfl)
theorem dX3_eats_89 : decode cX3_eats 89 = .ok (.iload 4, 2) := dk_21 4 (dk_at dksX3_eats_3 17 rfl rfl)
theorem dX3_eats_91 : decode cX3_eats 91 = .ok (.iconst 2, 1) := dk_5 (dk_at dksX3_eats_3 19 rfl rfl)
theorem dX3_eats_92 : decode cX3_eats 92 = .ok (.iadd, 1) := dk_96 (dk_at dksX3_eats_3 20 rfl rfl)
theorem dX3_eats_93 : decode cX3_eats 93 = .ok (.aload_n 1, 1) := dk_43 (dk_at dksX3_eats_3 21 rfl rfl)
theorem dX3_eats_94 : decode cX3_eats 94 = .ok (.iconst 5, 1) := dk_8 (dk_at dksX3_eats_3 22 rfl rfl)
theorem dX3_eats_95 : decode cX3_eats 95 = .ok (.iload_n 2, 1) := dk_28 (dk_at dksX3_eats_3 23 rfl rfl)
theorem dX3_eats_96 : decode cX3_eats 96 = .ok (.imul, 1) := dk_104 (dk_at dksX3_eats_4 0 rfl rfl)
theorem dX3_eats_97 : decode cX3_eats 97 = .ok (.iconst 2, 1) := dk_5 (dk_at dksX3_eats_4 1 rfl rfl)
theorem dX3_eats_98 : decode cX3_eats 98 = .ok (.iadd, 1) := dk_96 (dk_at dksX3_eats_4 2 rfl rfl)
theorem dX3_eats_99 : decode cX3_eats 99 = .ok (.iaload, 1) := dk_46 (dk_at dksX3_eats_4 3 rfl rfl)
theorem dX3_eats_100 : decode cX3_eats 100 = .ok (.iastore, 1) := dk_79 (dk_at dksX3_eats_4 4 rfl rfl)
theorem dX3_eats_101 : decode cX3_eats 101 = .ok (.aload_n 1, 1) := dk_43 (dk_at dksX3_eats_4 5 rfl rfl)
theorem dX3_eats_102 : decode cX3_eats 102 = .ok (.iload 4, 2) := dk_21 4 (dk_at dksX3_eats_4 6 rfl rfl)
theorem dX3_eats_104 : decode cX3_eats 104 = .ok (.iconst 3, 1) := dk_6 (dk_at dksX3_eats_4 8 rfl rfl)
theorem dX3_eats_105 : decode cX3_eats 105 = .ok (.iadd, 1) := dk_96 (dk_at dksX3_eats_4 9 rfl rfl)
theorem dX3_eats_106 : decode cX3_eats 106 = .ok (.iload_n 3, 1) := dk_29 (dk_at dksX3_eats_4 10 rfl rfl)
theorem dX3_eats_107 : decode cX3_eats 107 = .ok (.iastore, 1) := dk_79 (dk_at dksX3_eats_4 11 rfl rfl)
theorem dX3_eats_108 : decode cX3_eats 108 = .ok (.aload_n 1, 1) := dk_43 (dk_at dksX3_eats_4 12 rfl rfl)
theorem dX3_eats_109 : decode cX3_eats 109 = .ok (.bipush 42, 2) := dk_16 42 (dk_at dksX3_eats_4 13 rfl rfl)
theorem dX3_eats_111 : decode cX3_eats 111 = .ok (.dup2, 1) := dk_92 (dk_at dksX3_eats_4 15 rfl rfl)
theorem dX3_eats_112 : decode cX3_eats 112 = .ok (.iaload, 1) := dk_46 (dk_at dksX3_eats_4 16 rfl rfl)
theorem dX3_eats_113 : decode cX3_eats 113 = .ok (.iconst 1, 1) := dk_4 (dk_at dksX3_eats_4 17 rfl rfl)
theorem dX3_eats_114 : decode cX3_eats 114 = .ok (.iadd, 1) := dk_96 (dk_at dksX3_eats_4 18 rfl rfl)
theorem dX3_eats_115 : decode cX3_eats 115 = .ok (.iastore, 1) := dk_79 (dk_at dksX3_eats_4 19 rfl rfl)
theorem dX3_eats_116 : decode cX3_eats 116 = .ok (.aload_n 1, 1) := dk_43 (dk_at dksX3_eats_4 20 rfl rfl)
theorem dX3_eats_117 : decode cX3_eats 117 = .ok (.iload_n 2, 1) := dk_28 (dk_at dksX3_eats_4 21 rfl rfl)
theorem dX3_eats_118 : decode cX3_eats 118 = .ok (.invokestatic 387, 3) := dk_184 1 131 (dk_at dksX3_eats_5 0 rfl rfl)
theorem dX3_eats_121 : decode cX3_eats 121 = .ok (.iload_n 3, 1) := dk_29 (dk_at dksX3_eats_5 3 rfl rfl)
theorem dX3_eats_122 : decode cX3_eats 122 = .ok (.ireturn, 1) := dk_172 (dk_at dksX3_eats_5 4 rfl rfl)
abbrev cX3_drops : ByteArray := prog_14_method_62_code
def yX3_drops : MethodName := ⟨RX3, "drops", "([II)V"⟩
def dkwX3_drops_2 : List UInt8 := [162, 0, 13, 42, 28, 3, 79, 132, 2, 1, 167, 255, 239, 42, 16, 40, 92, 46, 4, 100, 79, 177]
abbrev dktX3_drops_2 : List UInt8 := dkwX3_drops_2 ++ []
def dkwX3_drops_1 : List UInt8 := [132, 2, 1, 167, 255, 233, 8, 42, 16, 40, 46, 4, 100, 104, 61, 28, 8, 42, 16, 40, 46, 104]
abbrev dktX3_drops_1 : List UInt8 := dkwX3_drops_1 ++ dktX3_drops_2
def dkwX3_drops_0 : List UInt8 := [8, 27, 104, 61, 28, 8, 42, 16, 40, 46, 4, 100, 104, 162, 0, 17, 42, 28, 42, 28, 8, 96, 46, 79]
abbrev dktX3_drops_0 : List UInt8 := dkwX3_drops_0 ++ dktX3_drops_1
theorem dksX3_drops_0 : cX3_drops.data.toList.drop 0 = dktX3_drops_0 := by decide +kernel
theorem dksX3_drops_1 : cX3_drops.data.toList.drop 24 = dktX3_drops_1 := dk_seg dksX3_drops_0 24 rfl rfl
theorem dksX3_drops_2 : cX3_drops.data.toList.drop 46 = dktX3_drops_2 := dk_seg dksX3_drops_1 22 rfl rfl
theorem dX3_drops_0 : decode cX3_drops 0 = .ok (.iconst 5, 1) := dk_8 (dk_at dksX3_drops_0 0 rfl rfl)
theorem dX3_drops_1 : decode cX3_drops 1 = .ok (.iload_n 1, 1) := dk_27 (dk_at dksX3_drops_0 1 rfl rfl)
theorem dX3_drops_2 : decode cX3_drops 2 = .ok (.imul, 1) := dk_104 (dk_at dksX3_drops_0 2 rfl rfl)
theorem dX3_drops_3 : decode cX3_drops 3 = .ok (.istore_n 2, 1) := dk_61 (dk_at dksX3_drops_0 3 rfl rfl)
theorem dX3_drops_4 : decode cX3_drops 4 = .ok (.iload_n 2, 1) := dk_28 (dk_at dksX3_drops_0 4 rfl rfl)
theorem dX3_drops_5 : decode cX3_drops 5 = .ok (.iconst 5, 1) := dk_8 (dk_at dksX3_drops_0 5 rfl rfl)
theorem dX3_drops_6 : decode cX3_drops 6 = .ok (.aload_n 0, 1) := dk_42 (dk_at dksX3_drops_0 6 rfl rfl)
theorem dX3_drops_7 : decode cX3_drops 7 = .ok (.bipush 40, 2) := dk_16 40 (dk_at dksX3_drops_0 7 rfl rfl)
theorem dX3_drops_9 : decode cX3_drops 9 = .ok (.iaload, 1) := dk_46 (dk_at dksX3_drops_0 9 rfl rfl)
theorem dX3_drops_10 : decode cX3_drops 10 = .ok (.iconst 1, 1) := dk_4 (dk_at dksX3_drops_0 10 rfl rfl)
theorem dX3_drops_11 : decode cX3_drops 11 = .ok (.isub, 1) := dk_100 (dk_at dksX3_drops_0 11 rfl rfl)
theorem dX3_drops_12 : decode cX3_drops 12 = .ok (.imul, 1) := dk_104 (dk_at dksX3_drops_0 12 rfl rfl)
theorem dX3_drops_13 : decode cX3_drops 13 = .ok (.if_icmp .ge 17, 3) := dk_162 0 17 (dk_at dksX3_drops_0 13 rfl rfl)
theorem dX3_drops_16 : decode cX3_drops 16 = .ok (.aload_n 0, 1) := dk_42 (dk_at dksX3_drops_0 16 rfl rfl)
theorem dX3_drops_17 : decode cX3_drops 17 = .ok (.iload_n 2, 1) := dk_28 (dk_at dksX3_drops_0 17 rfl rfl)
theorem dX3_drops_18 : decode cX3_drops 18 = .ok (.aload_n 0, 1) := dk_42 (dk_at dksX3_drops_0 18 rfl rfl)
theorem dX3_drops_19 : decode cX3_drops 19 = .ok (.iload_n 2, 1) := dk_28 (dk_at dksX3_drops_0 19 rfl rfl)
theorem dX3_drops_20 : decode cX3_drops 20 = .ok (.iconst 5, 1) := dk_8 (dk_at dksX3_drops_0 20 rfl rfl)
theorem dX3_drops_21 : decode cX3_drops 21 = .ok (.iadd, 1) := dk_96 (dk_at dksX3_drops_0 21 rfl rfl)
theorem dX3_drops_22 : decode cX3_drops 22 = .ok (.iaload, 1) := dk_46 (dk_at dksX3_drops_0 22 rfl rfl)
theorem dX3_drops_23 : decode cX3_drops 23 = .ok (.iastore, 1) := dk_79 (dk_at dksX3_drops_0 23 rfl rfl)
theorem dX3_drops_24 : decode cX3_drops 24 = .ok (.iinc 2 1, 3) := dk_132 2 1 (dk_at dksX3_drops_1 0 rfl rfl)
theorem dX3_drops_27 : decode cX3_drops 27 = .ok (.goto (-23), 3) := dk_167 255 233 (dk_at dksX3_drops_1 3 rfl rfl)
theorem dX3_drops_30 : decode cX3_drops 30 = .ok (.iconst 5, 1) := dk_8 (dk_at dksX3_drops_1 6 rfl rfl)
theorem dX3_drops_31 : decode cX3_drops 31 = .ok (.aload_n 0, 1) := dk_42 (dk_at dksX3_drops_1 7 rfl rfl)
theorem dX3_drops_32 : decode cX3_drops 32 = .ok (.bipush 40, 2) := dk_16 40 (dk_at dksX3_drops_1 8 rfl rfl)
theorem dX3_drops_34 : decode cX3_drops 34 = .ok (.iaload, 1) := dk_46 (dk_at dksX3_drops_1 10 rfl rfl)
theorem dX3_drops_35 : decode cX3_drops 35 = .ok (.iconst 1, 1) := dk_4 (dk_at dksX3_drops_1 11 rfl rfl)
theorem dX3_drops_36 : decode cX3_drops 36 = .ok (.isub, 1) := dk_100 (dk_at dksX3_drops_1 12 rfl rfl)
theorem dX3_drops_37 : decode cX3_drops 37 = .ok (.imul, 1) := dk_104 (dk_at dksX3_drops_1 13 rfl rfl)
theorem dX3_drops_38 : decode cX3_drops 38 = .ok (.istore_n 2, 1) := dk_61 (dk_at dksX3_drops_1 14 rfl rfl)
theorem dX3_drops_39 : decode cX3_drops 39 = .ok (.iload_n 2, 1) := dk_28 (dk_at dksX3_drops_1 15 rfl rfl)
theorem dX3_drops_40 : decode cX3_drops 40 = .ok (.iconst 5, 1) := dk_8 (dk_at dksX3_drops_1 16 rfl rfl)
theorem dX3_drops_41 : decode cX3_drops 41 = .ok (.aload_n 0, 1) := dk_42 (dk_at dksX3_drops_1 17 rfl rfl)
theorem dX3_drops_42 : decode cX3_drops 42 = .ok (.bipush 40, 2) := dk_16 40 (dk_at dksX3_drops_1 18 rfl rfl)
theorem dX3_drops_44 : decode cX3_drops 44 = .ok (.iaload, 1) := dk_46 (dk_at dksX3_drops_1 20 rfl rfl)
theorem dX3_drops_45 : decode cX3_drops 45 = .ok (.imul, 1) := dk_104 (dk_at dksX3_drops_1 21 rfl rfl)
theorem dX3_drops_46 : decode cX3_drops 46 = .ok (.if_icmp .ge 13, 3) := dk_162 0 13 (dk_at dksX3_drops_2 0 rfl rfl)
theorem dX3_drops_49 : decode cX3_drops 49 = .ok (.aload_n 0, 1) := dk_42 (dk_at dksX3_drops_2 3 rfl rfl)
theorem dX3_drops_50 : decode cX3_drops 50 = .ok (.iload_n 2, 1) := dk_28 (dk_at dksX3_drops_2 4 rfl rfl)
theorem dX3_drops_51 : decode cX3_drops 51 = .ok (.iconst 0, 1) := dk_3 (dk_at dksX3_drops_2 5 rfl rfl)
theorem dX3_drops_52 : decode cX3_drops 52 = .ok (.iastore, 1) := dk_79 (dk_at dksX3_drops_2 6 rfl rfl)
theorem dX3_drops_53 : decode cX3_drops 53 = .ok (.iinc 2 1, 3) := dk_132 2 1 (dk_at dksX3_drops_2 7 rfl rfl)
theorem dX3_drops_56 : decode cX3_drops 56 = .ok (.goto (-17), 3) := dk_167 255 239 (dk_at dksX3_drops_2 10 rfl rfl)
theorem dX3_drops_59 : decode cX3_drops 59 = .ok (.aload_n 0, 1) := dk_42 (dk_at dksX3_drops_2 13 rfl rfl)
theorem dX3_drops_60 : decode cX3_drops 60 = .ok (.bipush 40, 2) := dk_16 40 (dk_at dksX3_drops_2 14 rfl rfl)
theorem dX3_drops_62 : decode cX3_drops 62 = .ok (.dup2, 1) := dk_92 (dk_at dksX3_drops_2 16 rfl rfl)
theorem dX3_drops_63 : decode cX3_drops 63 = .ok (.iaload, 1) := dk_46 (dk_at dksX3_drops_2 17 rfl rfl)
theorem dX3_drops_64 : decode cX3_drops 64 = .ok (.iconst 1, 1) := dk_4 (dk_at dksX3_drops_2 18 rfl rfl)
theorem dX3_drops_65 : decode cX3_drops 65 = .ok (.isub, 1) := dk_100 (dk_at dksX3_drops_2 19 rfl rfl)
theorem dX3_drops_66 : decode cX3_drops 66 = .ok (.iastore, 1) := dk_79 (dk_at dksX3_drops_2 20 rfl rfl)
theorem dX3_drops_67 : decode cX3_drops 67 = .ok (.return_, 1) := dk_177 (dk_at dksX3_drops_2 21 rfl rfl)
abbrev cX3_label : ByteArray := prog_14_method_67_code
def yX3_label : MethodName := ⟨RX3, "label", "(I)Z"⟩
def dkwX3_label_1 : List UInt8 := [180, 0, 58, 27, 184, 1, 141, 4, 172]
abbrev dktX3_label_1 : List UInt8 := dkwX3_label_1 ++ []
def dkwX3_label_0 : List UInt8 := [42, 3, 181, 0, 109, 42, 42, 180, 0, 58, 27, 182, 1, 138, 154, 0, 5, 3, 172, 42, 182, 1, 124, 42]
abbrev dktX3_label_0 : List UInt8 := dkwX3_label_0 ++ dktX3_label_1
theorem dksX3_label_0 : cX3_label.data.toList.drop 0 = dktX3_label_0 := by decide +kernel
theorem dksX3_label_1 : cX3_label.data.toList.drop 24 = dktX3_label_1 := dk_seg dksX3_label_0 24 rfl rfl
theorem dX3_label_0 : decode cX3_label 0 = .ok (.aload_n 0, 1) := dk_42 (dk_at dksX3_label_0 0 rfl rfl)
theorem dX3_label_1 : decode cX3_label 1 = .ok (.iconst 0, 1) := dk_3 (dk_at dksX3_label_0 1 rfl rfl)
theorem dX3_label_2 : decode cX3_label 2 = .ok (.putfield 109, 3) := dk_181 0 109 (dk_at dksX3_label_0 2 rfl rfl)
theorem dX3_label_5 : decode cX3_label 5 = .ok (.aload_n 0, 1) := dk_42 (dk_at dksX3_label_0 5 rfl rfl)
theorem dX3_label_6 : decode cX3_label 6 = .ok (.aload_n 0, 1) := dk_42 (dk_at dksX3_label_0 6 rfl rfl)
theorem dX3_label_7 : decode cX3_label 7 = .ok (.getfield 58, 3) := dk_180 0 58 (dk_at dksX3_label_0 7 rfl rfl)
theorem dX3_label_10 : decode cX3_label 10 = .ok (.iload_n 1, 1) := dk_27 (dk_at dksX3_label_0 10 rfl rfl)
theorem dX3_label_11 : decode cX3_label 11 = .ok (.invokevirtual 394, 3) := dk_182 1 138 (dk_at dksX3_label_0 11 rfl rfl)
theorem dX3_label_14 : decode cX3_label 14 = .ok (.ifCond .ne 5, 3) := dk_154 0 5 (dk_at dksX3_label_0 14 rfl rfl)
theorem dX3_label_17 : decode cX3_label 17 = .ok (.iconst 0, 1) := dk_3 (dk_at dksX3_label_0 17 rfl rfl)
theorem dX3_label_18 : decode cX3_label 18 = .ok (.ireturn, 1) := dk_172 (dk_at dksX3_label_0 18 rfl rfl)
theorem dX3_label_19 : decode cX3_label 19 = .ok (.aload_n 0, 1) := dk_42 (dk_at dksX3_label_0 19 rfl rfl)
theorem dX3_label_20 : decode cX3_label 20 = .ok (.invokevirtual 380, 3) := dk_182 1 124 (dk_at dksX3_label_0 20 rfl rfl)
theorem dX3_label_23 : decode cX3_label 23 = .ok (.aload_n 0, 1) := dk_42 (dk_at dksX3_label_0 23 rfl rfl)
theorem dX3_label_24 : decode cX3_label 24 = .ok (.getfield 58, 3) := dk_180 0 58 (dk_at dksX3_label_1 0 rfl rfl)
theorem dX3_label_27 : decode cX3_label 27 = .ok (.iload_n 1, 1) := dk_27 (dk_at dksX3_label_1 3 rfl rfl)
theorem dX3_label_28 : decode cX3_label 28 = .ok (.invokestatic 397, 3) := dk_184 1 141 (dk_at dksX3_label_1 4 rfl rfl)
theorem dX3_label_31 : decode cX3_label 31 = .ok (.iconst 1, 1) := dk_4 (dk_at dksX3_label_1 7 rfl rfl)
theorem dX3_label_32 : decode cX3_label 32 = .ok (.ireturn, 1) := dk_172 (dk_at dksX3_label_1 8 rfl rfl)
abbrev cX3_canLabel : ByteArray := prog_14_method_65_code
def yX3_canLabel : MethodName := ⟨RX3, "canLabel", "([II)Z"⟩
def dkwX3_canLabel_1 : List UInt8 := [172]
abbrev dktX3_canLabel_1 : List UInt8 := dkwX3_canLabel_1 ++ []
def dkwX3_canLabel_0 : List UInt8 := [42, 43, 28, 182, 1, 105, 153, 0, 17, 43, 8, 28, 104, 6, 96, 46, 154, 0, 7, 4, 167, 0, 4, 3]
abbrev dktX3_canLabel_0 : List UInt8 := dkwX3_canLabel_0 ++ dktX3_canLabel_1
theorem dksX3_canLabel_0 : cX3_canLabel.data.toList.drop 0 = dktX3_canLabel_0 := by decide +kernel
theorem dksX3_canLabel_1 : cX3_canLabel.data.toList.drop 24 = dktX3_canLabel_1 := dk_seg dksX3_canLabel_0 24 rfl rfl
theorem dX3_canLabel_0 : decode cX3_canLabel 0 = .ok (.aload_n 0, 1) := dk_42 (dk_at dksX3_canLabel_0 0 rfl rfl)
theorem dX3_canLabel_1 : decode cX3_canLabel 1 = .ok (.aload_n 1, 1) := dk_43 (dk_at dksX3_canLabel_0 1 rfl rfl)
theorem dX3_canLabel_2 : decode cX3_canLabel 2 = .ok (.iload_n 2, 1) := dk_28 (dk_at dksX3_canLabel_0 2 rfl rfl)
theorem dX3_canLabel_3 : decode cX3_canLabel 3 = .ok (.invokevirtual 361, 3) := dk_182 1 105 (dk_at dksX3_canLabel_0 3 rfl rfl)
theorem dX3_canLabel_6 : decode cX3_canLabel 6 = .ok (.ifCond .eq 17, 3) := dk_153 0 17 (dk_at dksX3_canLabel_0 6 rfl rfl)
theorem dX3_canLabel_9 : decode cX3_canLabel 9 = .ok (.aload_n 1, 1) := dk_43 (dk_at dksX3_canLabel_0 9 rfl rfl)
theorem dX3_canLabel_10 : decode cX3_canLabel 10 = .ok (.iconst 5, 1) := dk_8 (dk_at dksX3_canLabel_0 10 rfl rfl)
theorem dX3_canLabel_11 : decode cX3_canLabel 11 = .ok (.iload_n 2, 1) := dk_28 (dk_at dksX3_canLabel_0 11 rfl rfl)
theorem dX3_canLabel_12 : decode cX3_canLabel 12 = .ok (.imul, 1) := dk_104 (dk_at dksX3_canLabel_0 12 rfl rfl)
theorem dX3_canLabel_13 : decode cX3_canLabel 13 = .ok (.iconst 3, 1) := dk_6 (dk_at dksX3_canLabel_0 13 rfl rfl)
theorem dX3_canLabel_14 : decode cX3_canLabel 14 = .ok (.iadd, 1) := dk_96 (dk_at dksX3_canLabel_0 14 rfl rfl)
theorem dX3_canLabel_15 : decode cX3_canLabel 15 = .ok (.iaload, 1) := dk_46 (dk_at dksX3_canLabel_0 15 rfl rfl)
theorem dX3_canLabel_16 : decode cX3_canLabel 16 = .ok (.ifCond .ne 7, 3) := dk_154 0 7 (dk_at dksX3_canLabel_0 16 rfl rfl)
theorem dX3_canLabel_19 : decode cX3_canLabel 19 = .ok (.iconst 1, 1) := dk_4 (dk_at dksX3_canLabel_0 19 rfl rfl)
theorem dX3_canLabel_20 : decode cX3_canLabel 20 = .ok (.goto 4, 3) := dk_167 0 4 (dk_at dksX3_canLabel_0 20 rfl rfl)
theorem dX3_canLabel_23 : decode cX3_canLabel 23 = .ok (.iconst 0, 1) := dk_3 (dk_at dksX3_canLabel_0 23 rfl rfl)
theorem dX3_canLabel_24 : decode cX3_canLabel 24 = .ok (.ireturn, 1) := dk_172 (dk_at dksX3_canLabel_1 0 rfl rfl)
abbrev cX3_names : ByteArray := prog_14_method_66_code
def yX3_names : MethodName := ⟨RX3, "names", "([II)V"⟩
def dkwX3_names_0 : List UInt8 := [42, 8, 27, 104, 6, 96, 4, 79, 42, 8, 27, 104, 7, 96, 42, 16, 41, 46, 79, 177]
abbrev dktX3_names_0 : List UInt8 := dkwX3_names_0 ++ []
theorem dksX3_names_0 : cX3_names.data.toList.drop 0 = dktX3_names_0 := by decide +kernel
theorem dX3_names_0 : decode cX3_names 0 = .ok (.aload_n 0, 1) := dk_42 (dk_at dksX3_names_0 0 rfl rfl)
theorem dX3_names_1 : decode cX3_names 1 = .ok (.iconst 5, 1) := dk_8 (dk_at dksX3_names_0 1 rfl rfl)
theorem dX3_names_2 : decode cX3_names 2 = .ok (.iload_n 1, 1) := dk_27 (dk_at dksX3_names_0 2 rfl rfl)
theorem dX3_names_3 : decode cX3_names 3 = .ok (.imul, 1) := dk_104 (dk_at dksX3_names_0 3 rfl rfl)
theorem dX3_names_4 : decode cX3_names 4 = .ok (.iconst 3, 1) := dk_6 (dk_at dksX3_names_0 4 rfl rfl)
theorem dX3_names_5 : decode cX3_names 5 = .ok (.iadd, 1) := dk_96 (dk_at dksX3_names_0 5 rfl rfl)
theorem dX3_names_6 : decode cX3_names 6 = .ok (.iconst 1, 1) := dk_4 (dk_at dksX3_names_0 6 rfl rfl)
theorem dX3_names_7 : decode cX3_names 7 = .ok (.iastore, 1) := dk_79 (dk_at dksX3_names_0 7 rfl rfl)
theorem dX3_names_8 : decode cX3_names 8 = .ok (.aload_n 0, 1) := dk_42 (dk_at dksX3_names_0 8 rfl rfl)
theorem dX3_names_9 : decode cX3_names 9 = .ok (.iconst 5, 1) := dk_8 (dk_at dksX3_names_0 9 rfl rfl)
theorem dX3_names_10 : decode cX3_names 10 = .ok (.iload_n 1, 1) := dk_27 (dk_at dksX3_names_0 10 rfl rfl)
theorem dX3_names_11 : decode cX3_names 11 = .ok (.imul, 1) := dk_104 (dk_at dksX3_names_0 11 rfl rfl)
theorem dX3_names_12 : decode cX3_names 12 = .ok (.iconst 4, 1) := dk_7 (dk_at dksX3_names_0 12 rfl rfl)
theorem dX3_names_13 : decode cX3_names 13 = .ok (.iadd, 1) := dk_96 (dk_at dksX3_names_0 13 rfl rfl)
theorem dX3_names_14 : decode cX3_names 14 = .ok (.aload_n 0, 1) := dk_42 (dk_at dksX3_names_0 14 rfl rfl)
theorem dX3_names_15 : decode cX3_names 15 = .ok (.bipush 41, 2) := dk_16 41 (dk_at dksX3_names_0 15 rfl rfl)
theorem dX3_names_17 : decode cX3_names 17 = .ok (.iaload, 1) := dk_46 (dk_at dksX3_names_0 17 rfl rfl)
theorem dX3_names_18 : decode cX3_names 18 = .ok (.iastore, 1) := dk_79 (dk_at dksX3_names_0 18 rfl rfl)
theorem dX3_names_19 : decode cX3_names 19 = .ok (.return_, 1) := dk_177 (dk_at dksX3_names_0 19 rfl rfl)
abbrev cX3_months : ByteArray := prog_14_method_71_code
def yX3_months : MethodName := ⟨RX3, "months", "(I)I"⟩
def dkwX3_months_2 : List UInt8 := [180, 0, 58, 16, 41, 46, 172]
abbrev dktX3_months_2 : List UInt8 := dkwX3_months_2 ++ []
def dkwX3_months_1 : List UInt8 := [27, 162, 0, 21, 42, 182, 1, 124, 42, 42, 180, 0, 58, 182, 1, 150, 132, 2, 1, 167, 255, 236, 42]
abbrev dktX3_months_1 : List UInt8 := dkwX3_months_1 ++ dktX3_months_2
def dkwX3_months_0 : List UInt8 := [42, 3, 181, 0, 109, 42, 42, 180, 0, 58, 27, 16, 60, 182, 1, 147, 154, 0, 5, 2, 172, 3, 61, 28]
abbrev dktX3_months_0 : List UInt8 := dkwX3_months_0 ++ dktX3_months_1
theorem dksX3_months_0 : cX3_months.data.toList.drop 0 = dktX3_months_0 := by decide +kernel
theorem dksX3_months_1 : cX3_months.data.toList.drop 24 = dktX3_months_1 := dk_seg dksX3_months_0 24 rfl rfl
theorem dksX3_months_2 : cX3_months.data.toList.drop 47 = dktX3_months_2 := dk_seg dksX3_months_1 23 rfl rfl
theorem dX3_months_0 : decode cX3_months 0 = .ok (.aload_n 0, 1) := dk_42 (dk_at dksX3_months_0 0 rfl rfl)
theorem dX3_months_1 : decode cX3_months 1 = .ok (.iconst 0, 1) := dk_3 (dk_at dksX3_months_0 1 rfl rfl)
theorem dX3_months_2 : decode cX3_months 2 = .ok (.putfield 109, 3) := dk_181 0 109 (dk_at dksX3_months_0 2 rfl rfl)
theorem dX3_months_5 : decode cX3_months 5 = .ok (.aload_n 0, 1) := dk_42 (dk_at dksX3_months_0 5 rfl rfl)
theorem dX3_months_6 : decode cX3_months 6 = .ok (.aload_n 0, 1) := dk_42 (dk_at dksX3_months_0 6 rfl rfl)
theorem dX3_months_7 : decode cX3_months 7 = .ok (.getfield 58, 3) := dk_180 0 58 (dk_at dksX3_months_0 7 rfl rfl)
theorem dX3_months_10 : decode cX3_months 10 = .ok (.iload_n 1, 1) := dk_27 (dk_at dksX3_months_0 10 rfl rfl)
theorem dX3_months_11 : decode cX3_months 11 = .ok (.bipush 60, 2) := dk_16 60 (dk_at dksX3_months_0 11 rfl rfl)
theorem dX3_months_13 : decode cX3_months 13 = .ok (.invokevirtual 403, 3) := dk_182 1 147 (dk_at dksX3_months_0 13 rfl rfl)
theorem dX3_months_16 : decode cX3_months 16 = .ok (.ifCond .ne 5, 3) := dk_154 0 5 (dk_at dksX3_months_0 16 rfl rfl)
theorem dX3_months_19 : decode cX3_months 19 = .ok (.iconst (-1), 1) := dk_2 (dk_at dksX3_months_0 19 rfl rfl)
theorem dX3_months_20 : decode cX3_months 20 = .ok (.ireturn, 1) := dk_172 (dk_at dksX3_months_0 20 rfl rfl)
theorem dX3_months_21 : decode cX3_months 21 = .ok (.iconst 0, 1) := dk_3 (dk_at dksX3_months_0 21 rfl rfl)
theorem dX3_months_22 : decode cX3_months 22 = .ok (.istore_n 2, 1) := dk_61 (dk_at dksX3_months_0 22 rfl rfl)
theorem dX3_months_23 : decode cX3_months 23 = .ok (.iload_n 2, 1) := dk_28 (dk_at dksX3_months_0 23 rfl rfl)
theorem dX3_months_24 : decode cX3_months 24 = .ok (.iload_n 1, 1) := dk_27 (dk_at dksX3_months_1 0 rfl rfl)
theorem dX3_months_25 : decode cX3_months 25 = .ok (.if_icmp .ge 21, 3) := dk_162 0 21 (dk_at dksX3_months_1 1 rfl rfl)
theorem dX3_months_28 : decode cX3_months 28 = .ok (.aload_n 0, 1) := dk_42 (dk_at dksX3_months_1 4 rfl rfl)
theorem dX3_months_29 : decode cX3_months 29 = .ok (.invokevirtual 380, 3) := dk_182 1 124 (dk_at dksX3_months_1 5 rfl rfl)
theorem dX3_months_32 : decode cX3_months 32 = .ok (.aload_n 0, 1) := dk_42 (dk_at dksX3_months_1 8 rfl rfl)
theorem dX3_months_33 : decode cX3_months 33 = .ok (.aload_n 0, 1) := dk_42 (dk_at dksX3_months_1 9 rfl rfl)
theorem dX3_months_34 : decode cX3_months 34 = .ok (.getfield 58, 3) := dk_180 0 58 (dk_at dksX3_months_1 10 rfl rfl)
theorem dX3_months_37 : decode cX3_months 37 = .ok (.invokevirtual 406, 3) := dk_182 1 150 (dk_at dksX3_months_1 13 rfl rfl)
theorem dX3_months_40 : decode cX3_months 40 = .ok (.iinc 2 1, 3) := dk_132 2 1 (dk_at dksX3_months_1 16 rfl rfl)
theorem dX3_months_43 : decode cX3_months 43 = .ok (.goto (-20), 3) := dk_167 255 236 (dk_at dksX3_months_1 19 rfl rfl)
theorem dX3_months_46 : decode cX3_months 46 = .ok (.aload_n 0, 1) := dk_42 (dk_at dksX3_months_1 22 rfl rfl)
theorem dX3_months_47 : decode cX3_months 47 = .ok (.getfield 58, 3) := dk_180 0 58 (dk_at dksX3_months_2 0 rfl rfl)
theorem dX3_months_50 : decode cX3_months 50 = .ok (.bipush 41, 2) := dk_16 41 (dk_at dksX3_months_2 3 rfl rfl)
theorem dX3_months_52 : decode cX3_months 52 = .ok (.iaload, 1) := dk_46 (dk_at dksX3_months_2 5 rfl rfl)
theorem dX3_months_53 : decode cX3_months 53 = .ok (.ireturn, 1) := dk_172 (dk_at dksX3_months_2 6 rfl rfl)
abbrev cX3_mayPass : ByteArray := prog_14_method_70_code
def yX3_mayPass : MethodName := ⟨RX3, "mayPass", "([III)Z"⟩
def dkwX3_mayPass_1 : List UInt8 := [17, 3, 231, 163, 0, 7, 4, 167, 0, 4, 3, 172]
abbrev dktX3_mayPass_1 : List UInt8 := dkwX3_mayPass_1 ++ []
def dkwX3_mayPass_0 : List UInt8 := [42, 180, 1, 51, 158, 0, 30, 28, 133, 10, 29, 133, 184, 0, 230, 153, 0, 19, 43, 16, 41, 46, 28, 96]
abbrev dktX3_mayPass_0 : List UInt8 := dkwX3_mayPass_0 ++ dktX3_mayPass_1
theorem dksX3_mayPass_0 : cX3_mayPass.data.toList.drop 0 = dktX3_mayPass_0 := by decide +kernel
theorem dksX3_mayPass_1 : cX3_mayPass.data.toList.drop 24 = dktX3_mayPass_1 := dk_seg dksX3_mayPass_0 24 rfl rfl
theorem dX3_mayPass_0 : decode cX3_mayPass 0 = .ok (.aload_n 0, 1) := dk_42 (dk_at dksX3_mayPass_0 0 rfl rfl)
theorem dX3_mayPass_1 : decode cX3_mayPass 1 = .ok (.getfield 307, 3) := dk_180 1 51 (dk_at dksX3_mayPass_0 1 rfl rfl)
theorem dX3_mayPass_4 : decode cX3_mayPass 4 = .ok (.ifCond .le 30, 3) := dk_158 0 30 (dk_at dksX3_mayPass_0 4 rfl rfl)
theorem dX3_mayPass_7 : decode cX3_mayPass 7 = .ok (.iload_n 2, 1) := dk_28 (dk_at dksX3_mayPass_0 7 rfl rfl)
theorem dX3_mayPass_8 : decode cX3_mayPass 8 = .ok (.i2l, 1) := dk_133 (dk_at dksX3_mayPass_0 8 rfl rfl)
theorem dX3_mayPass_9 : decode cX3_mayPass 9 = .ok (.lconst 1, 1) := dk_10 (dk_at dksX3_mayPass_0 9 rfl rfl)
theorem dX3_mayPass_10 : decode cX3_mayPass 10 = .ok (.iload_n 3, 1) := dk_29 (dk_at dksX3_mayPass_0 10 rfl rfl)
theorem dX3_mayPass_11 : decode cX3_mayPass 11 = .ok (.i2l, 1) := dk_133 (dk_at dksX3_mayPass_0 11 rfl rfl)
theorem dX3_mayPass_12 : decode cX3_mayPass 12 = .ok (.invokestatic 230, 3) := dk_184 0 230 (dk_at dksX3_mayPass_0 12 rfl rfl)
theorem dX3_mayPass_15 : decode cX3_mayPass 15 = .ok (.ifCond .eq 19, 3) := dk_153 0 19 (dk_at dksX3_mayPass_0 15 rfl rfl)
theorem dX3_mayPass_18 : decode cX3_mayPass 18 = .ok (.aload_n 1, 1) := dk_43 (dk_at dksX3_mayPass_0 18 rfl rfl)
theorem dX3_mayPass_19 : decode cX3_mayPass 19 = .ok (.bipush 41, 2) := dk_16 41 (dk_at dksX3_mayPass_0 19 rfl rfl)
theorem dX3_mayPass_21 : decode cX3_mayPass 21 = .ok (.iaload, 1) := dk_46 (dk_at dksX3_mayPass_0 21 rfl rfl)
theorem dX3_mayPass_22 : decode cX3_mayPass 22 = .ok (.iload_n 2, 1) := dk_28 (dk_at dksX3_mayPass_0 22 rfl rfl)
theorem dX3_mayPass_23 : decode cX3_mayPass 23 = .ok (.iadd, 1) := dk_96 (dk_at dksX3_mayPass_0 23 rfl rfl)
theorem dX3_mayPass_24 : decode cX3_mayPass 24 = .ok (.sipush 999, 3) := dk_17 3 231 (dk_at dksX3_mayPass_1 0 rfl rfl)
theorem dX3_mayPass_27 : decode cX3_mayPass 27 = .ok (.if_icmp .gt 7, 3) := dk_163 0 7 (dk_at dksX3_mayPass_1 3 rfl rfl)
theorem dX3_mayPass_30 : decode cX3_mayPass 30 = .ok (.iconst 1, 1) := dk_4 (dk_at dksX3_mayPass_1 6 rfl rfl)
theorem dX3_mayPass_31 : decode cX3_mayPass 31 = .ok (.goto 4, 3) := dk_167 0 4 (dk_at dksX3_mayPass_1 7 rfl rfl)
theorem dX3_mayPass_34 : decode cX3_mayPass 34 = .ok (.iconst 0, 1) := dk_3 (dk_at dksX3_mayPass_1 10 rfl rfl)
theorem dX3_mayPass_35 : decode cX3_mayPass 35 = .ok (.ireturn, 1) := dk_172 (dk_at dksX3_mayPass_1 11 rfl rfl)
abbrev cX3_goMonth : ByteArray := prog_14_method_69_code
def yX3_goMonth : MethodName := ⟨RX3, "goMonth", "([I)V"⟩
def dkwX3_goMonth_2 : List UInt8 := [104, 6, 96, 3, 79, 132, 2, 1, 167, 255, 216, 177]
abbrev dktX3_goMonth_2 : List UInt8 := dkwX3_goMonth_2 ++ []
def dkwX3_goMonth_1 : List UInt8 := [43, 16, 41, 46, 43, 8, 28, 104, 7, 96, 46, 100, 42, 180, 0, 37, 5, 46, 161, 0, 11, 43, 8, 28]
abbrev dktX3_goMonth_1 : List UInt8 := dkwX3_goMonth_1 ++ dktX3_goMonth_2
def dkwX3_goMonth_0 : List UInt8 := [42, 43, 4, 182, 1, 144, 43, 16, 41, 92, 46, 4, 96, 79, 3, 61, 28, 43, 16, 40, 46, 162, 0, 38]
abbrev dktX3_goMonth_0 : List UInt8 := dkwX3_goMonth_0 ++ dktX3_goMonth_1
theorem dksX3_goMonth_0 : cX3_goMonth.data.toList.drop 0 = dktX3_goMonth_0 := by decide +kernel
theorem dksX3_goMonth_1 : cX3_goMonth.data.toList.drop 24 = dktX3_goMonth_1 := dk_seg dksX3_goMonth_0 24 rfl rfl
theorem dksX3_goMonth_2 : cX3_goMonth.data.toList.drop 48 = dktX3_goMonth_2 := dk_seg dksX3_goMonth_1 24 rfl rfl
theorem dX3_goMonth_0 : decode cX3_goMonth 0 = .ok (.aload_n 0, 1) := dk_42 (dk_at dksX3_goMonth_0 0 rfl rfl)
theorem dX3_goMonth_1 : decode cX3_goMonth 1 = .ok (.aload_n 1, 1) := dk_43 (dk_at dksX3_goMonth_0 1 rfl rfl)
theorem dX3_goMonth_2 : decode cX3_goMonth 2 = .ok (.iconst 1, 1) := dk_4 (dk_at dksX3_goMonth_0 2 rfl rfl)
theorem dX3_goMonth_3 : decode cX3_goMonth 3 = .ok (.invokevirtual 400, 3) := dk_182 1 144 (dk_at dksX3_goMonth_0 3 rfl rfl)
theorem dX3_goMonth_6 : decode cX3_goMonth 6 = .ok (.aload_n 1, 1) := dk_43 (dk_at dksX3_goMonth_0 6 rfl rfl)
theorem dX3_goMonth_7 : decode cX3_goMonth 7 = .ok (.bipush 41, 2) := dk_16 41 (dk_at dksX3_goMonth_0 7 rfl rfl)
theorem dX3_goMonth_9 : decode cX3_goMonth 9 = .ok (.dup2, 1) := dk_92 (dk_at dksX3_goMonth_0 9 rfl rfl)
theorem dX3_goMonth_10 : decode cX3_goMonth 10 = .ok (.iaload, 1) := dk_46 (dk_at dksX3_goMonth_0 10 rfl rfl)
theorem dX3_goMonth_11 : decode cX3_goMonth 11 = .ok (.iconst 1, 1) := dk_4 (dk_at dksX3_goMonth_0 11 rfl rfl)
theorem dX3_goMonth_12 : decode cX3_goMonth 12 = .ok (.iadd, 1) := dk_96 (dk_at dksX3_goMonth_0 12 rfl rfl)
theorem dX3_goMonth_13 : decode cX3_goMonth 13 = .ok (.iastore, 1) := dk_79 (dk_at dksX3_goMonth_0 13 rfl rfl)
theorem dX3_goMonth_14 : decode cX3_goMonth 14 = .ok (.iconst 0, 1) := dk_3 (dk_at dksX3_goMonth_0 14 rfl rfl)
theorem dX3_goMonth_15 : decode cX3_goMonth 15 = .ok (.istore_n 2, 1) := dk_61 (dk_at dksX3_goMonth_0 15 rfl rfl)
theorem dX3_goMonth_16 : decode cX3_goMonth 16 = .ok (.iload_n 2, 1) := dk_28 (dk_at dksX3_goMonth_0 16 rfl rfl)
theorem dX3_goMonth_17 : decode cX3_goMonth 17 = .ok (.aload_n 1, 1) := dk_43 (dk_at dksX3_goMonth_0 17 rfl rfl)
theorem dX3_goMonth_18 : decode cX3_goMonth 18 = .ok (.bipush 40, 2) := dk_16 40 (dk_at dksX3_goMonth_0 18 rfl rfl)
theorem dX3_goMonth_20 : decode cX3_goMonth 20 = .ok (.iaload, 1) := dk_46 (dk_at dksX3_goMonth_0 20 rfl rfl)
theorem dX3_goMonth_21 : decode cX3_goMonth 21 = .ok (.if_icmp .ge 38, 3) := dk_162 0 38 (dk_at dksX3_goMonth_0 21 rfl rfl)
theorem dX3_goMonth_24 : decode cX3_goMonth 24 = .ok (.aload_n 1, 1) := dk_43 (dk_at dksX3_goMonth_1 0 rfl rfl)
theorem dX3_goMonth_25 : decode cX3_goMonth 25 = .ok (.bipush 41, 2) := dk_16 41 (dk_at dksX3_goMonth_1 1 rfl rfl)
theorem dX3_goMonth_27 : decode cX3_goMonth 27 = .ok (.iaload, 1) := dk_46 (dk_at dksX3_goMonth_1 3 rfl rfl)
theorem dX3_goMonth_28 : decode cX3_goMonth 28 = .ok (.aload_n 1, 1) := dk_43 (dk_at dksX3_goMonth_1 4 rfl rfl)
theorem dX3_goMonth_29 : decode cX3_goMonth 29 = .ok (.iconst 5, 1) := dk_8 (dk_at dksX3_goMonth_1 5 rfl rfl)
theorem dX3_goMonth_30 : decode cX3_goMonth 30 = .ok (.iload_n 2, 1) := dk_28 (dk_at dksX3_goMonth_1 6 rfl rfl)
theorem dX3_goMonth_31 : decode cX3_goMonth 31 = .ok (.imul, 1) := dk_104 (dk_at dksX3_goMonth_1 7 rfl rfl)
theorem dX3_goMonth_32 : decode cX3_goMonth 32 = .ok (.iconst 4, 1) := dk_7 (dk_at dksX3_goMonth_1 8 rfl rfl)
theorem dX3_goMonth_33 : decode cX3_goMonth 33 = .ok (.iadd, 1) := dk_96 (dk_at dksX3_goMonth_1 9 rfl rfl)
theorem dX3_goMonth_34 : decode cX3_goMonth 34 = .ok (.iaload, 1) := dk_46 (dk_at dksX3_goMonth_1 10 rfl rfl)
theorem dX3_goMonth_35 : decode cX3_goMonth 35 = .ok (.isub, 1) := dk_100 (dk_at dksX3_goMonth_1 11 rfl rfl)
theorem dX3_goMonth_36 : decode cX3_goMonth 36 = .ok (.aload_n 0, 1) := dk_42 (dk_at dksX3_goMonth_1 12 rfl rfl)
theorem dX3_goMonth_37 : decode cX3_goMonth 37 = .ok (.getfield 37, 3) := dk_180 0 37 (dk_at dksX3_goMonth_1 13 rfl rfl)
theorem dX3_goMonth_40 : decode cX3_goMonth 40 = .ok (.iconst 2, 1) := dk_5 (dk_at dksX3_goMonth_1 16 rfl rfl)
theorem dX3_goMonth_41 : decode cX3_goMonth 41 = .ok (.iaload, 1) := dk_46 (dk_at dksX3_goMonth_1 17 rfl rfl)
theorem dX3_goMonth_42 : decode cX3_goMonth 42 = .ok (.if_icmp .lt 11, 3) := dk_161 0 11 (dk_at dksX3_goMonth_1 18 rfl rfl)
theorem dX3_goMonth_45 : decode cX3_goMonth 45 = .ok (.aload_n 1, 1) := dk_43 (dk_at dksX3_goMonth_1 21 rfl rfl)
theorem dX3_goMonth_46 : decode cX3_goMonth 46 = .ok (.iconst 5, 1) := dk_8 (dk_at dksX3_goMonth_1 22 rfl rfl)
theorem dX3_goMonth_47 : decode cX3_goMonth 47 = .ok (.iload_n 2, 1) := dk_28 (dk_at dksX3_goMonth_1 23 rfl rfl)
theorem dX3_goMonth_48 : decode cX3_goMonth 48 = .ok (.imul, 1) := dk_104 (dk_at dksX3_goMonth_2 0 rfl rfl)
theorem dX3_goMonth_49 : decode cX3_goMonth 49 = .ok (.iconst 3, 1) := dk_6 (dk_at dksX3_goMonth_2 1 rfl rfl)
theorem dX3_goMonth_50 : decode cX3_goMonth 50 = .ok (.iadd, 1) := dk_96 (dk_at dksX3_goMonth_2 2 rfl rfl)
theorem dX3_goMonth_51 : decode cX3_goMonth 51 = .ok (.iconst 0, 1) := dk_3 (dk_at dksX3_goMonth_2 3 rfl rfl)
theorem dX3_goMonth_52 : decode cX3_goMonth 52 = .ok (.iastore, 1) := dk_79 (dk_at dksX3_goMonth_2 4 rfl rfl)
theorem dX3_goMonth_53 : decode cX3_goMonth 53 = .ok (.iinc 2 1, 3) := dk_132 2 1 (dk_at dksX3_goMonth_2 5 rfl rfl)
theorem dX3_goMonth_56 : decode cX3_goMonth 56 = .ok (.goto (-40), 3) := dk_167 255 216 (dk_at dksX3_goMonth_2 8 rfl rfl)
theorem dX3_goMonth_59 : decode cX3_goMonth 59 = .ok (.return_, 1) := dk_177 (dk_at dksX3_goMonth_2 11 rfl rfl)
abbrev cX3_ages : ByteArray := prog_14_method_68_code
def yX3_ages : MethodName := ⟨RX3, "ages", "([II)V"⟩
def dkwX3_ages_1 : List UInt8 := [46, 28, 96, 184, 1, 74, 79, 132, 3, 1, 167, 255, 224, 177]
abbrev dktX3_ages_1 : List UInt8 := dkwX3_ages_1 ++ []
def dkwX3_ages_0 : List UInt8 := [3, 62, 29, 43, 16, 40, 46, 162, 0, 30, 43, 8, 29, 104, 5, 96, 16, 99, 43, 8, 29, 104, 5, 96]
abbrev dktX3_ages_0 : List UInt8 := dkwX3_ages_0 ++ dktX3_ages_1
theorem dksX3_ages_0 : cX3_ages.data.toList.drop 0 = dktX3_ages_0 := by decide +kernel
theorem dksX3_ages_1 : cX3_ages.data.toList.drop 24 = dktX3_ages_1 := dk_seg dksX3_ages_0 24 rfl rfl
theorem dX3_ages_0 : decode cX3_ages 0 = .ok (.iconst 0, 1) := dk_3 (dk_at dksX3_ages_0 0 rfl rfl)
theorem dX3_ages_1 : decode cX3_ages 1 = .ok (.istore_n 3, 1) := dk_62 (dk_at dksX3_ages_0 1 rfl rfl)
theorem dX3_ages_2 : decode cX3_ages 2 = .ok (.iload_n 3, 1) := dk_29 (dk_at dksX3_ages_0 2 rfl rfl)
theorem dX3_ages_3 : decode cX3_ages 3 = .ok (.aload_n 1, 1) := dk_43 (dk_at dksX3_ages_0 3 rfl rfl)
theorem dX3_ages_4 : decode cX3_ages 4 = .ok (.bipush 40, 2) := dk_16 40 (dk_at dksX3_ages_0 4 rfl rfl)
theorem dX3_ages_6 : decode cX3_ages 6 = .ok (.iaload, 1) := dk_46 (dk_at dksX3_ages_0 6 rfl rfl)
theorem dX3_ages_7 : decode cX3_ages 7 = .ok (.if_icmp .ge 30, 3) := dk_162 0 30 (dk_at dksX3_ages_0 7 rfl rfl)
theorem dX3_ages_10 : decode cX3_ages 10 = .ok (.aload_n 1, 1) := dk_43 (dk_at dksX3_ages_0 10 rfl rfl)
theorem dX3_ages_11 : decode cX3_ages 11 = .ok (.iconst 5, 1) := dk_8 (dk_at dksX3_ages_0 11 rfl rfl)
theorem dX3_ages_12 : decode cX3_ages 12 = .ok (.iload_n 3, 1) := dk_29 (dk_at dksX3_ages_0 12 rfl rfl)
theorem dX3_ages_13 : decode cX3_ages 13 = .ok (.imul, 1) := dk_104 (dk_at dksX3_ages_0 13 rfl rfl)
theorem dX3_ages_14 : decode cX3_ages 14 = .ok (.iconst 2, 1) := dk_5 (dk_at dksX3_ages_0 14 rfl rfl)
theorem dX3_ages_15 : decode cX3_ages 15 = .ok (.iadd, 1) := dk_96 (dk_at dksX3_ages_0 15 rfl rfl)
theorem dX3_ages_16 : decode cX3_ages 16 = .ok (.bipush 99, 2) := dk_16 99 (dk_at dksX3_ages_0 16 rfl rfl)
theorem dX3_ages_18 : decode cX3_ages 18 = .ok (.aload_n 1, 1) := dk_43 (dk_at dksX3_ages_0 18 rfl rfl)
theorem dX3_ages_19 : decode cX3_ages 19 = .ok (.iconst 5, 1) := dk_8 (dk_at dksX3_ages_0 19 rfl rfl)
theorem dX3_ages_20 : decode cX3_ages 20 = .ok (.iload_n 3, 1) := dk_29 (dk_at dksX3_ages_0 20 rfl rfl)
theorem dX3_ages_21 : decode cX3_ages 21 = .ok (.imul, 1) := dk_104 (dk_at dksX3_ages_0 21 rfl rfl)
theorem dX3_ages_22 : decode cX3_ages 22 = .ok (.iconst 2, 1) := dk_5 (dk_at dksX3_ages_0 22 rfl rfl)
theorem dX3_ages_23 : decode cX3_ages 23 = .ok (.iadd, 1) := dk_96 (dk_at dksX3_ages_0 23 rfl rfl)
theorem dX3_ages_24 : decode cX3_ages 24 = .ok (.iaload, 1) := dk_46 (dk_at dksX3_ages_1 0 rfl rfl)
theorem dX3_ages_25 : decode cX3_ages 25 = .ok (.iload_n 2, 1) := dk_28 (dk_at dksX3_ages_1 1 rfl rfl)
theorem dX3_ages_26 : decode cX3_ages 26 = .ok (.iadd, 1) := dk_96 (dk_at dksX3_ages_1 2 rfl rfl)
theorem dX3_ages_27 : decode cX3_ages 27 = .ok (.invokestatic 330, 3) := dk_184 1 74 (dk_at dksX3_ages_1 3 rfl rfl)
theorem dX3_ages_30 : decode cX3_ages 30 = .ok (.iastore, 1) := dk_79 (dk_at dksX3_ages_1 6 rfl rfl)
theorem dX3_ages_31 : decode cX3_ages 31 = .ok (.iinc 3 1, 3) := dk_132 3 1 (dk_at dksX3_ages_1 7 rfl rfl)
theorem dX3_ages_34 : decode cX3_ages 34 = .ok (.goto (-32), 3) := dk_167 255 224 (dk_at dksX3_ages_1 10 rfl rfl)
theorem dX3_ages_37 : decode cX3_ages 37 = .ok (.return_, 1) := dk_177 (dk_at dksX3_ages_1 13 rfl rfl)
abbrev cX3_off : ByteArray := prog_14_method_74_code
def yX3_off : MethodName := ⟨RX3, "off", "(I)I"⟩
def dkwX3_off_1 : List UInt8 := [180, 0, 58, 182, 1, 116, 27, 182, 1, 159, 61, 42, 42, 180, 0, 58, 28, 182, 1, 144, 28, 172]
abbrev dktX3_off_1 : List UInt8 := dkwX3_off_1 ++ []
def dkwX3_off_0 : List UInt8 := [42, 3, 181, 0, 109, 42, 27, 182, 1, 156, 154, 0, 5, 2, 172, 42, 182, 1, 124, 42, 42, 42]
abbrev dktX3_off_0 : List UInt8 := dkwX3_off_0 ++ dktX3_off_1
theorem dksX3_off_0 : cX3_off.data.toList.drop 0 = dktX3_off_0 := by decide +kernel
theorem dksX3_off_1 : cX3_off.data.toList.drop 22 = dktX3_off_1 := dk_seg dksX3_off_0 22 rfl rfl
theorem dX3_off_0 : decode cX3_off 0 = .ok (.aload_n 0, 1) := dk_42 (dk_at dksX3_off_0 0 rfl rfl)
theorem dX3_off_1 : decode cX3_off 1 = .ok (.iconst 0, 1) := dk_3 (dk_at dksX3_off_0 1 rfl rfl)
theorem dX3_off_2 : decode cX3_off 2 = .ok (.putfield 109, 3) := dk_181 0 109 (dk_at dksX3_off_0 2 rfl rfl)
theorem dX3_off_5 : decode cX3_off 5 = .ok (.aload_n 0, 1) := dk_42 (dk_at dksX3_off_0 5 rfl rfl)
theorem dX3_off_6 : decode cX3_off 6 = .ok (.iload_n 1, 1) := dk_27 (dk_at dksX3_off_0 6 rfl rfl)
theorem dX3_off_7 : decode cX3_off 7 = .ok (.invokevirtual 412, 3) := dk_182 1 156 (dk_at dksX3_off_0 7 rfl rfl)
theorem dX3_off_10 : decode cX3_off 10 = .ok (.ifCond .ne 5, 3) := dk_154 0 5 (dk_at dksX3_off_0 10 rfl rfl)
theorem dX3_off_13 : decode cX3_off 13 = .ok (.iconst (-1), 1) := dk_2 (dk_at dksX3_off_0 13 rfl rfl)
theorem dX3_off_14 : decode cX3_off 14 = .ok (.ireturn, 1) := dk_172 (dk_at dksX3_off_0 14 rfl rfl)
theorem dX3_off_15 : decode cX3_off 15 = .ok (.aload_n 0, 1) := dk_42 (dk_at dksX3_off_0 15 rfl rfl)
theorem dX3_off_16 : decode cX3_off 16 = .ok (.invokevirtual 380, 3) := dk_182 1 124 (dk_at dksX3_off_0 16 rfl rfl)
theorem dX3_off_19 : decode cX3_off 19 = .ok (.aload_n 0, 1) := dk_42 (dk_at dksX3_off_0 19 rfl rfl)
theorem dX3_off_20 : decode cX3_off 20 = .ok (.aload_n 0, 1) := dk_42 (dk_at dksX3_off_0 20 rfl rfl)
theorem dX3_off_21 : decode cX3_off 21 = .ok (.aload_n 0, 1) := dk_42 (dk_at dksX3_off_0 21 rfl rfl)
theorem dX3_off_22 : decode cX3_off 22 = .ok (.getfield 58, 3) := dk_180 0 58 (dk_at dksX3_off_1 0 rfl rfl)
theorem dX3_off_25 : decode cX3_off 25 = .ok (.invokevirtual 372, 3) := dk_182 1 116 (dk_at dksX3_off_1 3 rfl rfl)
theorem dX3_off_28 : decode cX3_off 28 = .ok (.iload_n 1, 1) := dk_27 (dk_at dksX3_off_1 6 rfl rfl)
theorem dX3_off_29 : decode cX3_off 29 = .ok (.invokevirtual 415, 3) := dk_182 1 159 (dk_at dksX3_off_1 7 rfl rfl)
theorem dX3_off_32 : decode cX3_off 32 = .ok (.istore_n 2, 1) := dk_61 (dk_at dksX3_off_1 10 rfl rfl)
theorem dX3_off_33 : decode cX3_off 33 = .ok (.aload_n 0, 1) := dk_42 (dk_at dksX3_off_1 11 rfl rfl)
theorem dX3_off_34 : decode cX3_off 34 = .ok (.aload_n 0, 1) := dk_42 (dk_at dksX3_off_1 12 rfl rfl)
theorem dX3_off_35 : decode cX3_off 35 = .ok (.getfield 58, 3) := dk_180 0 58 (dk_at dksX3_off_1 13 rfl rfl)
theorem dX3_off_38 : decode cX3_off 38 = .ok (.iload_n 2, 1) := dk_28 (dk_at dksX3_off_1 16 rfl rfl)
theorem dX3_off_39 : decode cX3_off 39 = .ok (.invokevirtual 400, 3) := dk_182 1 144 (dk_at dksX3_off_1 17 rfl rfl)
theorem dX3_off_42 : decode cX3_off 42 = .ok (.iload_n 2, 1) := dk_28 (dk_at dksX3_off_1 20 rfl rfl)
theorem dX3_off_43 : decode cX3_off 43 = .ok (.ireturn, 1) := dk_172 (dk_at dksX3_off_1 21 rfl rfl)
abbrev cX3_isHours : ByteArray := prog_14_method_73_code
def yX3_isHours : MethodName := ⟨RX3, "isHours", "(I)Z"⟩
def dkwX3_isHours_1 : List UInt8 := [172]
abbrev dktX3_isHours_1 : List UInt8 := dkwX3_isHours_1 ++ []
def dkwX3_isHours_0 : List UInt8 := [42, 180, 1, 51, 158, 0, 19, 27, 133, 10, 20, 1, 154, 184, 0, 230, 153, 0, 7, 4, 167, 0, 4, 3]
abbrev dktX3_isHours_0 : List UInt8 := dkwX3_isHours_0 ++ dktX3_isHours_1
theorem dksX3_isHours_0 : cX3_isHours.data.toList.drop 0 = dktX3_isHours_0 := by decide +kernel
theorem dksX3_isHours_1 : cX3_isHours.data.toList.drop 24 = dktX3_isHours_1 := dk_seg dksX3_isHours_0 24 rfl rfl
theorem dX3_isHours_0 : decode cX3_isHours 0 = .ok (.aload_n 0, 1) := dk_42 (dk_at dksX3_isHours_0 0 rfl rfl)
theorem dX3_isHours_1 : decode cX3_isHours 1 = .ok (.getfield 307, 3) := dk_180 1 51 (dk_at dksX3_isHours_0 1 rfl rfl)
theorem dX3_isHours_4 : decode cX3_isHours 4 = .ok (.ifCond .le 19, 3) := dk_158 0 19 (dk_at dksX3_isHours_0 4 rfl rfl)
theorem dX3_isHours_7 : decode cX3_isHours 7 = .ok (.iload_n 1, 1) := dk_27 (dk_at dksX3_isHours_0 7 rfl rfl)
theorem dX3_isHours_8 : decode cX3_isHours 8 = .ok (.i2l, 1) := dk_133 (dk_at dksX3_isHours_0 8 rfl rfl)
theorem dX3_isHours_9 : decode cX3_isHours 9 = .ok (.lconst 1, 1) := dk_10 (dk_at dksX3_isHours_0 9 rfl rfl)
theorem dX3_isHours_10 : decode cX3_isHours 10 = .ok (.ldc2_w 410, 3) := dk_20 1 154 (dk_at dksX3_isHours_0 10 rfl rfl)
theorem dX3_isHours_13 : decode cX3_isHours 13 = .ok (.invokestatic 230, 3) := dk_184 0 230 (dk_at dksX3_isHours_0 13 rfl rfl)
theorem dX3_isHours_16 : decode cX3_isHours 16 = .ok (.ifCond .eq 7, 3) := dk_153 0 7 (dk_at dksX3_isHours_0 16 rfl rfl)
theorem dX3_isHours_19 : decode cX3_isHours 19 = .ok (.iconst 1, 1) := dk_4 (dk_at dksX3_isHours_0 19 rfl rfl)
theorem dX3_isHours_20 : decode cX3_isHours 20 = .ok (.goto 4, 3) := dk_167 0 4 (dk_at dksX3_isHours_0 20 rfl rfl)
theorem dX3_isHours_23 : decode cX3_isHours 23 = .ok (.iconst 0, 1) := dk_3 (dk_at dksX3_isHours_0 23 rfl rfl)
theorem dX3_isHours_24 : decode cX3_isHours 24 = .ok (.ireturn, 1) := dk_172 (dk_at dksX3_isHours_1 0 rfl rfl)
abbrev cX3_moreThanBorne : ByteArray := prog_14_method_72_code
def yX3_moreThanBorne : MethodName := ⟨RX3, "moreThanBorne", "(II)I"⟩
def dkwX3_moreThanBorne_0 : List UInt8 := [3, 28, 42, 180, 0, 37, 4, 46, 27, 104, 42, 180, 0, 37, 3, 46, 108, 100, 184, 1, 69, 172]
abbrev dktX3_moreThanBorne_0 : List UInt8 := dkwX3_moreThanBorne_0 ++ []
theorem dksX3_moreThanBorne_0 : cX3_moreThanBorne.data.toList.drop 0 = dktX3_moreThanBorne_0 := by decide +kernel
theorem dX3_moreThanBorne_0 : decode cX3_moreThanBorne 0 = .ok (.iconst 0, 1) := dk_3 (dk_at dksX3_moreThanBorne_0 0 rfl rfl)
theorem dX3_moreThanBorne_1 : decode cX3_moreThanBorne 1 = .ok (.iload_n 2, 1) := dk_28 (dk_at dksX3_moreThanBorne_0 1 rfl rfl)
theorem dX3_moreThanBorne_2 : decode cX3_moreThanBorne 2 = .ok (.aload_n 0, 1) := dk_42 (dk_at dksX3_moreThanBorne_0 2 rfl rfl)
theorem dX3_moreThanBorne_3 : decode cX3_moreThanBorne 3 = .ok (.getfield 37, 3) := dk_180 0 37 (dk_at dksX3_moreThanBorne_0 3 rfl rfl)
theorem dX3_moreThanBorne_6 : decode cX3_moreThanBorne 6 = .ok (.iconst 1, 1) := dk_4 (dk_at dksX3_moreThanBorne_0 6 rfl rfl)
theorem dX3_moreThanBorne_7 : decode cX3_moreThanBorne 7 = .ok (.iaload, 1) := dk_46 (dk_at dksX3_moreThanBorne_0 7 rfl rfl)
theorem dX3_moreThanBorne_8 : decode cX3_moreThanBorne 8 = .ok (.iload_n 1, 1) := dk_27 (dk_at dksX3_moreThanBorne_0 8 rfl rfl)
theorem dX3_moreThanBorne_9 : decode cX3_moreThanBorne 9 = .ok (.imul, 1) := dk_104 (dk_at dksX3_moreThanBorne_0 9 rfl rfl)
theorem dX3_moreThanBorne_10 : decode cX3_moreThanBorne 10 = .ok (.aload_n 0, 1) := dk_42 (dk_at dksX3_moreThanBorne_0 10 rfl rfl)
theorem dX3_moreThanBorne_11 : decode cX3_moreThanBorne 11 = .ok (.getfield 37, 3) := dk_180 0 37 (dk_at dksX3_moreThanBorne_0 11 rfl rfl)
theorem dX3_moreThanBorne_14 : decode cX3_moreThanBorne 14 = .ok (.iconst 0, 1) := dk_3 (dk_at dksX3_moreThanBorne_0 14 rfl rfl)
theorem dX3_moreThanBorne_15 : decode cX3_moreThanBorne 15 = .ok (.iaload, 1) := dk_46 (dk_at dksX3_moreThanBorne_0 15 rfl rfl)
theorem dX3_moreThanBorne_16 : decode cX3_moreThanBorne 16 = .ok (.idiv, 1) := dk_108 (dk_at dksX3_moreThanBorne_0 16 rfl rfl)
theorem dX3_moreThanBorne_17 : decode cX3_moreThanBorne 17 = .ok (.isub, 1) := dk_100 (dk_at dksX3_moreThanBorne_0 17 rfl rfl)
theorem dX3_moreThanBorne_18 : decode cX3_moreThanBorne 18 = .ok (.invokestatic 325, 3) := dk_184 1 69 (dk_at dksX3_moreThanBorne_0 18 rfl rfl)
theorem dX3_moreThanBorne_21 : decode cX3_moreThanBorne 21 = .ok (.ireturn, 1) := dk_172 (dk_at dksX3_moreThanBorne_0 21 rfl rfl)
abbrev cX3_years : ByteArray := prog_14_method_76_code
def yX3_years : MethodName := ⟨RX3, "years", "(IJ)I"⟩
def dkwX3_years_7 : List UInt8 := [182, 1, 150, 132, 4, 1, 167, 255, 118, 42, 180, 0, 58, 16, 41, 46, 172]
abbrev dktX3_years_7 : List UInt8 := dkwX3_years_7 ++ []
def dkwX3_years_6 : List UInt8 := [167, 0, 12, 42, 180, 0, 58, 16, 40, 46, 4, 100, 182, 1, 135, 54, 9, 42, 42, 180, 0, 58]
abbrev dktX3_years_6 : List UInt8 := dkwX3_years_6 ++ dktX3_years_7
def dkwX3_years_5 : List UInt8 := [180, 0, 58, 16, 40, 46, 154, 0, 7, 3, 167, 0, 29, 42, 42, 180, 0, 58, 21, 8, 154, 0, 7, 3]
abbrev dktX3_years_5 : List UInt8 := dkwX3_years_5 ++ dktX3_years_6
def dkwX3_years_4 : List UInt8 := [153, 0, 16, 42, 180, 0, 58, 21, 5, 21, 6, 21, 7, 184, 1, 127, 42, 5, 182, 1, 170, 54, 8, 42]
abbrev dktX3_years_4 : List UInt8 := dkwX3_years_4 ++ dktX3_years_5
def dkwX3_years_3 : List UInt8 := [162, 0, 7, 4, 167, 0, 4, 3, 54, 7, 42, 42, 180, 0, 58, 21, 5, 21, 6, 182, 1, 120]
abbrev dktX3_years_3 : List UInt8 := dkwX3_years_3 ++ dktX3_years_4
def dkwX3_years_2 : List UInt8 := [54, 5, 42, 16, 9, 182, 1, 170, 4, 96, 54, 6, 42, 16, 10, 182, 1, 170, 42, 180, 0, 68]
abbrev dktX3_years_2 : List UInt8 := dkwX3_years_2 ++ dktX3_years_3
def dkwX3_years_1 : List UInt8 := [181, 1, 162, 3, 54, 4, 21, 4, 27, 162, 0, 138, 42, 182, 1, 124, 42, 42, 180, 1, 51, 182, 1, 170]
abbrev dktX3_years_1 : List UInt8 := dkwX3_years_1 ++ dktX3_years_2
def dkwX3_years_0 : List UInt8 := [42, 3, 181, 0, 109, 42, 42, 180, 0, 58, 27, 16, 60, 182, 1, 147, 154, 0, 5, 2, 172, 42, 32]
abbrev dktX3_years_0 : List UInt8 := dkwX3_years_0 ++ dktX3_years_1
theorem dksX3_years_0 : cX3_years.data.toList.drop 0 = dktX3_years_0 := by decide +kernel
theorem dksX3_years_1 : cX3_years.data.toList.drop 23 = dktX3_years_1 := dk_seg dksX3_years_0 23 rfl rfl
theorem dksX3_years_2 : cX3_years.data.toList.drop 47 = dktX3_years_2 := dk_seg dksX3_years_1 24 rfl rfl
theorem dksX3_years_3 : cX3_years.data.toList.drop 69 = dktX3_years_3 := dk_seg dksX3_years_2 22 rfl rfl
theorem dksX3_years_4 : cX3_years.data.toList.drop 91 = dktX3_years_4 := dk_seg dksX3_years_3 22 rfl rfl
theorem dksX3_years_5 : cX3_years.data.toList.drop 115 = dktX3_years_5 := dk_seg dksX3_years_4 24 rfl rfl
theorem dksX3_years_6 : cX3_years.data.toList.drop 139 = dktX3_years_6 := dk_seg dksX3_years_5 24 rfl rfl
theorem dksX3_years_7 : cX3_years.data.toList.drop 161 = dktX3_years_7 := dk_seg dksX3_years_6 22 rfl rfl
theorem dX3_years_0 : decode cX3_years 0 = .ok (.aload_n 0, 1) := dk_42 (dk_at dksX3_years_0 0 rfl rfl)
theorem dX3_years_1 : decode cX3_years 1 = .ok (.iconst 0, 1) := dk_3 (dk_at dksX3_years_0 1 rfl rfl)
theorem dX3_years_2 : decode cX3_years 2 = .ok (.putfield 109, 3) := dk_181 0 109 (dk_at dksX3_years_0 2 rfl rfl)
theorem dX3_years_5 : decode cX3_years 5 = .ok (.aload_n 0, 1) := dk_42 (dk_at dksX3_years_0 5 rfl rfl)
theorem dX3_years_6 : decode cX3_years 6 = .ok (.aload_n 0, 1) := dk_42 (dk_at dksX3_years_0 6 rfl rfl)
theorem dX3_years_7 : decode cX3_years 7 = .ok (.getfield 58, 3) := dk_180 0 58 (dk_at dksX3_years_0 7 rfl rfl)
theorem dX3_years_10 : decode cX3_years 10 = .ok (.iload_n 1, 1) := dk_27 (dk_at dksX3_years_0 10 rfl rfl)
theorem dX3_years_11 : decode cX3_years 11 = .ok (.bipush 60, 2) := dk_16 60 (dk_at dksX3_years_0 11 rfl rfl)
theorem dX3_years_13 : decode cX3_years 13 = .ok (.invokevirtual 403, 3) := dk_182 1 147 (dk_at dksX3_years_0 13 rfl rfl)
theorem dX3_years_16 : decode cX3_years 16 = .ok (.ifCond .ne 5, 3) := dk_154 0 5 (dk_at dksX3_years_0 16 rfl rfl)
theorem dX3_years_19 : decode cX3_years 19 = .ok (.iconst (-1), 1) := dk_2 (dk_at dksX3_years_0 19 rfl rfl)
theorem dX3_years_20 : decode cX3_years 20 = .ok (.ireturn, 1) := dk_172 (dk_at dksX3_years_0 20 rfl rfl)
theorem dX3_years_21 : decode cX3_years 21 = .ok (.aload_n 0, 1) := dk_42 (dk_at dksX3_years_0 21 rfl rfl)
theorem dX3_years_22 : decode cX3_years 22 = .ok (.lload_n 2, 1) := dk_32 (dk_at dksX3_years_0 22 rfl rfl)
theorem dX3_years_23 : decode cX3_years 23 = .ok (.putfield 418, 3) := dk_181 1 162 (dk_at dksX3_years_1 0 rfl rfl)
theorem dX3_years_26 : decode cX3_years 26 = .ok (.iconst 0, 1) := dk_3 (dk_at dksX3_years_1 3 rfl rfl)
theorem dX3_years_27 : decode cX3_years 27 = .ok (.istore 4, 2) := dk_54 4 (dk_at dksX3_years_1 4 rfl rfl)
theorem dX3_years_29 : decode cX3_years 29 = .ok (.iload 4, 2) := dk_21 4 (dk_at dksX3_years_1 6 rfl rfl)
theorem dX3_years_31 : decode cX3_years 31 = .ok (.iload_n 1, 1) := dk_27 (dk_at dksX3_years_1 8 rfl rfl)
theorem dX3_years_32 : decode cX3_years 32 = .ok (.if_icmp .ge 138, 3) := dk_162 0 138 (dk_at dksX3_years_1 9 rfl rfl)
theorem dX3_years_35 : decode cX3_years 35 = .ok (.aload_n 0, 1) := dk_42 (dk_at dksX3_years_1 12 rfl rfl)
theorem dX3_years_36 : decode cX3_years 36 = .ok (.invokevirtual 380, 3) := dk_182 1 124 (dk_at dksX3_years_1 13 rfl rfl)
theorem dX3_years_39 : decode cX3_years 39 = .ok (.aload_n 0, 1) := dk_42 (dk_at dksX3_years_1 16 rfl rfl)
theorem dX3_years_40 : decode cX3_years 40 = .ok (.aload_n 0, 1) := dk_42 (dk_at dksX3_years_1 17 rfl rfl)
theorem dX3_years_41 : decode cX3_years 41 = .ok (.getfield 307, 3) := dk_180 1 51 (dk_at dksX3_years_1 18 rfl rfl)
theorem dX3_years_44 : decode cX3_years 44 = .ok (.invokevirtual 426, 3) := dk_182 1 170 (dk_at dksX3_years_1 21 rfl rfl)
theorem dX3_years_47 : decode cX3_years 47 = .ok (.istore 5, 2) := dk_54 5 (dk_at dksX3_years_2 0 rfl rfl)
theorem dX3_years_49 : decode cX3_years 49 = .ok (.aload_n 0, 1) := dk_42 (dk_at dksX3_years_2 2 rfl rfl)
theorem dX3_years_50 : decode cX3_years 50 = .ok (.bipush 9, 2) := dk_16 9 (dk_at dksX3_years_2 3 rfl rfl)
theorem dX3_years_52 : decode cX3_years 52 = .ok (.invokevirtual 426, 3) := dk_182 1 170 (dk_at dksX3_years_2 5 rfl rfl)
theorem dX3_years_55 : decode cX3_years 55 = .ok (.iconst 1, 1) := dk_4 (dk_at dksX3_years_2 8 rfl rfl)
theorem dX3_years_56 : decode cX3_years 56 = .ok (.iadd, 1) := dk_96 (dk_at dksX3_years_2 9 rfl rfl)
theorem dX3_years_57 : decode cX3_years 57 = .ok (.istore 6, 2) := dk_54 6 (dk_at dksX3_years_2 10 rfl rfl)
theorem dX3_years_59 : decode cX3_years 59 = .ok (.aload_n 0, 1) := dk_42 (dk_at dksX3_years_2 12 rfl rfl)
theorem dX3_years_60 : decode cX3_years 60 = .ok (.bipush 10, 2) := dk_16 10 (dk_at dksX3_years_2 13 rfl rfl)
theorem dX3_years_62 : decode cX3_years 62 = .ok (.invokevirtual 426, 3) := dk_182 1 170 (dk_at dksX3_years_2 15 rfl rfl)
theorem dX3_years_65 : decode cX3_years 65 = .ok (.aload_n 0, 1) := dk_42 (dk_at dksX3_years_2 18 rfl rfl)
theorem dX3_years_66 : decode cX3_years 66 = .ok (.getfield 68, 3) := dk_180 0 68 (dk_at dksX3_years_2 19 rfl rfl)
theorem dX3_years_69 : decode cX3_years 69 = .ok (.if_icmp .ge 7, 3) := dk_162 0 7 (dk_at dksX3_years_3 0 rfl rfl)
theorem dX3_years_72 : decode cX3_years 72 = .ok (.iconst 1, 1) := dk_4 (dk_at dksX3_years_3 3 rfl rfl)
theorem dX3_years_73 : decode cX3_years 73 = .ok (.goto 4, 3) := dk_167 0 4 (dk_at dksX3_years_3 4 rfl rfl)
theorem dX3_years_76 : decode cX3_years 76 = .ok (.iconst 0, 1) := dk_3 (dk_at dksX3_years_3 7 rfl rfl)
theorem dX3_years_77 : decode cX3_years 77 = .ok (.istore 7, 2) := dk_54 7 (dk_at dksX3_years_3 8 rfl rfl)
theorem dX3_years_79 : decode cX3_years 79 = .ok (.aload_n 0, 1) := dk_42 (dk_at dksX3_years_3 10 rfl rfl)
theorem dX3_years_80 : decode cX3_years 80 = .ok (.aload_n 0, 1) := dk_42 (dk_at dksX3_years_3 11 rfl rfl)
theorem dX3_years_81 : decode cX3_years 81 = .ok (.getfield 58, 3) := dk_180 0 58 (dk_at dksX3_years_3 12 rfl rfl)
theorem dX3_years_84 : decode cX3_years 84 = .ok (.iload 5, 2) := dk_21 5 (dk_at dksX3_years_3 15 rfl rfl)
theorem dX3_years_86 : decode cX3_years 86 = .ok (.iload 6, 2) := dk_21 6 (dk_at dksX3_years_3 17 rfl rfl)
theorem dX3_years_88 : decode cX3_years 88 = .ok (.invokevirtual 376, 3) := dk_182 1 120 (dk_at dksX3_years_3 19 rfl rfl)
theorem dX3_years_91 : decode cX3_years 91 = .ok (.ifCond .eq 16, 3) := dk_153 0 16 (dk_at dksX3_years_4 0 rfl rfl)
theorem dX3_years_94 : decode cX3_years 94 = .ok (.aload_n 0, 1) := dk_42 (dk_at dksX3_years_4 3 rfl rfl)
theorem dX3_years_95 : decode cX3_years 95 = .ok (.getfield 58, 3) := dk_180 0 58 (dk_at dksX3_years_4 4 rfl rfl)
theorem dX3_years_98 : decode cX3_years 98 = .ok (.iload 5, 2) := dk_21 5 (dk_at dksX3_years_4 7 rfl rfl)
theorem dX3_years_100 : decode cX3_years 100 = .ok (.iload 6, 2) := dk_21 6 (dk_at dksX3_years_4 9 rfl rfl)
theorem dX3_years_102 : decode cX3_years 102 = .ok (.iload 7, 2) := dk_21 7 (dk_at dksX3_years_4 11 rfl rfl)
theorem dX3_years_104 : decode cX3_years 104 = .ok (.invokestatic 383, 3) := dk_184 1 127 (dk_at dksX3_years_4 13 rfl rfl)
theorem dX3_years_107 : decode cX3_years 107 = .ok (.aload_n 0, 1) := dk_42 (dk_at dksX3_years_4 16 rfl rfl)
theorem dX3_years_108 : decode cX3_years 108 = .ok (.iconst 2, 1) := dk_5 (dk_at dksX3_years_4 17 rfl rfl)
theorem dX3_years_109 : decode cX3_years 109 = .ok (.invokevirtual 426, 3) := dk_182 1 170 (dk_at dksX3_years_4 18 rfl rfl)
theorem dX3_years_112 : decode cX3_years 112 = .ok (.istore 8, 2) := dk_54 8 (dk_at dksX3_years_4 21 rfl rfl)
theorem dX3_years_114 : decode cX3_years 114 = .ok (.aload_n 0, 1) := dk_42 (dk_at dksX3_years_4 23 rfl rfl)
theorem dX3_years_115 : decode cX3_years 115 = .ok (.getfield 58, 3) := dk_180 0 58 (dk_at dksX3_years_5 0 rfl rfl)
theorem dX3_years_118 : decode cX3_years 118 = .ok (.bipush 40, 2) := dk_16 40 (dk_at dksX3_years_5 3 rfl rfl)
theorem dX3_years_120 : decode cX3_years 120 = .ok (.iaload, 1) := dk_46 (dk_at dksX3_years_5 5 rfl rfl)
theorem dX3_years_121 : decode cX3_years 121 = .ok (.ifCond .ne 7, 3) := dk_154 0 7 (dk_at dksX3_years_5 6 rfl rfl)
theorem dX3_years_124 : decode cX3_years 124 = .ok (.iconst 0, 1) := dk_3 (dk_at dksX3_years_5 9 rfl rfl)
theorem dX3_years_125 : decode cX3_years 125 = .ok (.goto 29, 3) := dk_167 0 29 (dk_at dksX3_years_5 10 rfl rfl)
theorem dX3_years_128 : decode cX3_years 128 = .ok (.aload_n 0, 1) := dk_42 (dk_at dksX3_years_5 13 rfl rfl)
theorem dX3_years_129 : decode cX3_years 129 = .ok (.aload_n 0, 1) := dk_42 (dk_at dksX3_years_5 14 rfl rfl)
theorem dX3_years_130 : decode cX3_years 130 = .ok (.getfield 58, 3) := dk_180 0 58 (dk_at dksX3_years_5 15 rfl rfl)
theorem dX3_years_133 : decode cX3_years 133 = .ok (.iload 8, 2) := dk_21 8 (dk_at dksX3_years_5 18 rfl rfl)
theorem dX3_years_135 : decode cX3_years 135 = .ok (.ifCond .ne 7, 3) := dk_154 0 7 (dk_at dksX3_years_5 20 rfl rfl)
theorem dX3_years_138 : decode cX3_years 138 = .ok (.iconst 0, 1) := dk_3 (dk_at dksX3_years_5 23 rfl rfl)
theorem dX3_years_139 : decode cX3_years 139 = .ok (.goto 12, 3) := dk_167 0 12 (dk_at dksX3_years_6 0 rfl rfl)
theorem dX3_years_142 : decode cX3_years 142 = .ok (.aload_n 0, 1) := dk_42 (dk_at dksX3_years_6 3 rfl rfl)
theorem dX3_years_143 : decode cX3_years 143 = .ok (.getfield 58, 3) := dk_180 0 58 (dk_at dksX3_years_6 4 rfl rfl)
theorem dX3_years_146 : decode cX3_years 146 = .ok (.bipush 40, 2) := dk_16 40 (dk_at dksX3_years_6 7 rfl rfl)
theorem dX3_years_148 : decode cX3_years 148 = .ok (.iaload, 1) := dk_46 (dk_at dksX3_years_6 9 rfl rfl)
theorem dX3_years_149 : decode cX3_years 149 = .ok (.iconst 1, 1) := dk_4 (dk_at dksX3_years_6 10 rfl rfl)
theorem dX3_years_150 : decode cX3_years 150 = .ok (.isub, 1) := dk_100 (dk_at dksX3_years_6 11 rfl rfl)
theorem dX3_years_151 : decode cX3_years 151 = .ok (.invokevirtual 391, 3) := dk_182 1 135 (dk_at dksX3_years_6 12 rfl rfl)
theorem dX3_years_154 : decode cX3_years 154 = .ok (.istore 9, 2) := dk_54 9 (dk_at dksX3_years_6 15 rfl rfl)
theorem dX3_years_156 : decode cX3_years 156 = .ok (.aload_n 0, 1) := dk_42 (dk_at dksX3_years_6 17 rfl rfl)
theorem dX3_years_157 : decode cX3_years 157 = .ok (.aload_n 0, 1) := dk_42 (dk_at dksX3_years_6 18 rfl rfl)
theorem dX3_years_158 : decode cX3_years 158 = .ok (.getfield 58, 3) := dk_180 0 58 (dk_at dksX3_years_6 19 rfl rfl)
theorem dX3_years_161 : decode cX3_years 161 = .ok (.invokevirtual 406, 3) := dk_182 1 150 (dk_at dksX3_years_7 0 rfl rfl)
theorem dX3_years_164 : decode cX3_years 164 = .ok (.iinc 4 1, 3) := dk_132 4 1 (dk_at dksX3_years_7 3 rfl rfl)
theorem dX3_years_167 : decode cX3_years 167 = .ok (.goto (-138), 3) := dk_167 255 118 (dk_at dksX3_years_7 6 rfl rfl)
theorem dX3_years_170 : decode cX3_years 170 = .ok (.aload_n 0, 1) := dk_42 (dk_at dksX3_years_7 9 rfl rfl)
theorem dX3_years_171 : decode cX3_years 171 = .ok (.getfield 58, 3) := dk_180 0 58 (dk_at dksX3_years_7 10 rfl rfl)
theorem dX3_years_174 : decode cX3_years 174 = .ok (.bipush 41, 2) := dk_16 41 (dk_at dksX3_years_7 13 rfl rfl)
theorem dX3_years_176 : decode cX3_years 176 = .ok (.iaload, 1) := dk_46 (dk_at dksX3_years_7 15 rfl rfl)
theorem dX3_years_177 : decode cX3_years 177 = .ok (.ireturn, 1) := dk_172 (dk_at dksX3_years_7 16 rfl rfl)
abbrev cX3_draw : ByteArray := prog_14_method_75_code
def yX3_draw : MethodName := ⟨RX3, "draw", "(I)I"⟩
def dkwX3_draw_1 : List UInt8 := [133, 113, 136, 172]
abbrev dktX3_draw_1 : List UInt8 := dkwX3_draw_1 ++ []
def dkwX3_draw_0 : List UInt8 := [42, 42, 180, 1, 162, 20, 1, 166, 105, 20, 1, 168, 97, 181, 1, 162, 42, 180, 1, 162, 16, 33, 125, 27]
abbrev dktX3_draw_0 : List UInt8 := dkwX3_draw_0 ++ dktX3_draw_1
theorem dksX3_draw_0 : cX3_draw.data.toList.drop 0 = dktX3_draw_0 := by decide +kernel
theorem dksX3_draw_1 : cX3_draw.data.toList.drop 24 = dktX3_draw_1 := dk_seg dksX3_draw_0 24 rfl rfl
theorem dX3_draw_0 : decode cX3_draw 0 = .ok (.aload_n 0, 1) := dk_42 (dk_at dksX3_draw_0 0 rfl rfl)
theorem dX3_draw_1 : decode cX3_draw 1 = .ok (.aload_n 0, 1) := dk_42 (dk_at dksX3_draw_0 1 rfl rfl)
theorem dX3_draw_2 : decode cX3_draw 2 = .ok (.getfield 418, 3) := dk_180 1 162 (dk_at dksX3_draw_0 2 rfl rfl)
theorem dX3_draw_5 : decode cX3_draw 5 = .ok (.ldc2_w 422, 3) := dk_20 1 166 (dk_at dksX3_draw_0 5 rfl rfl)
theorem dX3_draw_8 : decode cX3_draw 8 = .ok (.lmul, 1) := dk_105 (dk_at dksX3_draw_0 8 rfl rfl)
theorem dX3_draw_9 : decode cX3_draw 9 = .ok (.ldc2_w 424, 3) := dk_20 1 168 (dk_at dksX3_draw_0 9 rfl rfl)
theorem dX3_draw_12 : decode cX3_draw 12 = .ok (.ladd, 1) := dk_97 (dk_at dksX3_draw_0 12 rfl rfl)
theorem dX3_draw_13 : decode cX3_draw 13 = .ok (.putfield 418, 3) := dk_181 1 162 (dk_at dksX3_draw_0 13 rfl rfl)
theorem dX3_draw_16 : decode cX3_draw 16 = .ok (.aload_n 0, 1) := dk_42 (dk_at dksX3_draw_0 16 rfl rfl)
theorem dX3_draw_17 : decode cX3_draw 17 = .ok (.getfield 418, 3) := dk_180 1 162 (dk_at dksX3_draw_0 17 rfl rfl)
theorem dX3_draw_20 : decode cX3_draw 20 = .ok (.bipush 33, 2) := dk_16 33 (dk_at dksX3_draw_0 20 rfl rfl)
theorem dX3_draw_22 : decode cX3_draw 22 = .ok (.lushr, 1) := dk_125 (dk_at dksX3_draw_0 22 rfl rfl)
theorem dX3_draw_23 : decode cX3_draw 23 = .ok (.iload_n 1, 1) := dk_27 (dk_at dksX3_draw_0 23 rfl rfl)
theorem dX3_draw_24 : decode cX3_draw 24 = .ok (.i2l, 1) := dk_133 (dk_at dksX3_draw_1 0 rfl rfl)
theorem dX3_draw_25 : decode cX3_draw 25 = .ok (.lrem, 1) := dk_113 (dk_at dksX3_draw_1 1 rfl rfl)
theorem dX3_draw_26 : decode cX3_draw 26 = .ok (.l2i, 1) := dk_136 (dk_at dksX3_draw_1 2 rfl rfl)
theorem dX3_draw_27 : decode cX3_draw 27 = .ok (.ireturn, 1) := dk_172 (dk_at dksX3_draw_1 3 rfl rfl)
abbrev cX3_undo : ByteArray := prog_14_method_77_code
def yX3_undo : MethodName := ⟨RX3, "undo", "()I"⟩
def dkwX3_undo_2 : List UInt8 := [180, 1, 60, 104, 27, 96, 46, 79, 132, 1, 1, 167, 255, 225, 42, 180, 1, 60, 172]
abbrev dktX3_undo_2 : List UInt8 := dkwX3_undo_2 ++ []
def dkwX3_undo_1 : List UInt8 := [3, 60, 27, 17, 1, 27, 162, 0, 30, 42, 180, 0, 58, 27, 42, 180, 0, 78, 17, 1, 27, 42]
abbrev dktX3_undo_1 : List UInt8 := dkwX3_undo_1 ++ dktX3_undo_2
def dkwX3_undo_0 : List UInt8 := [42, 3, 181, 0, 109, 42, 180, 1, 60, 154, 0, 5, 2, 172, 42, 89, 180, 1, 60, 4, 100, 181, 1, 60]
abbrev dktX3_undo_0 : List UInt8 := dkwX3_undo_0 ++ dktX3_undo_1
theorem dksX3_undo_0 : cX3_undo.data.toList.drop 0 = dktX3_undo_0 := by decide +kernel
theorem dksX3_undo_1 : cX3_undo.data.toList.drop 24 = dktX3_undo_1 := dk_seg dksX3_undo_0 24 rfl rfl
theorem dksX3_undo_2 : cX3_undo.data.toList.drop 46 = dktX3_undo_2 := dk_seg dksX3_undo_1 22 rfl rfl
theorem dX3_undo_0 : decode cX3_undo 0 = .ok (.aload_n 0, 1) := dk_42 (dk_at dksX3_undo_0 0 rfl rfl)
theorem dX3_undo_1 : decode cX3_undo 1 = .ok (.iconst 0, 1) := dk_3 (dk_at dksX3_undo_0 1 rfl rfl)
theorem dX3_undo_2 : decode cX3_undo 2 = .ok (.putfield 109, 3) := dk_181 0 109 (dk_at dksX3_undo_0 2 rfl rfl)
theorem dX3_undo_5 : decode cX3_undo 5 = .ok (.aload_n 0, 1) := dk_42 (dk_at dksX3_undo_0 5 rfl rfl)
theorem dX3_undo_6 : decode cX3_undo 6 = .ok (.getfield 316, 3) := dk_180 1 60 (dk_at dksX3_undo_0 6 rfl rfl)
theorem dX3_undo_9 : decode cX3_undo 9 = .ok (.ifCond .ne 5, 3) := dk_154 0 5 (dk_at dksX3_undo_0 9 rfl rfl)
theorem dX3_undo_12 : decode cX3_undo 12 = .ok (.iconst (-1), 1) := dk_2 (dk_at dksX3_undo_0 12 rfl rfl)
theorem dX3_undo_13 : decode cX3_undo 13 = .ok (.ireturn, 1) := dk_172 (dk_at dksX3_undo_0 13 rfl rfl)
theorem dX3_undo_14 : decode cX3_undo 14 = .ok (.aload_n 0, 1) := dk_42 (dk_at dksX3_undo_0 14 rfl rfl)
theorem dX3_undo_15 : decode cX3_undo 15 = .ok (.dup, 1) := dk_89 (dk_at dksX3_undo_0 15 rfl rfl)
theorem dX3_undo_16 : decode cX3_undo 16 = .ok (.getfield 316, 3) := dk_180 1 60 (dk_at dksX3_undo_0 16 rfl rfl)
theorem dX3_undo_19 : decode cX3_undo 19 = .ok (.iconst 1, 1) := dk_4 (dk_at dksX3_undo_0 19 rfl rfl)
theorem dX3_undo_20 : decode cX3_undo 20 = .ok (.isub, 1) := dk_100 (dk_at dksX3_undo_0 20 rfl rfl)
theorem dX3_undo_21 : decode cX3_undo 21 = .ok (.putfield 316, 3) := dk_181 1 60 (dk_at dksX3_undo_0 21 rfl rfl)
theorem dX3_undo_24 : decode cX3_undo 24 = .ok (.iconst 0, 1) := dk_3 (dk_at dksX3_undo_1 0 rfl rfl)
theorem dX3_undo_25 : decode cX3_undo 25 = .ok (.istore_n 1, 1) := dk_60 (dk_at dksX3_undo_1 1 rfl rfl)
theorem dX3_undo_26 : decode cX3_undo 26 = .ok (.iload_n 1, 1) := dk_27 (dk_at dksX3_undo_1 2 rfl rfl)
theorem dX3_undo_27 : decode cX3_undo 27 = .ok (.sipush 283, 3) := dk_17 1 27 (dk_at dksX3_undo_1 3 rfl rfl)
theorem dX3_undo_30 : decode cX3_undo 30 = .ok (.if_icmp .ge 30, 3) := dk_162 0 30 (dk_at dksX3_undo_1 6 rfl rfl)
theorem dX3_undo_33 : decode cX3_undo 33 = .ok (.aload_n 0, 1) := dk_42 (dk_at dksX3_undo_1 9 rfl rfl)
theorem dX3_undo_34 : decode cX3_undo 34 = .ok (.getfield 58, 3) := dk_180 0 58 (dk_at dksX3_undo_1 10 rfl rfl)
theorem dX3_undo_37 : decode cX3_undo 37 = .ok (.iload_n 1, 1) := dk_27 (dk_at dksX3_undo_1 13 rfl rfl)
theorem dX3_undo_38 : decode cX3_undo 38 = .ok (.aload_n 0, 1) := dk_42 (dk_at dksX3_undo_1 14 rfl rfl)
theorem dX3_undo_39 : decode cX3_undo 39 = .ok (.getfield 78, 3) := dk_180 0 78 (dk_at dksX3_undo_1 15 rfl rfl)
theorem dX3_undo_42 : decode cX3_undo 42 = .ok (.sipush 283, 3) := dk_17 1 27 (dk_at dksX3_undo_1 18 rfl rfl)
theorem dX3_undo_45 : decode cX3_undo 45 = .ok (.aload_n 0, 1) := dk_42 (dk_at dksX3_undo_1 21 rfl rfl)
theorem dX3_undo_46 : decode cX3_undo 46 = .ok (.getfield 316, 3) := dk_180 1 60 (dk_at dksX3_undo_2 0 rfl rfl)
theorem dX3_undo_49 : decode cX3_undo 49 = .ok (.imul, 1) := dk_104 (dk_at dksX3_undo_2 3 rfl rfl)
theorem dX3_undo_50 : decode cX3_undo 50 = .ok (.iload_n 1, 1) := dk_27 (dk_at dksX3_undo_2 4 rfl rfl)
theorem dX3_undo_51 : decode cX3_undo 51 = .ok (.iadd, 1) := dk_96 (dk_at dksX3_undo_2 5 rfl rfl)
theorem dX3_undo_52 : decode cX3_undo 52 = .ok (.iaload, 1) := dk_46 (dk_at dksX3_undo_2 6 rfl rfl)
theorem dX3_undo_53 : decode cX3_undo 53 = .ok (.iastore, 1) := dk_79 (dk_at dksX3_undo_2 7 rfl rfl)
theorem dX3_undo_54 : decode cX3_undo 54 = .ok (.iinc 1 1, 3) := dk_132 1 1 (dk_at dksX3_undo_2 8 rfl rfl)
theorem dX3_undo_57 : decode cX3_undo 57 = .ok (.goto (-31), 3) := dk_167 255 225 (dk_at dksX3_undo_2 11 rfl rfl)
theorem dX3_undo_60 : decode cX3_undo 60 = .ok (.aload_n 0, 1) := dk_42 (dk_at dksX3_undo_2 14 rfl rfl)
theorem dX3_undo_61 : decode cX3_undo 61 = .ok (.getfield 316, 3) := dk_180 1 60 (dk_at dksX3_undo_2 15 rfl rfl)
theorem dX3_undo_64 : decode cX3_undo 64 = .ok (.ireturn, 1) := dk_172 (dk_at dksX3_undo_2 18 rfl rfl)
abbrev cX3_log : ByteArray := prog_14_method_78_code
def yX3_log : MethodName := ⟨RX3, "log", "(II)I"⟩
def dkwX3_log_2 : List UInt8 := [16, 42, 46, 4, 100, 27, 100, 104, 96, 28, 96, 46, 167, 0, 4, 2, 172]
abbrev dktX3_log_2 : List UInt8 := dkwX3_log_2 ++ []
def dkwX3_log_1 : List UInt8 := [28, 133, 9, 20, 1, 98, 184, 0, 230, 153, 0, 29, 42, 180, 0, 58, 16, 43, 7, 42, 180, 0, 58]
abbrev dktX3_log_1 : List UInt8 := dkwX3_log_1 ++ dktX3_log_2
def dkwX3_log_0 : List UInt8 := [42, 3, 181, 0, 109, 27, 133, 9, 42, 180, 0, 58, 16, 42, 46, 4, 100, 133, 184, 0, 230, 153, 0, 41]
abbrev dktX3_log_0 : List UInt8 := dkwX3_log_0 ++ dktX3_log_1
theorem dksX3_log_0 : cX3_log.data.toList.drop 0 = dktX3_log_0 := by decide +kernel
theorem dksX3_log_1 : cX3_log.data.toList.drop 24 = dktX3_log_1 := dk_seg dksX3_log_0 24 rfl rfl
theorem dksX3_log_2 : cX3_log.data.toList.drop 47 = dktX3_log_2 := dk_seg dksX3_log_1 23 rfl rfl
theorem dX3_log_0 : decode cX3_log 0 = .ok (.aload_n 0, 1) := dk_42 (dk_at dksX3_log_0 0 rfl rfl)
theorem dX3_log_1 : decode cX3_log 1 = .ok (.iconst 0, 1) := dk_3 (dk_at dksX3_log_0 1 rfl rfl)
theorem dX3_log_2 : decode cX3_log 2 = .ok (.putfield 109, 3) := dk_181 0 109 (dk_at dksX3_log_0 2 rfl rfl)
theorem dX3_log_5 : decode cX3_log 5 = .ok (.iload_n 1, 1) := dk_27 (dk_at dksX3_log_0 5 rfl rfl)
theorem dX3_log_6 : decode cX3_log 6 = .ok (.i2l, 1) := dk_133 (dk_at dksX3_log_0 6 rfl rfl)
theorem dX3_log_7 : decode cX3_log 7 = .ok (.lconst 0, 1) := dk_9 (dk_at dksX3_log_0 7 rfl rfl)
theorem dX3_log_8 : decode cX3_log 8 = .ok (.aload_n 0, 1) := dk_42 (dk_at dksX3_log_0 8 rfl rfl)
theorem dX3_log_9 : decode cX3_log 9 = .ok (.getfield 58, 3) := dk_180 0 58 (dk_at dksX3_log_0 9 rfl rfl)
theorem dX3_log_12 : decode cX3_log 12 = .ok (.bipush 42, 2) := dk_16 42 (dk_at dksX3_log_0 12 rfl rfl)
theorem dX3_log_14 : decode cX3_log 14 = .ok (.iaload, 1) := dk_46 (dk_at dksX3_log_0 14 rfl rfl)
theorem dX3_log_15 : decode cX3_log 15 = .ok (.iconst 1, 1) := dk_4 (dk_at dksX3_log_0 15 rfl rfl)
theorem dX3_log_16 : decode cX3_log 16 = .ok (.isub, 1) := dk_100 (dk_at dksX3_log_0 16 rfl rfl)
theorem dX3_log_17 : decode cX3_log 17 = .ok (.i2l, 1) := dk_133 (dk_at dksX3_log_0 17 rfl rfl)
theorem dX3_log_18 : decode cX3_log 18 = .ok (.invokestatic 230, 3) := dk_184 0 230 (dk_at dksX3_log_0 18 rfl rfl)
theorem dX3_log_21 : decode cX3_log 21 = .ok (.ifCond .eq 41, 3) := dk_153 0 41 (dk_at dksX3_log_0 21 rfl rfl)
theorem dX3_log_24 : decode cX3_log 24 = .ok (.iload_n 2, 1) := dk_28 (dk_at dksX3_log_1 0 rfl rfl)
theorem dX3_log_25 : decode cX3_log 25 = .ok (.i2l, 1) := dk_133 (dk_at dksX3_log_1 1 rfl rfl)
theorem dX3_log_26 : decode cX3_log 26 = .ok (.lconst 0, 1) := dk_9 (dk_at dksX3_log_1 2 rfl rfl)
theorem dX3_log_27 : decode cX3_log 27 = .ok (.ldc2_w 354, 3) := dk_20 1 98 (dk_at dksX3_log_1 3 rfl rfl)
theorem dX3_log_30 : decode cX3_log 30 = .ok (.invokestatic 230, 3) := dk_184 0 230 (dk_at dksX3_log_1 6 rfl rfl)
theorem dX3_log_33 : decode cX3_log 33 = .ok (.ifCond .eq 29, 3) := dk_153 0 29 (dk_at dksX3_log_1 9 rfl rfl)
theorem dX3_log_36 : decode cX3_log 36 = .ok (.aload_n 0, 1) := dk_42 (dk_at dksX3_log_1 12 rfl rfl)
theorem dX3_log_37 : decode cX3_log 37 = .ok (.getfield 58, 3) := dk_180 0 58 (dk_at dksX3_log_1 13 rfl rfl)
theorem dX3_log_40 : decode cX3_log 40 = .ok (.bipush 43, 2) := dk_16 43 (dk_at dksX3_log_1 16 rfl rfl)
theorem dX3_log_42 : decode cX3_log 42 = .ok (.iconst 4, 1) := dk_7 (dk_at dksX3_log_1 18 rfl rfl)
theorem dX3_log_43 : decode cX3_log 43 = .ok (.aload_n 0, 1) := dk_42 (dk_at dksX3_log_1 19 rfl rfl)
theorem dX3_log_44 : decode cX3_log 44 = .ok (.getfield 58, 3) := dk_180 0 58 (dk_at dksX3_log_1 20 rfl rfl)
theorem dX3_log_47 : decode cX3_log 47 = .ok (.bipush 42, 2) := dk_16 42 (dk_at dksX3_log_2 0 rfl rfl)
theorem dX3_log_49 : decode cX3_log 49 = .ok (.iaload, 1) := dk_46 (dk_at dksX3_log_2 2 rfl rfl)
theorem dX3_log_50 : decode cX3_log 50 = .ok (.iconst 1, 1) := dk_4 (dk_at dksX3_log_2 3 rfl rfl)
theorem dX3_log_51 : decode cX3_log 51 = .ok (.isub, 1) := dk_100 (dk_at dksX3_log_2 4 rfl rfl)
theorem dX3_log_52 : decode cX3_log 52 = .ok (.iload_n 1, 1) := dk_27 (dk_at dksX3_log_2 5 rfl rfl)
theorem dX3_log_53 : decode cX3_log 53 = .ok (.isub, 1) := dk_100 (dk_at dksX3_log_2 6 rfl rfl)
theorem dX3_log_54 : decode cX3_log 54 = .ok (.imul, 1) := dk_104 (dk_at dksX3_log_2 7 rfl rfl)
theorem dX3_log_55 : decode cX3_log 55 = .ok (.iadd, 1) := dk_96 (dk_at dksX3_log_2 8 rfl rfl)
theorem dX3_log_56 : decode cX3_log 56 = .ok (.iload_n 2, 1) := dk_28 (dk_at dksX3_log_2 9 rfl rfl)
theorem dX3_log_57 : decode cX3_log 57 = .ok (.iadd, 1) := dk_96 (dk_at dksX3_log_2 10 rfl rfl)
theorem dX3_log_58 : decode cX3_log 58 = .ok (.iaload, 1) := dk_46 (dk_at dksX3_log_2 11 rfl rfl)
theorem dX3_log_59 : decode cX3_log 59 = .ok (.goto 4, 3) := dk_167 0 4 (dk_at dksX3_log_2 12 rfl rfl)
theorem dX3_log_62 : decode cX3_log 62 = .ok (.iconst (-1), 1) := dk_2 (dk_at dksX3_log_2 15 rfl rfl)
theorem dX3_log_63 : decode cX3_log 63 = .ok (.ireturn, 1) := dk_172 (dk_at dksX3_log_2 16 rfl rfl)
abbrev cX3_step : ByteArray := prog_14_method_80_code
def yX3_step : MethodName := ⟨RX3, "step", "(III)I"⟩
def dkwX3_step_2 : List UInt8 := [16, 16, 27, 104, 28, 96, 104, 29, 96, 46, 167, 0, 6, 19, 1, 176, 172]
abbrev dktX3_step_2 : List UInt8 := dkwX3_step_2 ++ []
def dkwX3_step_1 : List UInt8 := [133, 184, 0, 230, 153, 0, 33, 29, 133, 9, 20, 1, 98, 184, 0, 230, 153, 0, 21, 42, 180, 0, 52, 7]
abbrev dktX3_step_1 : List UInt8 := dkwX3_step_1 ++ dktX3_step_2
def dkwX3_step_0 : List UInt8 := [42, 3, 181, 0, 109, 42, 27, 182, 1, 173, 153, 0, 51, 28, 133, 9, 42, 180, 0, 55, 27, 46, 4, 100]
abbrev dktX3_step_0 : List UInt8 := dkwX3_step_0 ++ dktX3_step_1
theorem dksX3_step_0 : cX3_step.data.toList.drop 0 = dktX3_step_0 := by decide +kernel
theorem dksX3_step_1 : cX3_step.data.toList.drop 24 = dktX3_step_1 := dk_seg dksX3_step_0 24 rfl rfl
theorem dksX3_step_2 : cX3_step.data.toList.drop 48 = dktX3_step_2 := dk_seg dksX3_step_1 24 rfl rfl
theorem dX3_step_0 : decode cX3_step 0 = .ok (.aload_n 0, 1) := dk_42 (dk_at dksX3_step_0 0 rfl rfl)
theorem dX3_step_1 : decode cX3_step 1 = .ok (.iconst 0, 1) := dk_3 (dk_at dksX3_step_0 1 rfl rfl)
theorem dX3_step_2 : decode cX3_step 2 = .ok (.putfield 109, 3) := dk_181 0 109 (dk_at dksX3_step_0 2 rfl rfl)
theorem dX3_step_5 : decode cX3_step 5 = .ok (.aload_n 0, 1) := dk_42 (dk_at dksX3_step_0 5 rfl rfl)
theorem dX3_step_6 : decode cX3_step 6 = .ok (.iload_n 1, 1) := dk_27 (dk_at dksX3_step_0 6 rfl rfl)
theorem dX3_step_7 : decode cX3_step 7 = .ok (.invokevirtual 429, 3) := dk_182 1 173 (dk_at dksX3_step_0 7 rfl rfl)
theorem dX3_step_10 : decode cX3_step 10 = .ok (.ifCond .eq 51, 3) := dk_153 0 51 (dk_at dksX3_step_0 10 rfl rfl)
theorem dX3_step_13 : decode cX3_step 13 = .ok (.iload_n 2, 1) := dk_28 (dk_at dksX3_step_0 13 rfl rfl)
theorem dX3_step_14 : decode cX3_step 14 = .ok (.i2l, 1) := dk_133 (dk_at dksX3_step_0 14 rfl rfl)
theorem dX3_step_15 : decode cX3_step 15 = .ok (.lconst 0, 1) := dk_9 (dk_at dksX3_step_0 15 rfl rfl)
theorem dX3_step_16 : decode cX3_step 16 = .ok (.aload_n 0, 1) := dk_42 (dk_at dksX3_step_0 16 rfl rfl)
theorem dX3_step_17 : decode cX3_step 17 = .ok (.getfield 55, 3) := dk_180 0 55 (dk_at dksX3_step_0 17 rfl rfl)
theorem dX3_step_20 : decode cX3_step 20 = .ok (.iload_n 1, 1) := dk_27 (dk_at dksX3_step_0 20 rfl rfl)
theorem dX3_step_21 : decode cX3_step 21 = .ok (.iaload, 1) := dk_46 (dk_at dksX3_step_0 21 rfl rfl)
theorem dX3_step_22 : decode cX3_step 22 = .ok (.iconst 1, 1) := dk_4 (dk_at dksX3_step_0 22 rfl rfl)
theorem dX3_step_23 : decode cX3_step 23 = .ok (.isub, 1) := dk_100 (dk_at dksX3_step_0 23 rfl rfl)
theorem dX3_step_24 : decode cX3_step 24 = .ok (.i2l, 1) := dk_133 (dk_at dksX3_step_1 0 rfl rfl)
theorem dX3_step_25 : decode cX3_step 25 = .ok (.invokestatic 230, 3) := dk_184 0 230 (dk_at dksX3_step_1 1 rfl rfl)
theorem dX3_step_28 : decode cX3_step 28 = .ok (.ifCond .eq 33, 3) := dk_153 0 33 (dk_at dksX3_step_1 4 rfl rfl)
theorem dX3_step_31 : decode cX3_step 31 = .ok (.iload_n 3, 1) := dk_29 (dk_at dksX3_step_1 7 rfl rfl)
theorem dX3_step_32 : decode cX3_step 32 = .ok (.i2l, 1) := dk_133 (dk_at dksX3_step_1 8 rfl rfl)
theorem dX3_step_33 : decode cX3_step 33 = .ok (.lconst 0, 1) := dk_9 (dk_at dksX3_step_1 9 rfl rfl)
theorem dX3_step_34 : decode cX3_step 34 = .ok (.ldc2_w 354, 3) := dk_20 1 98 (dk_at dksX3_step_1 10 rfl rfl)
theorem dX3_step_37 : decode cX3_step 37 = .ok (.invokestatic 230, 3) := dk_184 0 230 (dk_at dksX3_step_1 13 rfl rfl)
theorem dX3_step_40 : decode cX3_step 40 = .ok (.ifCond .eq 21, 3) := dk_153 0 21 (dk_at dksX3_step_1 16 rfl rfl)
theorem dX3_step_43 : decode cX3_step 43 = .ok (.aload_n 0, 1) := dk_42 (dk_at dksX3_step_1 19 rfl rfl)
theorem dX3_step_44 : decode cX3_step 44 = .ok (.getfield 52, 3) := dk_180 0 52 (dk_at dksX3_step_1 20 rfl rfl)
theorem dX3_step_47 : decode cX3_step 47 = .ok (.iconst 4, 1) := dk_7 (dk_at dksX3_step_1 23 rfl rfl)
theorem dX3_step_48 : decode cX3_step 48 = .ok (.bipush 16, 2) := dk_16 16 (dk_at dksX3_step_2 0 rfl rfl)
theorem dX3_step_50 : decode cX3_step 50 = .ok (.iload_n 1, 1) := dk_27 (dk_at dksX3_step_2 2 rfl rfl)
theorem dX3_step_51 : decode cX3_step 51 = .ok (.imul, 1) := dk_104 (dk_at dksX3_step_2 3 rfl rfl)
theorem dX3_step_52 : decode cX3_step 52 = .ok (.iload_n 2, 1) := dk_28 (dk_at dksX3_step_2 4 rfl rfl)
theorem dX3_step_53 : decode cX3_step 53 = .ok (.iadd, 1) := dk_96 (dk_at dksX3_step_2 5 rfl rfl)
theorem dX3_step_54 : decode cX3_step 54 = .ok (.imul, 1) := dk_104 (dk_at dksX3_step_2 6 rfl rfl)
theorem dX3_step_55 : decode cX3_step 55 = .ok (.iload_n 3, 1) := dk_29 (dk_at dksX3_step_2 7 rfl rfl)
theorem dX3_step_56 : decode cX3_step 56 = .ok (.iadd, 1) := dk_96 (dk_at dksX3_step_2 8 rfl rfl)
theorem dX3_step_57 : decode cX3_step 57 = .ok (.iaload, 1) := dk_46 (dk_at dksX3_step_2 9 rfl rfl)
theorem dX3_step_58 : decode cX3_step 58 = .ok (.goto 6, 3) := dk_167 0 6 (dk_at dksX3_step_2 10 rfl rfl)
theorem dX3_step_61 : decode cX3_step 61 = .ok (.ldc_w 432, 3) := dk_19 1 176 (dk_at dksX3_step_2 13 rfl rfl)
theorem dX3_step_64 : decode cX3_step 64 = .ok (.ireturn, 1) := dk_172 (dk_at dksX3_step_2 16 rfl rfl)
abbrev cX3_isPlan : ByteArray := prog_14_method_79_code
def yX3_isPlan : MethodName := ⟨RX3, "isPlan", "(I)Z"⟩
def dkwX3_isPlan_0 : List UInt8 := [27, 155, 0, 15, 27, 42, 180, 1, 46, 162, 0, 7, 4, 167, 0, 4, 3, 172]
abbrev dktX3_isPlan_0 : List UInt8 := dkwX3_isPlan_0 ++ []
theorem dksX3_isPlan_0 : cX3_isPlan.data.toList.drop 0 = dktX3_isPlan_0 := by decide +kernel
theorem dX3_isPlan_0 : decode cX3_isPlan 0 = .ok (.iload_n 1, 1) := dk_27 (dk_at dksX3_isPlan_0 0 rfl rfl)
theorem dX3_isPlan_1 : decode cX3_isPlan 1 = .ok (.ifCond .lt 15, 3) := dk_155 0 15 (dk_at dksX3_isPlan_0 1 rfl rfl)
theorem dX3_isPlan_4 : decode cX3_isPlan 4 = .ok (.iload_n 1, 1) := dk_27 (dk_at dksX3_isPlan_0 4 rfl rfl)
theorem dX3_isPlan_5 : decode cX3_isPlan 5 = .ok (.aload_n 0, 1) := dk_42 (dk_at dksX3_isPlan_0 5 rfl rfl)
theorem dX3_isPlan_6 : decode cX3_isPlan 6 = .ok (.getfield 302, 3) := dk_180 1 46 (dk_at dksX3_isPlan_0 6 rfl rfl)
theorem dX3_isPlan_9 : decode cX3_isPlan 9 = .ok (.if_icmp .ge 7, 3) := dk_162 0 7 (dk_at dksX3_isPlan_0 9 rfl rfl)
theorem dX3_isPlan_12 : decode cX3_isPlan 12 = .ok (.iconst 1, 1) := dk_4 (dk_at dksX3_isPlan_0 12 rfl rfl)
theorem dX3_isPlan_13 : decode cX3_isPlan 13 = .ok (.goto 4, 3) := dk_167 0 4 (dk_at dksX3_isPlan_0 13 rfl rfl)
theorem dX3_isPlan_16 : decode cX3_isPlan 16 = .ok (.iconst 0, 1) := dk_3 (dk_at dksX3_isPlan_0 16 rfl rfl)
theorem dX3_isPlan_17 : decode cX3_isPlan 17 = .ok (.ireturn, 1) := dk_172 (dk_at dksX3_isPlan_0 17 rfl rfl)
abbrev cX3_run : ByteArray := prog_14_method_84_code
def yX3_run : MethodName := ⟨RX3, "run", "(II)I"⟩
def dkwX3_run_6 : List UInt8 := [180, 0, 55, 27, 46, 160, 0, 7, 2, 167, 0, 4, 29, 172]
abbrev dktX3_run_6 : List UInt8 := dkwX3_run_6 ++ []
def dkwX3_run_5 : List UInt8 := [132, 6, 1, 167, 255, 227, 132, 3, 1, 167, 255, 179, 28, 4, 160, 0, 6, 21, 4, 172, 29, 42]
abbrev dktX3_run_5 : List UInt8 := dkwX3_run_5 ++ dktX3_run_6
def dkwX3_run_4 : List UInt8 := [21, 5, 182, 1, 184, 162, 0, 24, 21, 4, 42, 42, 180, 0, 61, 21, 5, 182, 1, 187, 96, 54, 4]
abbrev dktX3_run_4 : List UInt8 := dkwX3_run_4 ++ dktX3_run_5
def dkwX3_run_3 : List UInt8 := [104, 182, 1, 181, 153, 0, 54, 7, 16, 16, 27, 104, 29, 96, 104, 54, 5, 3, 54, 6, 21, 6, 42]
abbrev dktX3_run_3 : List UInt8 := dkwX3_run_3 ++ dktX3_run_4
def dkwX3_run_2 : List UInt8 := [54, 4, 29, 42, 180, 0, 55, 27, 46, 162, 0, 73, 42, 42, 180, 0, 61, 7, 16, 16, 27, 104, 29, 96]
abbrev dktX3_run_2 : List UInt8 := dkwX3_run_2 ++ dktX3_run_3
def dkwX3_run_1 : List UInt8 := [184, 0, 230, 154, 0, 7, 19, 1, 176, 172, 42, 180, 0, 58, 42, 180, 0, 61, 184, 1, 177, 3, 62, 3]
abbrev dktX3_run_1 : List UInt8 := dkwX3_run_1 ++ dktX3_run_2
def dkwX3_run_0 : List UInt8 := [42, 3, 181, 0, 109, 42, 27, 182, 1, 173, 153, 0, 20, 42, 180, 1, 51, 153, 0, 13, 28, 133, 9, 10]
abbrev dktX3_run_0 : List UInt8 := dkwX3_run_0 ++ dktX3_run_1
theorem dksX3_run_0 : cX3_run.data.toList.drop 0 = dktX3_run_0 := by decide +kernel
theorem dksX3_run_1 : cX3_run.data.toList.drop 24 = dktX3_run_1 := dk_seg dksX3_run_0 24 rfl rfl
theorem dksX3_run_2 : cX3_run.data.toList.drop 48 = dktX3_run_2 := dk_seg dksX3_run_1 24 rfl rfl
theorem dksX3_run_3 : cX3_run.data.toList.drop 72 = dktX3_run_3 := dk_seg dksX3_run_2 24 rfl rfl
theorem dksX3_run_4 : cX3_run.data.toList.drop 95 = dktX3_run_4 := dk_seg dksX3_run_3 23 rfl rfl
theorem dksX3_run_5 : cX3_run.data.toList.drop 118 = dktX3_run_5 := dk_seg dksX3_run_4 23 rfl rfl
theorem dksX3_run_6 : cX3_run.data.toList.drop 140 = dktX3_run_6 := dk_seg dksX3_run_5 22 rfl rfl
theorem dX3_run_0 : decode cX3_run 0 = .ok (.aload_n 0, 1) := dk_42 (dk_at dksX3_run_0 0 rfl rfl)
theorem dX3_run_1 : decode cX3_run 1 = .ok (.iconst 0, 1) := dk_3 (dk_at dksX3_run_0 1 rfl rfl)
theorem dX3_run_2 : decode cX3_run 2 = .ok (.putfield 109, 3) := dk_181 0 109 (dk_at dksX3_run_0 2 rfl rfl)
theorem dX3_run_5 : decode cX3_run 5 = .ok (.aload_n 0, 1) := dk_42 (dk_at dksX3_run_0 5 rfl rfl)
theorem dX3_run_6 : decode cX3_run 6 = .ok (.iload_n 1, 1) := dk_27 (dk_at dksX3_run_0 6 rfl rfl)
theorem dX3_run_7 : decode cX3_run 7 = .ok (.invokevirtual 429, 3) := dk_182 1 173 (dk_at dksX3_run_0 7 rfl rfl)
theorem dX3_run_10 : decode cX3_run 10 = .ok (.ifCond .eq 20, 3) := dk_153 0 20 (dk_at dksX3_run_0 10 rfl rfl)
theorem dX3_run_13 : decode cX3_run 13 = .ok (.aload_n 0, 1) := dk_42 (dk_at dksX3_run_0 13 rfl rfl)
theorem dX3_run_14 : decode cX3_run 14 = .ok (.getfield 307, 3) := dk_180 1 51 (dk_at dksX3_run_0 14 rfl rfl)
theorem dX3_run_17 : decode cX3_run 17 = .ok (.ifCond .eq 13, 3) := dk_153 0 13 (dk_at dksX3_run_0 17 rfl rfl)
theorem dX3_run_20 : decode cX3_run 20 = .ok (.iload_n 2, 1) := dk_28 (dk_at dksX3_run_0 20 rfl rfl)
theorem dX3_run_21 : decode cX3_run 21 = .ok (.i2l, 1) := dk_133 (dk_at dksX3_run_0 21 rfl rfl)
theorem dX3_run_22 : decode cX3_run 22 = .ok (.lconst 0, 1) := dk_9 (dk_at dksX3_run_0 22 rfl rfl)
theorem dX3_run_23 : decode cX3_run 23 = .ok (.lconst 1, 1) := dk_10 (dk_at dksX3_run_0 23 rfl rfl)
theorem dX3_run_24 : decode cX3_run 24 = .ok (.invokestatic 230, 3) := dk_184 0 230 (dk_at dksX3_run_1 0 rfl rfl)
theorem dX3_run_27 : decode cX3_run 27 = .ok (.ifCond .ne 7, 3) := dk_154 0 7 (dk_at dksX3_run_1 3 rfl rfl)
theorem dX3_run_30 : decode cX3_run 30 = .ok (.ldc_w 432, 3) := dk_19 1 176 (dk_at dksX3_run_1 6 rfl rfl)
theorem dX3_run_33 : decode cX3_run 33 = .ok (.ireturn, 1) := dk_172 (dk_at dksX3_run_1 9 rfl rfl)
theorem dX3_run_34 : decode cX3_run 34 = .ok (.aload_n 0, 1) := dk_42 (dk_at dksX3_run_1 10 rfl rfl)
theorem dX3_run_35 : decode cX3_run 35 = .ok (.getfield 58, 3) := dk_180 0 58 (dk_at dksX3_run_1 11 rfl rfl)
theorem dX3_run_38 : decode cX3_run 38 = .ok (.aload_n 0, 1) := dk_42 (dk_at dksX3_run_1 14 rfl rfl)
theorem dX3_run_39 : decode cX3_run 39 = .ok (.getfield 61, 3) := dk_180 0 61 (dk_at dksX3_run_1 15 rfl rfl)
theorem dX3_run_42 : decode cX3_run 42 = .ok (.invokestatic 433, 3) := dk_184 1 177 (dk_at dksX3_run_1 18 rfl rfl)
theorem dX3_run_45 : decode cX3_run 45 = .ok (.iconst 0, 1) := dk_3 (dk_at dksX3_run_1 21 rfl rfl)
theorem dX3_run_46 : decode cX3_run 46 = .ok (.istore_n 3, 1) := dk_62 (dk_at dksX3_run_1 22 rfl rfl)
theorem dX3_run_47 : decode cX3_run 47 = .ok (.iconst 0, 1) := dk_3 (dk_at dksX3_run_1 23 rfl rfl)
theorem dX3_run_48 : decode cX3_run 48 = .ok (.istore 4, 2) := dk_54 4 (dk_at dksX3_run_2 0 rfl rfl)
theorem dX3_run_50 : decode cX3_run 50 = .ok (.iload_n 3, 1) := dk_29 (dk_at dksX3_run_2 2 rfl rfl)
theorem dX3_run_51 : decode cX3_run 51 = .ok (.aload_n 0, 1) := dk_42 (dk_at dksX3_run_2 3 rfl rfl)
theorem dX3_run_52 : decode cX3_run 52 = .ok (.getfield 55, 3) := dk_180 0 55 (dk_at dksX3_run_2 4 rfl rfl)
theorem dX3_run_55 : decode cX3_run 55 = .ok (.iload_n 1, 1) := dk_27 (dk_at dksX3_run_2 7 rfl rfl)
theorem dX3_run_56 : decode cX3_run 56 = .ok (.iaload, 1) := dk_46 (dk_at dksX3_run_2 8 rfl rfl)
theorem dX3_run_57 : decode cX3_run 57 = .ok (.if_icmp .ge 73, 3) := dk_162 0 73 (dk_at dksX3_run_2 9 rfl rfl)
theorem dX3_run_60 : decode cX3_run 60 = .ok (.aload_n 0, 1) := dk_42 (dk_at dksX3_run_2 12 rfl rfl)
theorem dX3_run_61 : decode cX3_run 61 = .ok (.aload_n 0, 1) := dk_42 (dk_at dksX3_run_2 13 rfl rfl)
theorem dX3_run_62 : decode cX3_run 62 = .ok (.getfield 61, 3) := dk_180 0 61 (dk_at dksX3_run_2 14 rfl rfl)
theorem dX3_run_65 : decode cX3_run 65 = .ok (.iconst 4, 1) := dk_7 (dk_at dksX3_run_2 17 rfl rfl)
theorem dX3_run_66 : decode cX3_run 66 = .ok (.bipush 16, 2) := dk_16 16 (dk_at dksX3_run_2 18 rfl rfl)
theorem dX3_run_68 : decode cX3_run 68 = .ok (.iload_n 1, 1) := dk_27 (dk_at dksX3_run_2 20 rfl rfl)
theorem dX3_run_69 : decode cX3_run 69 = .ok (.imul, 1) := dk_104 (dk_at dksX3_run_2 21 rfl rfl)
theorem dX3_run_70 : decode cX3_run 70 = .ok (.iload_n 3, 1) := dk_29 (dk_at dksX3_run_2 22 rfl rfl)
theorem dX3_run_71 : decode cX3_run 71 = .ok (.iadd, 1) := dk_96 (dk_at dksX3_run_2 23 rfl rfl)
theorem dX3_run_72 : decode cX3_run 72 = .ok (.imul, 1) := dk_104 (dk_at dksX3_run_3 0 rfl rfl)
theorem dX3_run_73 : decode cX3_run 73 = .ok (.invokevirtual 437, 3) := dk_182 1 181 (dk_at dksX3_run_3 1 rfl rfl)
theorem dX3_run_76 : decode cX3_run 76 = .ok (.ifCond .eq 54, 3) := dk_153 0 54 (dk_at dksX3_run_3 4 rfl rfl)
theorem dX3_run_79 : decode cX3_run 79 = .ok (.iconst 4, 1) := dk_7 (dk_at dksX3_run_3 7 rfl rfl)
theorem dX3_run_80 : decode cX3_run 80 = .ok (.bipush 16, 2) := dk_16 16 (dk_at dksX3_run_3 8 rfl rfl)
theorem dX3_run_82 : decode cX3_run 82 = .ok (.iload_n 1, 1) := dk_27 (dk_at dksX3_run_3 10 rfl rfl)
theorem dX3_run_83 : decode cX3_run 83 = .ok (.imul, 1) := dk_104 (dk_at dksX3_run_3 11 rfl rfl)
theorem dX3_run_84 : decode cX3_run 84 = .ok (.iload_n 3, 1) := dk_29 (dk_at dksX3_run_3 12 rfl rfl)
theorem dX3_run_85 : decode cX3_run 85 = .ok (.iadd, 1) := dk_96 (dk_at dksX3_run_3 13 rfl rfl)
theorem dX3_run_86 : decode cX3_run 86 = .ok (.imul, 1) := dk_104 (dk_at dksX3_run_3 14 rfl rfl)
theorem dX3_run_87 : decode cX3_run 87 = .ok (.istore 5, 2) := dk_54 5 (dk_at dksX3_run_3 15 rfl rfl)
theorem dX3_run_89 : decode cX3_run 89 = .ok (.iconst 0, 1) := dk_3 (dk_at dksX3_run_3 17 rfl rfl)
theorem dX3_run_90 : decode cX3_run 90 = .ok (.istore 6, 2) := dk_54 6 (dk_at dksX3_run_3 18 rfl rfl)
theorem dX3_run_92 : decode cX3_run 92 = .ok (.iload 6, 2) := dk_21 6 (dk_at dksX3_run_3 20 rfl rfl)
theorem dX3_run_94 : decode cX3_run 94 = .ok (.aload_n 0, 1) := dk_42 (dk_at dksX3_run_3 22 rfl rfl)
theorem dX3_run_95 : decode cX3_run 95 = .ok (.iload 5, 2) := dk_21 5 (dk_at dksX3_run_4 0 rfl rfl)
theorem dX3_run_97 : decode cX3_run 97 = .ok (.invokevirtual 440, 3) := dk_182 1 184 (dk_at dksX3_run_4 2 rfl rfl)
theorem dX3_run_100 : decode cX3_run 100 = .ok (.if_icmp .ge 24, 3) := dk_162 0 24 (dk_at dksX3_run_4 5 rfl rfl)
theorem dX3_run_103 : decode cX3_run 103 = .ok (.iload 4, 2) := dk_21 4 (dk_at dksX3_run_4 8 rfl rfl)
theorem dX3_run_105 : decode cX3_run 105 = .ok (.aload_n 0, 1) := dk_42 (dk_at dksX3_run_4 10 rfl rfl)
theorem dX3_run_106 : decode cX3_run 106 = .ok (.aload_n 0, 1) := dk_42 (dk_at dksX3_run_4 11 rfl rfl)
theorem dX3_run_107 : decode cX3_run 107 = .ok (.getfield 61, 3) := dk_180 0 61 (dk_at dksX3_run_4 12 rfl rfl)
theorem dX3_run_110 : decode cX3_run 110 = .ok (.iload 5, 2) := dk_21 5 (dk_at dksX3_run_4 15 rfl rfl)
theorem dX3_run_112 : decode cX3_run 112 = .ok (.invokevirtual 443, 3) := dk_182 1 187 (dk_at dksX3_run_4 17 rfl rfl)
theorem dX3_run_115 : decode cX3_run 115 = .ok (.iadd, 1) := dk_96 (dk_at dksX3_run_4 20 rfl rfl)
theorem dX3_run_116 : decode cX3_run 116 = .ok (.istore 4, 2) := dk_54 4 (dk_at dksX3_run_4 21 rfl rfl)
theorem dX3_run_118 : decode cX3_run 118 = .ok (.iinc 6 1, 3) := dk_132 6 1 (dk_at dksX3_run_5 0 rfl rfl)
theorem dX3_run_121 : decode cX3_run 121 = .ok (.goto (-29), 3) := dk_167 255 227 (dk_at dksX3_run_5 3 rfl rfl)
theorem dX3_run_124 : decode cX3_run 124 = .ok (.iinc 3 1, 3) := dk_132 3 1 (dk_at dksX3_run_5 6 rfl rfl)
theorem dX3_run_127 : decode cX3_run 127 = .ok (.goto (-77), 3) := dk_167 255 179 (dk_at dksX3_run_5 9 rfl rfl)
theorem dX3_run_130 : decode cX3_run 130 = .ok (.iload_n 2, 1) := dk_28 (dk_at dksX3_run_5 12 rfl rfl)
theorem dX3_run_131 : decode cX3_run 131 = .ok (.iconst 1, 1) := dk_4 (dk_at dksX3_run_5 13 rfl rfl)
theorem dX3_run_132 : decode cX3_run 132 = .ok (.if_icmp .ne 6, 3) := dk_160 0 6 (dk_at dksX3_run_5 14 rfl rfl)
theorem dX3_run_135 : decode cX3_run 135 = .ok (.iload 4, 2) := dk_21 4 (dk_at dksX3_run_5 17 rfl rfl)
theorem dX3_run_137 : decode cX3_run 137 = .ok (.ireturn, 1) := dk_172 (dk_at dksX3_run_5 19 rfl rfl)
theorem dX3_run_138 : decode cX3_run 138 = .ok (.iload_n 3, 1) := dk_29 (dk_at dksX3_run_5 20 rfl rfl)
theorem dX3_run_139 : decode cX3_run 139 = .ok (.aload_n 0, 1) := dk_42 (dk_at dksX3_run_5 21 rfl rfl)
theorem dX3_run_140 : decode cX3_run 140 = .ok (.getfield 55, 3) := dk_180 0 55 (dk_at dksX3_run_6 0 rfl rfl)
theorem dX3_run_143 : decode cX3_run 143 = .ok (.iload_n 1, 1) := dk_27 (dk_at dksX3_run_6 3 rfl rfl)
theorem dX3_run_144 : decode cX3_run 144 = .ok (.iaload, 1) := dk_46 (dk_at dksX3_run_6 4 rfl rfl)
theorem dX3_run_145 : decode cX3_run 145 = .ok (.if_icmp .ne 7, 3) := dk_160 0 7 (dk_at dksX3_run_6 5 rfl rfl)
theorem dX3_run_148 : decode cX3_run 148 = .ok (.iconst (-1), 1) := dk_2 (dk_at dksX3_run_6 8 rfl rfl)
theorem dX3_run_149 : decode cX3_run 149 = .ok (.goto 4, 3) := dk_167 0 4 (dk_at dksX3_run_6 9 rfl rfl)
theorem dX3_run_152 : decode cX3_run 152 = .ok (.iload_n 3, 1) := dk_29 (dk_at dksX3_run_6 12 rfl rfl)
theorem dX3_run_153 : decode cX3_run 153 = .ok (.ireturn, 1) := dk_172 (dk_at dksX3_run_6 13 rfl rfl)
abbrev cX3_copy : ByteArray := prog_14_method_42_code
def yX3_copy : MethodName := ⟨RX3, "copy", "([I[I)V"⟩
def dkwX3_copy_1 : List UInt8 := [132, 3, 1, 167, 255, 242, 177]
abbrev dktX3_copy_1 : List UInt8 := dkwX3_copy_1 ++ []
def dkwX3_copy_0 : List UInt8 := [16, 43, 7, 42, 16, 42, 46, 104, 96, 61, 3, 62, 29, 28, 162, 0, 15, 43, 29, 42, 29, 46, 79]
abbrev dktX3_copy_0 : List UInt8 := dkwX3_copy_0 ++ dktX3_copy_1
theorem dksX3_copy_0 : cX3_copy.data.toList.drop 0 = dktX3_copy_0 := by decide +kernel
theorem dksX3_copy_1 : cX3_copy.data.toList.drop 23 = dktX3_copy_1 := dk_seg dksX3_copy_0 23 rfl rfl
theorem dX3_copy_0 : decode cX3_copy 0 = .ok (.bipush 43, 2) := dk_16 43 (dk_at dksX3_copy_0 0 rfl rfl)
theorem dX3_copy_2 : decode cX3_copy 2 = .ok (.iconst 4, 1) := dk_7 (dk_at dksX3_copy_0 2 rfl rfl)
theorem dX3_copy_3 : decode cX3_copy 3 = .ok (.aload_n 0, 1) := dk_42 (dk_at dksX3_copy_0 3 rfl rfl)
theorem dX3_copy_4 : decode cX3_copy 4 = .ok (.bipush 42, 2) := dk_16 42 (dk_at dksX3_copy_0 4 rfl rfl)
theorem dX3_copy_6 : decode cX3_copy 6 = .ok (.iaload, 1) := dk_46 (dk_at dksX3_copy_0 6 rfl rfl)
theorem dX3_copy_7 : decode cX3_copy 7 = .ok (.imul, 1) := dk_104 (dk_at dksX3_copy_0 7 rfl rfl)
theorem dX3_copy_8 : decode cX3_copy 8 = .ok (.iadd, 1) := dk_96 (dk_at dksX3_copy_0 8 rfl rfl)
theorem dX3_copy_9 : decode cX3_copy 9 = .ok (.istore_n 2, 1) := dk_61 (dk_at dksX3_copy_0 9 rfl rfl)
theorem dX3_copy_10 : decode cX3_copy 10 = .ok (.iconst 0, 1) := dk_3 (dk_at dksX3_copy_0 10 rfl rfl)
theorem dX3_copy_11 : decode cX3_copy 11 = .ok (.istore_n 3, 1) := dk_62 (dk_at dksX3_copy_0 11 rfl rfl)
theorem dX3_copy_12 : decode cX3_copy 12 = .ok (.iload_n 3, 1) := dk_29 (dk_at dksX3_copy_0 12 rfl rfl)
theorem dX3_copy_13 : decode cX3_copy 13 = .ok (.iload_n 2, 1) := dk_28 (dk_at dksX3_copy_0 13 rfl rfl)
theorem dX3_copy_14 : decode cX3_copy 14 = .ok (.if_icmp .ge 15, 3) := dk_162 0 15 (dk_at dksX3_copy_0 14 rfl rfl)
theorem dX3_copy_17 : decode cX3_copy 17 = .ok (.aload_n 1, 1) := dk_43 (dk_at dksX3_copy_0 17 rfl rfl)
theorem dX3_copy_18 : decode cX3_copy 18 = .ok (.iload_n 3, 1) := dk_29 (dk_at dksX3_copy_0 18 rfl rfl)
theorem dX3_copy_19 : decode cX3_copy 19 = .ok (.aload_n 0, 1) := dk_42 (dk_at dksX3_copy_0 19 rfl rfl)
theorem dX3_copy_20 : decode cX3_copy 20 = .ok (.iload_n 3, 1) := dk_29 (dk_at dksX3_copy_0 20 rfl rfl)
theorem dX3_copy_21 : decode cX3_copy 21 = .ok (.iaload, 1) := dk_46 (dk_at dksX3_copy_0 21 rfl rfl)
theorem dX3_copy_22 : decode cX3_copy 22 = .ok (.iastore, 1) := dk_79 (dk_at dksX3_copy_0 22 rfl rfl)
theorem dX3_copy_23 : decode cX3_copy 23 = .ok (.iinc 3 1, 3) := dk_132 3 1 (dk_at dksX3_copy_1 0 rfl rfl)
theorem dX3_copy_26 : decode cX3_copy 26 = .ok (.goto (-14), 3) := dk_167 255 242 (dk_at dksX3_copy_1 3 rfl rfl)
theorem dX3_copy_29 : decode cX3_copy 29 = .ok (.return_, 1) := dk_177 (dk_at dksX3_copy_1 6 rfl rfl)
abbrev cX3_canStep : ByteArray := prog_14_method_81_code
def yX3_canStep : MethodName := ⟨RX3, "canStep", "([II)Z"⟩
def dkwX3_canStep_3 : List UInt8 := [29, 182, 1, 138, 172, 42, 43, 29, 16, 9, 182, 1, 147, 172, 42, 29, 182, 1, 156, 172]
abbrev dktX3_canStep_3 : List UInt8 := dkwX3_canStep_3 ++ []
def dkwX3_canStep_2 : List UInt8 := [42, 43, 29, 42, 180, 0, 52, 28, 5, 96, 46, 182, 1, 120, 172, 42, 43, 29, 182, 1, 105, 172, 42, 43]
abbrev dktX3_canStep_2 : List UInt8 := dkwX3_canStep_2 ++ dktX3_canStep_3
def dkwX3_canStep_1 : List UInt8 := [170, 0, 0, 0, 67, 0, 0, 0, 0, 0, 0, 0, 3, 0, 0, 0, 29, 0, 0, 0, 44, 0, 0, 0, 51, 0, 0, 0, 58]
abbrev dktX3_canStep_1 : List UInt8 := dkwX3_canStep_1 ++ dktX3_canStep_2
def dkwX3_canStep_0 : List UInt8 := [42, 180, 0, 52, 28, 4, 96, 46, 62, 42, 180, 0, 52, 28, 46]
abbrev dktX3_canStep_0 : List UInt8 := dkwX3_canStep_0 ++ dktX3_canStep_1
theorem dksX3_canStep_0 : cX3_canStep.data.toList.drop 0 = dktX3_canStep_0 := by decide +kernel
theorem dksX3_canStep_1 : cX3_canStep.data.toList.drop 15 = dktX3_canStep_1 := dk_seg dksX3_canStep_0 15 rfl rfl
theorem dksX3_canStep_2 : cX3_canStep.data.toList.drop 44 = dktX3_canStep_2 := dk_seg dksX3_canStep_1 29 rfl rfl
theorem dksX3_canStep_3 : cX3_canStep.data.toList.drop 68 = dktX3_canStep_3 := dk_seg dksX3_canStep_2 24 rfl rfl
theorem dX3_canStep_0 : decode cX3_canStep 0 = .ok (.aload_n 0, 1) := dk_42 (dk_at dksX3_canStep_0 0 rfl rfl)
theorem dX3_canStep_1 : decode cX3_canStep 1 = .ok (.getfield 52, 3) := dk_180 0 52 (dk_at dksX3_canStep_0 1 rfl rfl)
theorem dX3_canStep_4 : decode cX3_canStep 4 = .ok (.iload_n 2, 1) := dk_28 (dk_at dksX3_canStep_0 4 rfl rfl)
theorem dX3_canStep_5 : decode cX3_canStep 5 = .ok (.iconst 1, 1) := dk_4 (dk_at dksX3_canStep_0 5 rfl rfl)
theorem dX3_canStep_6 : decode cX3_canStep 6 = .ok (.iadd, 1) := dk_96 (dk_at dksX3_canStep_0 6 rfl rfl)
theorem dX3_canStep_7 : decode cX3_canStep 7 = .ok (.iaload, 1) := dk_46 (dk_at dksX3_canStep_0 7 rfl rfl)
theorem dX3_canStep_8 : decode cX3_canStep 8 = .ok (.istore_n 3, 1) := dk_62 (dk_at dksX3_canStep_0 8 rfl rfl)
theorem dX3_canStep_9 : decode cX3_canStep 9 = .ok (.aload_n 0, 1) := dk_42 (dk_at dksX3_canStep_0 9 rfl rfl)
theorem dX3_canStep_10 : decode cX3_canStep 10 = .ok (.getfield 52, 3) := dk_180 0 52 (dk_at dksX3_canStep_0 10 rfl rfl)
theorem dX3_canStep_13 : decode cX3_canStep 13 = .ok (.iload_n 2, 1) := dk_28 (dk_at dksX3_canStep_0 13 rfl rfl)
theorem dX3_canStep_14 : decode cX3_canStep 14 = .ok (.iaload, 1) := dk_46 (dk_at dksX3_canStep_0 14 rfl rfl)
theorem dX3_canStep_15 : decode cX3_canStep 15 = .ok (.tableswitch 67 0 3 #[29, 44, 51, 58], 29) := by decide +kernel
theorem dX3_canStep_44 : decode cX3_canStep 44 = .ok (.aload_n 0, 1) := dk_42 (dk_at dksX3_canStep_2 0 rfl rfl)
theorem dX3_canStep_45 : decode cX3_canStep 45 = .ok (.aload_n 1, 1) := dk_43 (dk_at dksX3_canStep_2 1 rfl rfl)
theorem dX3_canStep_46 : decode cX3_canStep 46 = .ok (.iload_n 3, 1) := dk_29 (dk_at dksX3_canStep_2 2 rfl rfl)
theorem dX3_canStep_47 : decode cX3_canStep 47 = .ok (.aload_n 0, 1) := dk_42 (dk_at dksX3_canStep_2 3 rfl rfl)
theorem dX3_canStep_48 : decode cX3_canStep 48 = .ok (.getfield 52, 3) := dk_180 0 52 (dk_at dksX3_canStep_2 4 rfl rfl)
theorem dX3_canStep_51 : decode cX3_canStep 51 = .ok (.iload_n 2, 1) := dk_28 (dk_at dksX3_canStep_2 7 rfl rfl)
theorem dX3_canStep_52 : decode cX3_canStep 52 = .ok (.iconst 2, 1) := dk_5 (dk_at dksX3_canStep_2 8 rfl rfl)
theorem dX3_canStep_53 : decode cX3_canStep 53 = .ok (.iadd, 1) := dk_96 (dk_at dksX3_canStep_2 9 rfl rfl)
theorem dX3_canStep_54 : decode cX3_canStep 54 = .ok (.iaload, 1) := dk_46 (dk_at dksX3_canStep_2 10 rfl rfl)
theorem dX3_canStep_55 : decode cX3_canStep 55 = .ok (.invokevirtual 376, 3) := dk_182 1 120 (dk_at dksX3_canStep_2 11 rfl rfl)
theorem dX3_canStep_58 : decode cX3_canStep 58 = .ok (.ireturn, 1) := dk_172 (dk_at dksX3_canStep_2 14 rfl rfl)
theorem dX3_canStep_59 : decode cX3_canStep 59 = .ok (.aload_n 0, 1) := dk_42 (dk_at dksX3_canStep_2 15 rfl rfl)
theorem dX3_canStep_60 : decode cX3_canStep 60 = .ok (.aload_n 1, 1) := dk_43 (dk_at dksX3_canStep_2 16 rfl rfl)
theorem dX3_canStep_61 : decode cX3_canStep 61 = .ok (.iload_n 3, 1) := dk_29 (dk_at dksX3_canStep_2 17 rfl rfl)
theorem dX3_canStep_62 : decode cX3_canStep 62 = .ok (.invokevirtual 361, 3) := dk_182 1 105 (dk_at dksX3_canStep_2 18 rfl rfl)
theorem dX3_canStep_65 : decode cX3_canStep 65 = .ok (.ireturn, 1) := dk_172 (dk_at dksX3_canStep_2 21 rfl rfl)
theorem dX3_canStep_66 : decode cX3_canStep 66 = .ok (.aload_n 0, 1) := dk_42 (dk_at dksX3_canStep_2 22 rfl rfl)
theorem dX3_canStep_67 : decode cX3_canStep 67 = .ok (.aload_n 1, 1) := dk_43 (dk_at dksX3_canStep_2 23 rfl rfl)
theorem dX3_canStep_68 : decode cX3_canStep 68 = .ok (.iload_n 3, 1) := dk_29 (dk_at dksX3_canStep_3 0 rfl rfl)
theorem dX3_canStep_69 : decode cX3_canStep 69 = .ok (.invokevirtual 394, 3) := dk_182 1 138 (dk_at dksX3_canStep_3 1 rfl rfl)
theorem dX3_canStep_72 : decode cX3_canStep 72 = .ok (.ireturn, 1) := dk_172 (dk_at dksX3_canStep_3 4 rfl rfl)
theorem dX3_canStep_73 : decode cX3_canStep 73 = .ok (.aload_n 0, 1) := dk_42 (dk_at dksX3_canStep_3 5 rfl rfl)
theorem dX3_canStep_74 : decode cX3_canStep 74 = .ok (.aload_n 1, 1) := dk_43 (dk_at dksX3_canStep_3 6 rfl rfl)
theorem dX3_canStep_75 : decode cX3_canStep 75 = .ok (.iload_n 3, 1) := dk_29 (dk_at dksX3_canStep_3 7 rfl rfl)
theorem dX3_canStep_76 : decode cX3_canStep 76 = .ok (.bipush 9, 2) := dk_16 9 (dk_at dksX3_canStep_3 8 rfl rfl)
theorem dX3_canStep_78 : decode cX3_canStep 78 = .ok (.invokevirtual 403, 3) := dk_182 1 147 (dk_at dksX3_canStep_3 10 rfl rfl)
theorem dX3_canStep_81 : decode cX3_canStep 81 = .ok (.ireturn, 1) := dk_172 (dk_at dksX3_canStep_3 13 rfl rfl)
theorem dX3_canStep_82 : decode cX3_canStep 82 = .ok (.aload_n 0, 1) := dk_42 (dk_at dksX3_canStep_3 14 rfl rfl)
theorem dX3_canStep_83 : decode cX3_canStep 83 = .ok (.iload_n 3, 1) := dk_29 (dk_at dksX3_canStep_3 15 rfl rfl)
theorem dX3_canStep_84 : decode cX3_canStep 84 = .ok (.invokevirtual 412, 3) := dk_182 1 156 (dk_at dksX3_canStep_3 16 rfl rfl)
theorem dX3_canStep_87 : decode cX3_canStep 87 = .ok (.ireturn, 1) := dk_172 (dk_at dksX3_canStep_3 19 rfl rfl)
abbrev cX3_timesOf : ByteArray := prog_14_method_83_code
def yX3_timesOf : MethodName := ⟨RX3, "timesOf", "(I)I"⟩
def dkwX3_timesOf_0 : List UInt8 := [42, 180, 0, 52, 27, 46, 6, 160, 0, 14, 42, 180, 0, 52, 27, 4, 96, 46, 167, 0, 4, 4, 172]
abbrev dktX3_timesOf_0 : List UInt8 := dkwX3_timesOf_0 ++ []
theorem dksX3_timesOf_0 : cX3_timesOf.data.toList.drop 0 = dktX3_timesOf_0 := by decide +kernel
theorem dX3_timesOf_0 : decode cX3_timesOf 0 = .ok (.aload_n 0, 1) := dk_42 (dk_at dksX3_timesOf_0 0 rfl rfl)
theorem dX3_timesOf_1 : decode cX3_timesOf 1 = .ok (.getfield 52, 3) := dk_180 0 52 (dk_at dksX3_timesOf_0 1 rfl rfl)
theorem dX3_timesOf_4 : decode cX3_timesOf 4 = .ok (.iload_n 1, 1) := dk_27 (dk_at dksX3_timesOf_0 4 rfl rfl)
theorem dX3_timesOf_5 : decode cX3_timesOf 5 = .ok (.iaload, 1) := dk_46 (dk_at dksX3_timesOf_0 5 rfl rfl)
theorem dX3_timesOf_6 : decode cX3_timesOf 6 = .ok (.iconst 3, 1) := dk_6 (dk_at dksX3_timesOf_0 6 rfl rfl)
theorem dX3_timesOf_7 : decode cX3_timesOf 7 = .ok (.if_icmp .ne 14, 3) := dk_160 0 14 (dk_at dksX3_timesOf_0 7 rfl rfl)
theorem dX3_timesOf_10 : decode cX3_timesOf 10 = .ok (.aload_n 0, 1) := dk_42 (dk_at dksX3_timesOf_0 10 rfl rfl)
theorem dX3_timesOf_11 : decode cX3_timesOf 11 = .ok (.getfield 52, 3) := dk_180 0 52 (dk_at dksX3_timesOf_0 11 rfl rfl)
theorem dX3_timesOf_14 : decode cX3_timesOf 14 = .ok (.iload_n 1, 1) := dk_27 (dk_at dksX3_timesOf_0 14 rfl rfl)
theorem dX3_timesOf_15 : decode cX3_timesOf 15 = .ok (.iconst 1, 1) := dk_4 (dk_at dksX3_timesOf_0 15 rfl rfl)
theorem dX3_timesOf_16 : decode cX3_timesOf 16 = .ok (.iadd, 1) := dk_96 (dk_at dksX3_timesOf_0 16 rfl rfl)
theorem dX3_timesOf_17 : decode cX3_timesOf 17 = .ok (.iaload, 1) := dk_46 (dk_at dksX3_timesOf_0 17 rfl rfl)
theorem dX3_timesOf_18 : decode cX3_timesOf 18 = .ok (.goto 4, 3) := dk_167 0 4 (dk_at dksX3_timesOf_0 18 rfl rfl)
theorem dX3_timesOf_21 : decode cX3_timesOf 21 = .ok (.iconst 1, 1) := dk_4 (dk_at dksX3_timesOf_0 21 rfl rfl)
theorem dX3_timesOf_22 : decode cX3_timesOf 22 = .ok (.ireturn, 1) := dk_172 (dk_at dksX3_timesOf_0 22 rfl rfl)
abbrev cX3_steps : ByteArray := prog_14_method_82_code
def yX3_steps : MethodName := ⟨RX3, "steps", "([II)I"⟩
def dkwX3_steps_4 : List UInt8 := [43, 182, 1, 116, 29, 182, 1, 159, 182, 1, 144, 3, 172]
abbrev dktX3_steps_4 : List UInt8 := dkwX3_steps_4 ++ []
def dkwX3_steps_3 : List UInt8 := [43, 29, 182, 1, 135, 172, 43, 29, 184, 1, 141, 3, 172, 42, 43, 182, 1, 150, 3, 172, 42, 43, 42, 42]
abbrev dktX3_steps_3 : List UInt8 := dkwX3_steps_3 ++ dktX3_steps_4
def dkwX3_steps_2 : List UInt8 := [43, 29, 42, 180, 0, 52, 28, 5, 96, 46, 42, 180, 0, 52, 28, 6, 96, 46, 184, 1, 127, 3, 172, 42]
abbrev dktX3_steps_2 : List UInt8 := dkwX3_steps_2 ++ dktX3_steps_3
def dkwX3_steps_1 : List UInt8 := [170, 0, 0, 0, 73, 0, 0, 0, 0, 0, 0, 0, 3, 0, 0, 0, 29, 0, 0, 0, 52, 0, 0, 0, 59, 0, 0, 0, 66]
abbrev dktX3_steps_1 : List UInt8 := dkwX3_steps_1 ++ dktX3_steps_2
def dkwX3_steps_0 : List UInt8 := [42, 180, 0, 52, 28, 4, 96, 46, 62, 42, 180, 0, 52, 28, 46]
abbrev dktX3_steps_0 : List UInt8 := dkwX3_steps_0 ++ dktX3_steps_1
theorem dksX3_steps_0 : cX3_steps.data.toList.drop 0 = dktX3_steps_0 := by decide +kernel
theorem dksX3_steps_1 : cX3_steps.data.toList.drop 15 = dktX3_steps_1 := dk_seg dksX3_steps_0 15 rfl rfl
theorem dksX3_steps_2 : cX3_steps.data.toList.drop 44 = dktX3_steps_2 := dk_seg dksX3_steps_1 29 rfl rfl
theorem dksX3_steps_3 : cX3_steps.data.toList.drop 68 = dktX3_steps_3 := dk_seg dksX3_steps_2 24 rfl rfl
theorem dksX3_steps_4 : cX3_steps.data.toList.drop 92 = dktX3_steps_4 := dk_seg dksX3_steps_3 24 rfl rfl
theorem dX3_steps_0 : decode cX3_steps 0 = .ok (.aload_n 0, 1) := dk_42 (dk_at dksX3_steps_0 0 rfl rfl)
theorem dX3_steps_1 : decode cX3_steps 1 = .ok (.getfield 52, 3) := dk_180 0 52 (dk_at dksX3_steps_0 1 rfl rfl)
theorem dX3_steps_4 : decode cX3_steps 4 = .ok (.iload_n 2, 1) := dk_28 (dk_at dksX3_steps_0 4 rfl rfl)
theorem dX3_steps_5 : decode cX3_steps 5 = .ok (.iconst 1, 1) := dk_4 (dk_at dksX3_steps_0 5 rfl rfl)
theorem dX3_steps_6 : decode cX3_steps 6 = .ok (.iadd, 1) := dk_96 (dk_at dksX3_steps_0 6 rfl rfl)
theorem dX3_steps_7 : decode cX3_steps 7 = .ok (.iaload, 1) := dk_46 (dk_at dksX3_steps_0 7 rfl rfl)
theorem dX3_steps_8 : decode cX3_steps 8 = .ok (.istore_n 3, 1) := dk_62 (dk_at dksX3_steps_0 8 rfl rfl)
theorem dX3_steps_9 : decode cX3_steps 9 = .ok (.aload_n 0, 1) := dk_42 (dk_at dksX3_steps_0 9 rfl rfl)
theorem dX3_steps_10 : decode cX3_steps 10 = .ok (.getfield 52, 3) := dk_180 0 52 (dk_at dksX3_steps_0 10 rfl rfl)
theorem dX3_steps_13 : decode cX3_steps 13 = .ok (.iload_n 2, 1) := dk_28 (dk_at dksX3_steps_0 13 rfl rfl)
theorem dX3_steps_14 : decode cX3_steps 14 = .ok (.iaload, 1) := dk_46 (dk_at dksX3_steps_0 14 rfl rfl)
theorem dX3_steps_15 : decode cX3_steps 15 = .ok (.tableswitch 73 0 3 #[29, 52, 59, 66], 29) := by decide +kernel
theorem dX3_steps_44 : decode cX3_steps 44 = .ok (.aload_n 1, 1) := dk_43 (dk_at dksX3_steps_2 0 rfl rfl)
theorem dX3_steps_45 : decode cX3_steps 45 = .ok (.iload_n 3, 1) := dk_29 (dk_at dksX3_steps_2 1 rfl rfl)
theorem dX3_steps_46 : decode cX3_steps 46 = .ok (.aload_n 0, 1) := dk_42 (dk_at dksX3_steps_2 2 rfl rfl)
theorem dX3_steps_47 : decode cX3_steps 47 = .ok (.getfield 52, 3) := dk_180 0 52 (dk_at dksX3_steps_2 3 rfl rfl)
theorem dX3_steps_50 : decode cX3_steps 50 = .ok (.iload_n 2, 1) := dk_28 (dk_at dksX3_steps_2 6 rfl rfl)
theorem dX3_steps_51 : decode cX3_steps 51 = .ok (.iconst 2, 1) := dk_5 (dk_at dksX3_steps_2 7 rfl rfl)
theorem dX3_steps_52 : decode cX3_steps 52 = .ok (.iadd, 1) := dk_96 (dk_at dksX3_steps_2 8 rfl rfl)
theorem dX3_steps_53 : decode cX3_steps 53 = .ok (.iaload, 1) := dk_46 (dk_at dksX3_steps_2 9 rfl rfl)
theorem dX3_steps_54 : decode cX3_steps 54 = .ok (.aload_n 0, 1) := dk_42 (dk_at dksX3_steps_2 10 rfl rfl)
theorem dX3_steps_55 : decode cX3_steps 55 = .ok (.getfield 52, 3) := dk_180 0 52 (dk_at dksX3_steps_2 11 rfl rfl)
theorem dX3_steps_58 : decode cX3_steps 58 = .ok (.iload_n 2, 1) := dk_28 (dk_at dksX3_steps_2 14 rfl rfl)
theorem dX3_steps_59 : decode cX3_steps 59 = .ok (.iconst 3, 1) := dk_6 (dk_at dksX3_steps_2 15 rfl rfl)
theorem dX3_steps_60 : decode cX3_steps 60 = .ok (.iadd, 1) := dk_96 (dk_at dksX3_steps_2 16 rfl rfl)
theorem dX3_steps_61 : decode cX3_steps 61 = .ok (.iaload, 1) := dk_46 (dk_at dksX3_steps_2 17 rfl rfl)
theorem dX3_steps_62 : decode cX3_steps 62 = .ok (.invokestatic 383, 3) := dk_184 1 127 (dk_at dksX3_steps_2 18 rfl rfl)
theorem dX3_steps_65 : decode cX3_steps 65 = .ok (.iconst 0, 1) := dk_3 (dk_at dksX3_steps_2 21 rfl rfl)
theorem dX3_steps_66 : decode cX3_steps 66 = .ok (.ireturn, 1) := dk_172 (dk_at dksX3_steps_2 22 rfl rfl)
theorem dX3_steps_67 : decode cX3_steps 67 = .ok (.aload_n 0, 1) := dk_42 (dk_at dksX3_steps_2 23 rfl rfl)
theorem dX3_steps_68 : decode cX3_steps 68 = .ok (.aload_n 1, 1) := dk_43 (dk_at dksX3_steps_3 0 rfl rfl)
theorem dX3_steps_69 : decode cX3_steps 69 = .ok (.iload_n 3, 1) := dk_29 (dk_at dksX3_steps_3 1 rfl rfl)
theorem dX3_steps_70 : decode cX3_steps 70 = .ok (.invokevirtual 391, 3) := dk_182 1 135 (dk_at dksX3_steps_3 2 rfl rfl)
theorem dX3_steps_73 : decode cX3_steps 73 = .ok (.ireturn, 1) := dk_172 (dk_at dksX3_steps_3 5 rfl rfl)
theorem dX3_steps_74 : decode cX3_steps 74 = .ok (.aload_n 1, 1) := dk_43 (dk_at dksX3_steps_3 6 rfl rfl)
theorem dX3_steps_75 : decode cX3_steps 75 = .ok (.iload_n 3, 1) := dk_29 (dk_at dksX3_steps_3 7 rfl rfl)
theorem dX3_steps_76 : decode cX3_steps 76 = .ok (.invokestatic 397, 3) := dk_184 1 141 (dk_at dksX3_steps_3 8 rfl rfl)
theorem dX3_steps_79 : decode cX3_steps 79 = .ok (.iconst 0, 1) := dk_3 (dk_at dksX3_steps_3 11 rfl rfl)
theorem dX3_steps_80 : decode cX3_steps 80 = .ok (.ireturn, 1) := dk_172 (dk_at dksX3_steps_3 12 rfl rfl)
theorem dX3_steps_81 : decode cX3_steps 81 = .ok (.aload_n 0, 1) := dk_42 (dk_at dksX3_steps_3 13 rfl rfl)
theorem dX3_steps_82 : decode cX3_steps 82 = .ok (.aload_n 1, 1) := dk_43 (dk_at dksX3_steps_3 14 rfl rfl)
theorem dX3_steps_83 : decode cX3_steps 83 = .ok (.invokevirtual 406, 3) := dk_182 1 150 (dk_at dksX3_steps_3 15 rfl rfl)
theorem dX3_steps_86 : decode cX3_steps 86 = .ok (.iconst 0, 1) := dk_3 (dk_at dksX3_steps_3 18 rfl rfl)
theorem dX3_steps_87 : decode cX3_steps 87 = .ok (.ireturn, 1) := dk_172 (dk_at dksX3_steps_3 19 rfl rfl)
theorem dX3_steps_88 : decode cX3_steps 88 = .ok (.aload_n 0, 1) := dk_42 (dk_at dksX3_steps_3 20 rfl rfl)
theorem dX3_steps_89 : decode cX3_steps 89 = .ok (.aload_n 1, 1) := dk_43 (dk_at dksX3_steps_3 21 rfl rfl)
theorem dX3_steps_90 : decode cX3_steps 90 = .ok (.aload_n 0, 1) := dk_42 (dk_at dksX3_steps_3 22 rfl rfl)
theorem dX3_steps_91 : decode cX3_steps 91 = .ok (.aload_n 0, 1) := dk_42 (dk_at dksX3_steps_3 23 rfl rfl)
theorem dX3_steps_92 : decode cX3_steps 92 = .ok (.aload_n 1, 1) := dk_43 (dk_at dksX3_steps_4 0 rfl rfl)
theorem dX3_steps_93 : decode cX3_steps 93 = .ok (.invokevirtual 372, 3) := dk_182 1 116 (dk_at dksX3_steps_4 1 rfl rfl)
theorem dX3_steps_96 : decode cX3_steps 96 = .ok (.iload_n 3, 1) := dk_29 (dk_at dksX3_steps_4 4 rfl rfl)
theorem dX3_steps_97 : decode cX3_steps 97 = .ok (.invokevirtual 415, 3) := dk_182 1 159 (dk_at dksX3_steps_4 5 rfl rfl)
theorem dX3_steps_100 : decode cX3_steps 100 = .ok (.invokevirtual 400, 3) := dk_182 1 144 (dk_at dksX3_steps_4 8 rfl rfl)
theorem dX3_steps_103 : decode cX3_steps 103 = .ok (.iconst 0, 1) := dk_3 (dk_at dksX3_steps_4 11 rfl rfl)
theorem dX3_steps_104 : decode cX3_steps 104 = .ok (.ireturn, 1) := dk_172 (dk_at dksX3_steps_4 12 rfl rfl)
abbrev cX3_perform : ByteArray := prog_14_method_85_code
def yX3_perform : MethodName := ⟨RX3, "perform", "(I)I"⟩
def dkwX3_perform_4 : List UInt8 := [167, 255, 228, 132, 2, 1, 167, 255, 181, 28, 172]
abbrev dktX3_perform_4 : List UInt8 := dkwX3_perform_4 ++ []
def dkwX3_perform_3 : List UInt8 := [182, 1, 184, 162, 0, 24, 42, 182, 1, 124, 42, 42, 180, 0, 58, 29, 182, 1, 187, 54, 5, 132, 4, 1]
abbrev dktX3_perform_3 : List UInt8 := dkwX3_perform_3 ++ dktX3_perform_4
def dkwX3_perform_2 : List UInt8 := [182, 1, 181, 153, 0, 52, 7, 16, 16, 27, 104, 28, 96, 104, 62, 3, 54, 4, 21, 4, 42, 29]
abbrev dktX3_perform_2 : List UInt8 := dkwX3_perform_2 ++ dktX3_perform_3
def dkwX3_perform_1 : List UInt8 := [28, 42, 180, 0, 55, 27, 46, 162, 0, 71, 42, 42, 180, 0, 58, 7, 16, 16, 27, 104, 28, 96, 104]
abbrev dktX3_perform_1 : List UInt8 := dkwX3_perform_1 ++ dktX3_perform_2
def dkwX3_perform_0 : List UInt8 := [42, 3, 181, 0, 109, 42, 27, 182, 1, 173, 153, 0, 10, 42, 180, 1, 51, 154, 0, 5, 2, 172, 3, 61]
abbrev dktX3_perform_0 : List UInt8 := dkwX3_perform_0 ++ dktX3_perform_1
theorem dksX3_perform_0 : cX3_perform.data.toList.drop 0 = dktX3_perform_0 := by decide +kernel
theorem dksX3_perform_1 : cX3_perform.data.toList.drop 24 = dktX3_perform_1 := dk_seg dksX3_perform_0 24 rfl rfl
theorem dksX3_perform_2 : cX3_perform.data.toList.drop 47 = dktX3_perform_2 := dk_seg dksX3_perform_1 23 rfl rfl
theorem dksX3_perform_3 : cX3_perform.data.toList.drop 69 = dktX3_perform_3 := dk_seg dksX3_perform_2 22 rfl rfl
theorem dksX3_perform_4 : cX3_perform.data.toList.drop 93 = dktX3_perform_4 := dk_seg dksX3_perform_3 24 rfl rfl
theorem dX3_perform_0 : decode cX3_perform 0 = .ok (.aload_n 0, 1) := dk_42 (dk_at dksX3_perform_0 0 rfl rfl)
theorem dX3_perform_1 : decode cX3_perform 1 = .ok (.iconst 0, 1) := dk_3 (dk_at dksX3_perform_0 1 rfl rfl)
theorem dX3_perform_2 : decode cX3_perform 2 = .ok (.putfield 109, 3) := dk_181 0 109 (dk_at dksX3_perform_0 2 rfl rfl)
theorem dX3_perform_5 : decode cX3_perform 5 = .ok (.aload_n 0, 1) := dk_42 (dk_at dksX3_perform_0 5 rfl rfl)
theorem dX3_perform_6 : decode cX3_perform 6 = .ok (.iload_n 1, 1) := dk_27 (dk_at dksX3_perform_0 6 rfl rfl)
theorem dX3_perform_7 : decode cX3_perform 7 = .ok (.invokevirtual 429, 3) := dk_182 1 173 (dk_at dksX3_perform_0 7 rfl rfl)
theorem dX3_perform_10 : decode cX3_perform 10 = .ok (.ifCond .eq 10, 3) := dk_153 0 10 (dk_at dksX3_perform_0 10 rfl rfl)
theorem dX3_perform_13 : decode cX3_perform 13 = .ok (.aload_n 0, 1) := dk_42 (dk_at dksX3_perform_0 13 rfl rfl)
theorem dX3_perform_14 : decode cX3_perform 14 = .ok (.getfield 307, 3) := dk_180 1 51 (dk_at dksX3_perform_0 14 rfl rfl)
theorem dX3_perform_17 : decode cX3_perform 17 = .ok (.ifCond .ne 5, 3) := dk_154 0 5 (dk_at dksX3_perform_0 17 rfl rfl)
theorem dX3_perform_20 : decode cX3_perform 20 = .ok (.iconst (-1), 1) := dk_2 (dk_at dksX3_perform_0 20 rfl rfl)
theorem dX3_perform_21 : decode cX3_perform 21 = .ok (.ireturn, 1) := dk_172 (dk_at dksX3_perform_0 21 rfl rfl)
theorem dX3_perform_22 : decode cX3_perform 22 = .ok (.iconst 0, 1) := dk_3 (dk_at dksX3_perform_0 22 rfl rfl)
theorem dX3_perform_23 : decode cX3_perform 23 = .ok (.istore_n 2, 1) := dk_61 (dk_at dksX3_perform_0 23 rfl rfl)
theorem dX3_perform_24 : decode cX3_perform 24 = .ok (.iload_n 2, 1) := dk_28 (dk_at dksX3_perform_1 0 rfl rfl)
theorem dX3_perform_25 : decode cX3_perform 25 = .ok (.aload_n 0, 1) := dk_42 (dk_at dksX3_perform_1 1 rfl rfl)
theorem dX3_perform_26 : decode cX3_perform 26 = .ok (.getfield 55, 3) := dk_180 0 55 (dk_at dksX3_perform_1 2 rfl rfl)
theorem dX3_perform_29 : decode cX3_perform 29 = .ok (.iload_n 1, 1) := dk_27 (dk_at dksX3_perform_1 5 rfl rfl)
theorem dX3_perform_30 : decode cX3_perform 30 = .ok (.iaload, 1) := dk_46 (dk_at dksX3_perform_1 6 rfl rfl)
theorem dX3_perform_31 : decode cX3_perform 31 = .ok (.if_icmp .ge 71, 3) := dk_162 0 71 (dk_at dksX3_perform_1 7 rfl rfl)
theorem dX3_perform_34 : decode cX3_perform 34 = .ok (.aload_n 0, 1) := dk_42 (dk_at dksX3_perform_1 10 rfl rfl)
theorem dX3_perform_35 : decode cX3_perform 35 = .ok (.aload_n 0, 1) := dk_42 (dk_at dksX3_perform_1 11 rfl rfl)
theorem dX3_perform_36 : decode cX3_perform 36 = .ok (.getfield 58, 3) := dk_180 0 58 (dk_at dksX3_perform_1 12 rfl rfl)
theorem dX3_perform_39 : decode cX3_perform 39 = .ok (.iconst 4, 1) := dk_7 (dk_at dksX3_perform_1 15 rfl rfl)
theorem dX3_perform_40 : decode cX3_perform 40 = .ok (.bipush 16, 2) := dk_16 16 (dk_at dksX3_perform_1 16 rfl rfl)
theorem dX3_perform_42 : decode cX3_perform 42 = .ok (.iload_n 1, 1) := dk_27 (dk_at dksX3_perform_1 18 rfl rfl)
theorem dX3_perform_43 : decode cX3_perform 43 = .ok (.imul, 1) := dk_104 (dk_at dksX3_perform_1 19 rfl rfl)
theorem dX3_perform_44 : decode cX3_perform 44 = .ok (.iload_n 2, 1) := dk_28 (dk_at dksX3_perform_1 20 rfl rfl)
theorem dX3_perform_45 : decode cX3_perform 45 = .ok (.iadd, 1) := dk_96 (dk_at dksX3_perform_1 21 rfl rfl)
theorem dX3_perform_46 : decode cX3_perform 46 = .ok (.imul, 1) := dk_104 (dk_at dksX3_perform_1 22 rfl rfl)
theorem dX3_perform_47 : decode cX3_perform 47 = .ok (.invokevirtual 437, 3) := dk_182 1 181 (dk_at dksX3_perform_2 0 rfl rfl)
theorem dX3_perform_50 : decode cX3_perform 50 = .ok (.ifCond .eq 52, 3) := dk_153 0 52 (dk_at dksX3_perform_2 3 rfl rfl)
theorem dX3_perform_53 : decode cX3_perform 53 = .ok (.iconst 4, 1) := dk_7 (dk_at dksX3_perform_2 6 rfl rfl)
theorem dX3_perform_54 : decode cX3_perform 54 = .ok (.bipush 16, 2) := dk_16 16 (dk_at dksX3_perform_2 7 rfl rfl)
theorem dX3_perform_56 : decode cX3_perform 56 = .ok (.iload_n 1, 1) := dk_27 (dk_at dksX3_perform_2 9 rfl rfl)
theorem dX3_perform_57 : decode cX3_perform 57 = .ok (.imul, 1) := dk_104 (dk_at dksX3_perform_2 10 rfl rfl)
theorem dX3_perform_58 : decode cX3_perform 58 = .ok (.iload_n 2, 1) := dk_28 (dk_at dksX3_perform_2 11 rfl rfl)
theorem dX3_perform_59 : decode cX3_perform 59 = .ok (.iadd, 1) := dk_96 (dk_at dksX3_perform_2 12 rfl rfl)
theorem dX3_perform_60 : decode cX3_perform 60 = .ok (.imul, 1) := dk_104 (dk_at dksX3_perform_2 13 rfl rfl)
theorem dX3_perform_61 : decode cX3_perform 61 = .ok (.istore_n 3, 1) := dk_62 (dk_at dksX3_perform_2 14 rfl rfl)
theorem dX3_perform_62 : decode cX3_perform 62 = .ok (.iconst 0, 1) := dk_3 (dk_at dksX3_perform_2 15 rfl rfl)
theorem dX3_perform_63 : decode cX3_perform 63 = .ok (.istore 4, 2) := dk_54 4 (dk_at dksX3_perform_2 16 rfl rfl)
theorem dX3_perform_65 : decode cX3_perform 65 = .ok (.iload 4, 2) := dk_21 4 (dk_at dksX3_perform_2 18 rfl rfl)
theorem dX3_perform_67 : decode cX3_perform 67 = .ok (.aload_n 0, 1) := dk_42 (dk_at dksX3_perform_2 20 rfl rfl)
theorem dX3_perform_68 : decode cX3_perform 68 = .ok (.iload_n 3, 1) := dk_29 (dk_at dksX3_perform_2 21 rfl rfl)
theorem dX3_perform_69 : decode cX3_perform 69 = .ok (.invokevirtual 440, 3) := dk_182 1 184 (dk_at dksX3_perform_3 0 rfl rfl)
theorem dX3_perform_72 : decode cX3_perform 72 = .ok (.if_icmp .ge 24, 3) := dk_162 0 24 (dk_at dksX3_perform_3 3 rfl rfl)
theorem dX3_perform_75 : decode cX3_perform 75 = .ok (.aload_n 0, 1) := dk_42 (dk_at dksX3_perform_3 6 rfl rfl)
theorem dX3_perform_76 : decode cX3_perform 76 = .ok (.invokevirtual 380, 3) := dk_182 1 124 (dk_at dksX3_perform_3 7 rfl rfl)
theorem dX3_perform_79 : decode cX3_perform 79 = .ok (.aload_n 0, 1) := dk_42 (dk_at dksX3_perform_3 10 rfl rfl)
theorem dX3_perform_80 : decode cX3_perform 80 = .ok (.aload_n 0, 1) := dk_42 (dk_at dksX3_perform_3 11 rfl rfl)
theorem dX3_perform_81 : decode cX3_perform 81 = .ok (.getfield 58, 3) := dk_180 0 58 (dk_at dksX3_perform_3 12 rfl rfl)
theorem dX3_perform_84 : decode cX3_perform 84 = .ok (.iload_n 3, 1) := dk_29 (dk_at dksX3_perform_3 15 rfl rfl)
theorem dX3_perform_85 : decode cX3_perform 85 = .ok (.invokevirtual 443, 3) := dk_182 1 187 (dk_at dksX3_perform_3 16 rfl rfl)
theorem dX3_perform_88 : decode cX3_perform 88 = .ok (.istore 5, 2) := dk_54 5 (dk_at dksX3_perform_3 19 rfl rfl)
theorem dX3_perform_90 : decode cX3_perform 90 = .ok (.iinc 4 1, 3) := dk_132 4 1 (dk_at dksX3_perform_3 21 rfl rfl)
theorem dX3_perform_93 : decode cX3_perform 93 = .ok (.goto (-28), 3) := dk_167 255 228 (dk_at dksX3_perform_4 0 rfl rfl)
theorem dX3_perform_96 : decode cX3_perform 96 = .ok (.iinc 2 1, 3) := dk_132 2 1 (dk_at dksX3_perform_4 3 rfl rfl)
theorem dX3_perform_99 : decode cX3_perform 99 = .ok (.goto (-75), 3) := dk_167 255 181 (dk_at dksX3_perform_4 6 rfl rfl)
theorem dX3_perform_102 : decode cX3_perform 102 = .ok (.iload_n 2, 1) := dk_28 (dk_at dksX3_perform_4 9 rfl rfl)
theorem dX3_perform_103 : decode cX3_perform 103 = .ok (.ireturn, 1) := dk_172 (dk_at dksX3_perform_4 10 rfl rfl)
abbrev cX3_dinner : ByteArray := prog_14_method_89_code
def yX3_dinner : MethodName := ⟨RX3, "dinner", "(II)I"⟩
def dkwX3_dinner_9 : List UInt8 := [159, 0, 7, 28, 154, 0, 7, 29, 167, 0, 5, 21, 4, 172]
abbrev dktX3_dinner_9 : List UInt8 := dkwX3_dinner_9 ++ []
def dkwX3_dinner_8 : List UInt8 := [167, 0, 14, 21, 6, 62, 21, 9, 54, 4, 21, 7, 54, 5, 132, 6, 1, 167, 255, 100, 29, 2]
abbrev dktX3_dinner_8 : List UInt8 := dkwX3_dinner_8 ++ dktX3_dinner_9
def dkwX3_dinner_7 : List UInt8 := [159, 0, 27, 21, 9, 21, 4, 161, 0, 31, 21, 9, 21, 4, 160, 0, 13, 21, 7, 21, 5, 161, 0, 6]
abbrev dktX3_dinner_7 : List UInt8 := dkwX3_dinner_7 ++ dktX3_dinner_8
def dkwX3_dinner_6 : List UInt8 := [21, 6, 182, 1, 198, 154, 0, 6, 167, 0, 53, 16, 100, 21, 8, 104, 21, 7, 108, 54, 9, 29, 2]
abbrev dktX3_dinner_6 : List UInt8 := dkwX3_dinner_6 ++ dktX3_dinner_7
def dkwX3_dinner_5 : List UInt8 := [180, 0, 58, 21, 9, 182, 1, 94, 96, 54, 8, 132, 9, 1, 167, 255, 197, 21, 7, 27, 161, 0, 65, 42]
abbrev dktX3_dinner_5 : List UInt8 := dkwX3_dinner_5 ++ dktX3_dinner_6
def dkwX3_dinner_4 : List UInt8 := [167, 0, 34, 21, 7, 42, 180, 0, 58, 8, 21, 9, 104, 4, 96, 46, 96, 54, 7, 21, 8, 42, 42]
abbrev dktX3_dinner_4 : List UInt8 := dkwX3_dinner_4 ++ dktX3_dinner_5
def dkwX3_dinner_3 : List UInt8 := [21, 9, 42, 180, 0, 58, 16, 40, 46, 162, 0, 53, 21, 6, 21, 9, 184, 0, 242, 154, 0, 6]
abbrev dktX3_dinner_3 : List UInt8 := dkwX3_dinner_3 ++ dktX3_dinner_4
def dkwX3_dinner_2 : List UInt8 := [21, 6, 4, 42, 180, 0, 58, 16, 40, 46, 120, 162, 0, 148, 3, 54, 7, 3, 54, 8, 3, 54, 9]
abbrev dktX3_dinner_2 : List UInt8 := dkwX3_dinner_2 ++ dktX3_dinner_3
def dkwX3_dinner_1 : List UInt8 := [28, 133, 9, 10, 184, 0, 230, 154, 0, 5, 2, 172, 2, 62, 3, 54, 4, 3, 54, 5, 4, 54, 6]
abbrev dktX3_dinner_1 : List UInt8 := dkwX3_dinner_1 ++ dktX3_dinner_2
def dkwX3_dinner_0 : List UInt8 := [42, 3, 181, 0, 109, 42, 180, 1, 51, 153, 0, 25, 27, 133, 10, 20, 1, 196, 184, 0, 230, 153, 0, 13]
abbrev dktX3_dinner_0 : List UInt8 := dkwX3_dinner_0 ++ dktX3_dinner_1
theorem dksX3_dinner_0 : cX3_dinner.data.toList.drop 0 = dktX3_dinner_0 := by decide +kernel
theorem dksX3_dinner_1 : cX3_dinner.data.toList.drop 24 = dktX3_dinner_1 := dk_seg dksX3_dinner_0 24 rfl rfl
theorem dksX3_dinner_2 : cX3_dinner.data.toList.drop 47 = dktX3_dinner_2 := dk_seg dksX3_dinner_1 23 rfl rfl
theorem dksX3_dinner_3 : cX3_dinner.data.toList.drop 70 = dktX3_dinner_3 := dk_seg dksX3_dinner_2 23 rfl rfl
theorem dksX3_dinner_4 : cX3_dinner.data.toList.drop 92 = dktX3_dinner_4 := dk_seg dksX3_dinner_3 22 rfl rfl
theorem dksX3_dinner_5 : cX3_dinner.data.toList.drop 115 = dktX3_dinner_5 := dk_seg dksX3_dinner_4 23 rfl rfl
theorem dksX3_dinner_6 : cX3_dinner.data.toList.drop 139 = dktX3_dinner_6 := dk_seg dksX3_dinner_5 24 rfl rfl
theorem dksX3_dinner_7 : cX3_dinner.data.toList.drop 162 = dktX3_dinner_7 := dk_seg dksX3_dinner_6 23 rfl rfl
theorem dksX3_dinner_8 : cX3_dinner.data.toList.drop 186 = dktX3_dinner_8 := dk_seg dksX3_dinner_7 24 rfl rfl
theorem dksX3_dinner_9 : cX3_dinner.data.toList.drop 208 = dktX3_dinner_9 := dk_seg dksX3_dinner_8 22 rfl rfl
theorem dX3_dinner_0 : decode cX3_dinner 0 = .ok (.aload_n 0, 1) := dk_42 (dk_at dksX3_dinner_0 0 rfl rfl)
theorem dX3_dinner_1 : decode cX3_dinner 1 = .ok (.iconst 0, 1) := dk_3 (dk_at dksX3_dinner_0 1 rfl rfl)
theorem dX3_dinner_2 : decode cX3_dinner 2 = .ok (.putfield 109, 3) := dk_181 0 109 (dk_at dksX3_dinner_0 2 rfl rfl)
theorem dX3_dinner_5 : decode cX3_dinner 5 = .ok (.aload_n 0, 1) := dk_42 (dk_at dksX3_dinner_0 5 rfl rfl)
theorem dX3_dinner_6 : decode cX3_dinner 6 = .ok (.getfield 307, 3) := dk_180 1 51 (dk_at dksX3_dinner_0 6 rfl rfl)
theorem dX3_dinner_9 : decode cX3_dinner 9 = .ok (.ifCond .eq 25, 3) := dk_153 0 25 (dk_at dksX3_dinner_0 9 rfl rfl)
theorem dX3_dinner_12 : decode cX3_dinner 12 = .ok (.iload_n 1, 1) := dk_27 (dk_at dksX3_dinner_0 12 rfl rfl)
theorem dX3_dinner_13 : decode cX3_dinner 13 = .ok (.i2l, 1) := dk_133 (dk_at dksX3_dinner_0 13 rfl rfl)
theorem dX3_dinner_14 : decode cX3_dinner 14 = .ok (.lconst 1, 1) := dk_10 (dk_at dksX3_dinner_0 14 rfl rfl)
theorem dX3_dinner_15 : decode cX3_dinner 15 = .ok (.ldc2_w 452, 3) := dk_20 1 196 (dk_at dksX3_dinner_0 15 rfl rfl)
theorem dX3_dinner_18 : decode cX3_dinner 18 = .ok (.invokestatic 230, 3) := dk_184 0 230 (dk_at dksX3_dinner_0 18 rfl rfl)
theorem dX3_dinner_21 : decode cX3_dinner 21 = .ok (.ifCond .eq 13, 3) := dk_153 0 13 (dk_at dksX3_dinner_0 21 rfl rfl)
theorem dX3_dinner_24 : decode cX3_dinner 24 = .ok (.iload_n 2, 1) := dk_28 (dk_at dksX3_dinner_1 0 rfl rfl)
theorem dX3_dinner_25 : decode cX3_dinner 25 = .ok (.i2l, 1) := dk_133 (dk_at dksX3_dinner_1 1 rfl rfl)
theorem dX3_dinner_26 : decode cX3_dinner 26 = .ok (.lconst 0, 1) := dk_9 (dk_at dksX3_dinner_1 2 rfl rfl)
theorem dX3_dinner_27 : decode cX3_dinner 27 = .ok (.lconst 1, 1) := dk_10 (dk_at dksX3_dinner_1 3 rfl rfl)
theorem dX3_dinner_28 : decode cX3_dinner 28 = .ok (.invokestatic 230, 3) := dk_184 0 230 (dk_at dksX3_dinner_1 4 rfl rfl)
theorem dX3_dinner_31 : decode cX3_dinner 31 = .ok (.ifCond .ne 5, 3) := dk_154 0 5 (dk_at dksX3_dinner_1 7 rfl rfl)
theorem dX3_dinner_34 : decode cX3_dinner 34 = .ok (.iconst (-1), 1) := dk_2 (dk_at dksX3_dinner_1 10 rfl rfl)
theorem dX3_dinner_35 : decode cX3_dinner 35 = .ok (.ireturn, 1) := dk_172 (dk_at dksX3_dinner_1 11 rfl rfl)
theorem dX3_dinner_36 : decode cX3_dinner 36 = .ok (.iconst (-1), 1) := dk_2 (dk_at dksX3_dinner_1 12 rfl rfl)
theorem dX3_dinner_37 : decode cX3_dinner 37 = .ok (.istore_n 3, 1) := dk_62 (dk_at dksX3_dinner_1 13 rfl rfl)
theorem dX3_dinner_38 : decode cX3_dinner 38 = .ok (.iconst 0, 1) := dk_3 (dk_at dksX3_dinner_1 14 rfl rfl)
theorem dX3_dinner_39 : decode cX3_dinner 39 = .ok (.istore 4, 2) := dk_54 4 (dk_at dksX3_dinner_1 15 rfl rfl)
theorem dX3_dinner_41 : decode cX3_dinner 41 = .ok (.iconst 0, 1) := dk_3 (dk_at dksX3_dinner_1 17 rfl rfl)
theorem dX3_dinner_42 : decode cX3_dinner 42 = .ok (.istore 5, 2) := dk_54 5 (dk_at dksX3_dinner_1 18 rfl rfl)
theorem dX3_dinner_44 : decode cX3_dinner 44 = .ok (.iconst 1, 1) := dk_4 (dk_at dksX3_dinner_1 20 rfl rfl)
theorem dX3_dinner_45 : decode cX3_dinner 45 = .ok (.istore 6, 2) := dk_54 6 (dk_at dksX3_dinner_1 21 rfl rfl)
theorem dX3_dinner_47 : decode cX3_dinner 47 = .ok (.iload 6, 2) := dk_21 6 (dk_at dksX3_dinner_2 0 rfl rfl)
theorem dX3_dinner_49 : decode cX3_dinner 49 = .ok (.iconst 1, 1) := dk_4 (dk_at dksX3_dinner_2 2 rfl rfl)
theorem dX3_dinner_50 : decode cX3_dinner 50 = .ok (.aload_n 0, 1) := dk_42 (dk_at dksX3_dinner_2 3 rfl rfl)
theorem dX3_dinner_51 : decode cX3_dinner 51 = .ok (.getfield 58, 3) := dk_180 0 58 (dk_at dksX3_dinner_2 4 rfl rfl)
theorem dX3_dinner_54 : decode cX3_dinner 54 = .ok (.bipush 40, 2) := dk_16 40 (dk_at dksX3_dinner_2 7 rfl rfl)
theorem dX3_dinner_56 : decode cX3_dinner 56 = .ok (.iaload, 1) := dk_46 (dk_at dksX3_dinner_2 9 rfl rfl)
theorem dX3_dinner_57 : decode cX3_dinner 57 = .ok (.ishl, 1) := dk_120 (dk_at dksX3_dinner_2 10 rfl rfl)
theorem dX3_dinner_58 : decode cX3_dinner 58 = .ok (.if_icmp .ge 148, 3) := dk_162 0 148 (dk_at dksX3_dinner_2 11 rfl rfl)
theorem dX3_dinner_61 : decode cX3_dinner 61 = .ok (.iconst 0, 1) := dk_3 (dk_at dksX3_dinner_2 14 rfl rfl)
theorem dX3_dinner_62 : decode cX3_dinner 62 = .ok (.istore 7, 2) := dk_54 7 (dk_at dksX3_dinner_2 15 rfl rfl)
theorem dX3_dinner_64 : decode cX3_dinner 64 = .ok (.iconst 0, 1) := dk_3 (dk_at dksX3_dinner_2 17 rfl rfl)
theorem dX3_dinner_65 : decode cX3_dinner 65 = .ok (.istore 8, 2) := dk_54 8 (dk_at dksX3_dinner_2 18 rfl rfl)
theorem dX3_dinner_67 : decode cX3_dinner 67 = .ok (.iconst 0, 1) := dk_3 (dk_at dksX3_dinner_2 20 rfl rfl)
theorem dX3_dinner_68 : decode cX3_dinner 68 = .ok (.istore 9, 2) := dk_54 9 (dk_at dksX3_dinner_2 21 rfl rfl)
theorem dX3_dinner_70 : decode cX3_dinner 70 = .ok (.iload 9, 2) := dk_21 9 (dk_at dksX3_dinner_3 0 rfl rfl)
theorem dX3_dinner_72 : decode cX3_dinner 72 = .ok (.aload_n 0, 1) := dk_42 (dk_at dksX3_dinner_3 2 rfl rfl)
theorem dX3_dinner_73 : decode cX3_dinner 73 = .ok (.getfield 58, 3) := dk_180 0 58 (dk_at dksX3_dinner_3 3 rfl rfl)
theorem dX3_dinner_76 : decode cX3_dinner 76 = .ok (.bipush 40, 2) := dk_16 40 (dk_at dksX3_dinner_3 6 rfl rfl)
theorem dX3_dinner_78 : decode cX3_dinner 78 = .ok (.iaload, 1) := dk_46 (dk_at dksX3_dinner_3 8 rfl rfl)
theorem dX3_dinner_79 : decode cX3_dinner 79 = .ok (.if_icmp .ge 53, 3) := dk_162 0 53 (dk_at dksX3_dinner_3 9 rfl rfl)
theorem dX3_dinner_82 : decode cX3_dinner 82 = .ok (.iload 6, 2) := dk_21 6 (dk_at dksX3_dinner_3 12 rfl rfl)
theorem dX3_dinner_84 : decode cX3_dinner 84 = .ok (.iload 9, 2) := dk_21 9 (dk_at dksX3_dinner_3 14 rfl rfl)
theorem dX3_dinner_86 : decode cX3_dinner 86 = .ok (.invokestatic 242, 3) := dk_184 0 242 (dk_at dksX3_dinner_3 16 rfl rfl)
theorem dX3_dinner_89 : decode cX3_dinner 89 = .ok (.ifCond .ne 6, 3) := dk_154 0 6 (dk_at dksX3_dinner_3 19 rfl rfl)
theorem dX3_dinner_92 : decode cX3_dinner 92 = .ok (.goto 34, 3) := dk_167 0 34 (dk_at dksX3_dinner_4 0 rfl rfl)
theorem dX3_dinner_95 : decode cX3_dinner 95 = .ok (.iload 7, 2) := dk_21 7 (dk_at dksX3_dinner_4 3 rfl rfl)
theorem dX3_dinner_97 : decode cX3_dinner 97 = .ok (.aload_n 0, 1) := dk_42 (dk_at dksX3_dinner_4 5 rfl rfl)
theorem dX3_dinner_98 : decode cX3_dinner 98 = .ok (.getfield 58, 3) := dk_180 0 58 (dk_at dksX3_dinner_4 6 rfl rfl)
theorem dX3_dinner_101 : decode cX3_dinner 101 = .ok (.iconst 5, 1) := dk_8 (dk_at dksX3_dinner_4 9 rfl rfl)
theorem dX3_dinner_102 : decode cX3_dinner 102 = .ok (.iload 9, 2) := dk_21 9 (dk_at dksX3_dinner_4 10 rfl rfl)
theorem dX3_dinner_104 : decode cX3_dinner 104 = .ok (.imul, 1) := dk_104 (dk_at dksX3_dinner_4 12 rfl rfl)
theorem dX3_dinner_105 : decode cX3_dinner 105 = .ok (.iconst 1, 1) := dk_4 (dk_at dksX3_dinner_4 13 rfl rfl)
theorem dX3_dinner_106 : decode cX3_dinner 106 = .ok (.iadd, 1) := dk_96 (dk_at dksX3_dinner_4 14 rfl rfl)
theorem dX3_dinner_107 : decode cX3_dinner 107 = .ok (.iaload, 1) := dk_46 (dk_at dksX3_dinner_4 15 rfl rfl)
theorem dX3_dinner_108 : decode cX3_dinner 108 = .ok (.iadd, 1) := dk_96 (dk_at dksX3_dinner_4 16 rfl rfl)
theorem dX3_dinner_109 : decode cX3_dinner 109 = .ok (.istore 7, 2) := dk_54 7 (dk_at dksX3_dinner_4 17 rfl rfl)
theorem dX3_dinner_111 : decode cX3_dinner 111 = .ok (.iload 8, 2) := dk_21 8 (dk_at dksX3_dinner_4 19 rfl rfl)
theorem dX3_dinner_113 : decode cX3_dinner 113 = .ok (.aload_n 0, 1) := dk_42 (dk_at dksX3_dinner_4 21 rfl rfl)
theorem dX3_dinner_114 : decode cX3_dinner 114 = .ok (.aload_n 0, 1) := dk_42 (dk_at dksX3_dinner_4 22 rfl rfl)
theorem dX3_dinner_115 : decode cX3_dinner 115 = .ok (.getfield 58, 3) := dk_180 0 58 (dk_at dksX3_dinner_5 0 rfl rfl)
theorem dX3_dinner_118 : decode cX3_dinner 118 = .ok (.iload 9, 2) := dk_21 9 (dk_at dksX3_dinner_5 3 rfl rfl)
theorem dX3_dinner_120 : decode cX3_dinner 120 = .ok (.invokevirtual 350, 3) := dk_182 1 94 (dk_at dksX3_dinner_5 5 rfl rfl)
theorem dX3_dinner_123 : decode cX3_dinner 123 = .ok (.iadd, 1) := dk_96 (dk_at dksX3_dinner_5 8 rfl rfl)
theorem dX3_dinner_124 : decode cX3_dinner 124 = .ok (.istore 8, 2) := dk_54 8 (dk_at dksX3_dinner_5 9 rfl rfl)
theorem dX3_dinner_126 : decode cX3_dinner 126 = .ok (.iinc 9 1, 3) := dk_132 9 1 (dk_at dksX3_dinner_5 11 rfl rfl)
theorem dX3_dinner_129 : decode cX3_dinner 129 = .ok (.goto (-59), 3) := dk_167 255 197 (dk_at dksX3_dinner_5 14 rfl rfl)
theorem dX3_dinner_132 : decode cX3_dinner 132 = .ok (.iload 7, 2) := dk_21 7 (dk_at dksX3_dinner_5 17 rfl rfl)
theorem dX3_dinner_134 : decode cX3_dinner 134 = .ok (.iload_n 1, 1) := dk_27 (dk_at dksX3_dinner_5 19 rfl rfl)
theorem dX3_dinner_135 : decode cX3_dinner 135 = .ok (.if_icmp .lt 65, 3) := dk_161 0 65 (dk_at dksX3_dinner_5 20 rfl rfl)
theorem dX3_dinner_138 : decode cX3_dinner 138 = .ok (.aload_n 0, 1) := dk_42 (dk_at dksX3_dinner_5 23 rfl rfl)
theorem dX3_dinner_139 : decode cX3_dinner 139 = .ok (.iload 6, 2) := dk_21 6 (dk_at dksX3_dinner_6 0 rfl rfl)
theorem dX3_dinner_141 : decode cX3_dinner 141 = .ok (.invokevirtual 454, 3) := dk_182 1 198 (dk_at dksX3_dinner_6 2 rfl rfl)
theorem dX3_dinner_144 : decode cX3_dinner 144 = .ok (.ifCond .ne 6, 3) := dk_154 0 6 (dk_at dksX3_dinner_6 5 rfl rfl)
theorem dX3_dinner_147 : decode cX3_dinner 147 = .ok (.goto 53, 3) := dk_167 0 53 (dk_at dksX3_dinner_6 8 rfl rfl)
theorem dX3_dinner_150 : decode cX3_dinner 150 = .ok (.bipush 100, 2) := dk_16 100 (dk_at dksX3_dinner_6 11 rfl rfl)
theorem dX3_dinner_152 : decode cX3_dinner 152 = .ok (.iload 8, 2) := dk_21 8 (dk_at dksX3_dinner_6 13 rfl rfl)
theorem dX3_dinner_154 : decode cX3_dinner 154 = .ok (.imul, 1) := dk_104 (dk_at dksX3_dinner_6 15 rfl rfl)
theorem dX3_dinner_155 : decode cX3_dinner 155 = .ok (.iload 7, 2) := dk_21 7 (dk_at dksX3_dinner_6 16 rfl rfl)
theorem dX3_dinner_157 : decode cX3_dinner 157 = .ok (.idiv, 1) := dk_108 (dk_at dksX3_dinner_6 18 rfl rfl)
theorem dX3_dinner_158 : decode cX3_dinner 158 = .ok (.istore 9, 2) := dk_54 9 (dk_at dksX3_dinner_6 19 rfl rfl)
theorem dX3_dinner_160 : decode cX3_dinner 160 = .ok (.iload_n 3, 1) := dk_29 (dk_at dksX3_dinner_6 21 rfl rfl)
theorem dX3_dinner_161 : decode cX3_dinner 161 = .ok (.iconst (-1), 1) := dk_2 (dk_at dksX3_dinner_6 22 rfl rfl)
theorem dX3_dinner_162 : decode cX3_dinner 162 = .ok (.if_icmp .eq 27, 3) := dk_159 0 27 (dk_at dksX3_dinner_7 0 rfl rfl)
theorem dX3_dinner_165 : decode cX3_dinner 165 = .ok (.iload 9, 2) := dk_21 9 (dk_at dksX3_dinner_7 3 rfl rfl)
theorem dX3_dinner_167 : decode cX3_dinner 167 = .ok (.iload 4, 2) := dk_21 4 (dk_at dksX3_dinner_7 5 rfl rfl)
theorem dX3_dinner_169 : decode cX3_dinner 169 = .ok (.if_icmp .lt 31, 3) := dk_161 0 31 (dk_at dksX3_dinner_7 7 rfl rfl)
theorem dX3_dinner_172 : decode cX3_dinner 172 = .ok (.iload 9, 2) := dk_21 9 (dk_at dksX3_dinner_7 10 rfl rfl)
theorem dX3_dinner_174 : decode cX3_dinner 174 = .ok (.iload 4, 2) := dk_21 4 (dk_at dksX3_dinner_7 12 rfl rfl)
theorem dX3_dinner_176 : decode cX3_dinner 176 = .ok (.if_icmp .ne 13, 3) := dk_160 0 13 (dk_at dksX3_dinner_7 14 rfl rfl)
theorem dX3_dinner_179 : decode cX3_dinner 179 = .ok (.iload 7, 2) := dk_21 7 (dk_at dksX3_dinner_7 17 rfl rfl)
theorem dX3_dinner_181 : decode cX3_dinner 181 = .ok (.iload 5, 2) := dk_21 5 (dk_at dksX3_dinner_7 19 rfl rfl)
theorem dX3_dinner_183 : decode cX3_dinner 183 = .ok (.if_icmp .lt 6, 3) := dk_161 0 6 (dk_at dksX3_dinner_7 21 rfl rfl)
theorem dX3_dinner_186 : decode cX3_dinner 186 = .ok (.goto 14, 3) := dk_167 0 14 (dk_at dksX3_dinner_8 0 rfl rfl)
theorem dX3_dinner_189 : decode cX3_dinner 189 = .ok (.iload 6, 2) := dk_21 6 (dk_at dksX3_dinner_8 3 rfl rfl)
theorem dX3_dinner_191 : decode cX3_dinner 191 = .ok (.istore_n 3, 1) := dk_62 (dk_at dksX3_dinner_8 5 rfl rfl)
theorem dX3_dinner_192 : decode cX3_dinner 192 = .ok (.iload 9, 2) := dk_21 9 (dk_at dksX3_dinner_8 6 rfl rfl)
theorem dX3_dinner_194 : decode cX3_dinner 194 = .ok (.istore 4, 2) := dk_54 4 (dk_at dksX3_dinner_8 8 rfl rfl)
theorem dX3_dinner_196 : decode cX3_dinner 196 = .ok (.iload 7, 2) := dk_21 7 (dk_at dksX3_dinner_8 10 rfl rfl)
theorem dX3_dinner_198 : decode cX3_dinner 198 = .ok (.istore 5, 2) := dk_54 5 (dk_at dksX3_dinner_8 12 rfl rfl)
theorem dX3_dinner_200 : decode cX3_dinner 200 = .ok (.iinc 6 1, 3) := dk_132 6 1 (dk_at dksX3_dinner_8 14 rfl rfl)
theorem dX3_dinner_203 : decode cX3_dinner 203 = .ok (.goto (-156), 3) := dk_167 255 100 (dk_at dksX3_dinner_8 17 rfl rfl)
theorem dX3_dinner_206 : decode cX3_dinner 206 = .ok (.iload_n 3, 1) := dk_29 (dk_at dksX3_dinner_8 20 rfl rfl)
theorem dX3_dinner_207 : decode cX3_dinner 207 = .ok (.iconst (-1), 1) := dk_2 (dk_at dksX3_dinner_8 21 rfl rfl)
theorem dX3_dinner_208 : decode cX3_dinner 208 = .ok (.if_icmp .eq 7, 3) := dk_159 0 7 (dk_at dksX3_dinner_9 0 rfl rfl)
theorem dX3_dinner_211 : decode cX3_dinner 211 = .ok (.iload_n 2, 1) := dk_28 (dk_at dksX3_dinner_9 3 rfl rfl)
theorem dX3_dinner_212 : decode cX3_dinner 212 = .ok (.ifCond .ne 7, 3) := dk_154 0 7 (dk_at dksX3_dinner_9 4 rfl rfl)
theorem dX3_dinner_215 : decode cX3_dinner 215 = .ok (.iload_n 3, 1) := dk_29 (dk_at dksX3_dinner_9 7 rfl rfl)
theorem dX3_dinner_216 : decode cX3_dinner 216 = .ok (.goto 5, 3) := dk_167 0 5 (dk_at dksX3_dinner_9 8 rfl rfl)
theorem dX3_dinner_219 : decode cX3_dinner 219 = .ok (.iload 4, 2) := dk_21 4 (dk_at dksX3_dinner_9 11 rfl rfl)
theorem dX3_dinner_221 : decode cX3_dinner 221 = .ok (.ireturn, 1) := dk_172 (dk_at dksX3_dinner_9 13 rfl rfl)
abbrev cX3_isDinner : ByteArray := prog_14_method_88_code
def yX3_isDinner : MethodName := ⟨RX3, "isDinner", "(I)Z"⟩
def dkwX3_isDinner_3 : List UInt8 := [172]
abbrev dktX3_isDinner_3 : List UInt8 := dkwX3_isDinner_3 ++ []
def dkwX3_isDinner_2 : List UInt8 := [182, 1, 190, 182, 1, 193, 154, 0, 5, 3, 172, 132, 3, 1, 167, 255, 213, 132, 2, 1, 167, 255, 194, 4]
abbrev dktX3_isDinner_2 : List UInt8 := dkwX3_isDinner_2 ++ dktX3_isDinner_3
def dkwX3_isDinner_1 : List UInt8 := [184, 0, 242, 153, 0, 30, 27, 29, 184, 0, 242, 153, 0, 22, 42, 42, 28, 182, 1, 190, 42, 29]
abbrev dktX3_isDinner_1 : List UInt8 := dkwX3_isDinner_1 ++ dktX3_isDinner_2
def dkwX3_isDinner_0 : List UInt8 := [3, 61, 28, 42, 180, 0, 58, 16, 40, 46, 162, 0, 57, 3, 62, 29, 28, 162, 0, 44, 27, 28]
abbrev dktX3_isDinner_0 : List UInt8 := dkwX3_isDinner_0 ++ dktX3_isDinner_1
theorem dksX3_isDinner_0 : cX3_isDinner.data.toList.drop 0 = dktX3_isDinner_0 := by decide +kernel
theorem dksX3_isDinner_1 : cX3_isDinner.data.toList.drop 22 = dktX3_isDinner_1 := dk_seg dksX3_isDinner_0 22 rfl rfl
theorem dksX3_isDinner_2 : cX3_isDinner.data.toList.drop 44 = dktX3_isDinner_2 := dk_seg dksX3_isDinner_1 22 rfl rfl
theorem dksX3_isDinner_3 : cX3_isDinner.data.toList.drop 68 = dktX3_isDinner_3 := dk_seg dksX3_isDinner_2 24 rfl rfl
theorem dX3_isDinner_0 : decode cX3_isDinner 0 = .ok (.iconst 0, 1) := dk_3 (dk_at dksX3_isDinner_0 0 rfl rfl)
theorem dX3_isDinner_1 : decode cX3_isDinner 1 = .ok (.istore_n 2, 1) := dk_61 (dk_at dksX3_isDinner_0 1 rfl rfl)
theorem dX3_isDinner_2 : decode cX3_isDinner 2 = .ok (.iload_n 2, 1) := dk_28 (dk_at dksX3_isDinner_0 2 rfl rfl)
theorem dX3_isDinner_3 : decode cX3_isDinner 3 = .ok (.aload_n 0, 1) := dk_42 (dk_at dksX3_isDinner_0 3 rfl rfl)
theorem dX3_isDinner_4 : decode cX3_isDinner 4 = .ok (.getfield 58, 3) := dk_180 0 58 (dk_at dksX3_isDinner_0 4 rfl rfl)
theorem dX3_isDinner_7 : decode cX3_isDinner 7 = .ok (.bipush 40, 2) := dk_16 40 (dk_at dksX3_isDinner_0 7 rfl rfl)
theorem dX3_isDinner_9 : decode cX3_isDinner 9 = .ok (.iaload, 1) := dk_46 (dk_at dksX3_isDinner_0 9 rfl rfl)
theorem dX3_isDinner_10 : decode cX3_isDinner 10 = .ok (.if_icmp .ge 57, 3) := dk_162 0 57 (dk_at dksX3_isDinner_0 10 rfl rfl)
theorem dX3_isDinner_13 : decode cX3_isDinner 13 = .ok (.iconst 0, 1) := dk_3 (dk_at dksX3_isDinner_0 13 rfl rfl)
theorem dX3_isDinner_14 : decode cX3_isDinner 14 = .ok (.istore_n 3, 1) := dk_62 (dk_at dksX3_isDinner_0 14 rfl rfl)
theorem dX3_isDinner_15 : decode cX3_isDinner 15 = .ok (.iload_n 3, 1) := dk_29 (dk_at dksX3_isDinner_0 15 rfl rfl)
theorem dX3_isDinner_16 : decode cX3_isDinner 16 = .ok (.iload_n 2, 1) := dk_28 (dk_at dksX3_isDinner_0 16 rfl rfl)
theorem dX3_isDinner_17 : decode cX3_isDinner 17 = .ok (.if_icmp .ge 44, 3) := dk_162 0 44 (dk_at dksX3_isDinner_0 17 rfl rfl)
theorem dX3_isDinner_20 : decode cX3_isDinner 20 = .ok (.iload_n 1, 1) := dk_27 (dk_at dksX3_isDinner_0 20 rfl rfl)
theorem dX3_isDinner_21 : decode cX3_isDinner 21 = .ok (.iload_n 2, 1) := dk_28 (dk_at dksX3_isDinner_0 21 rfl rfl)
theorem dX3_isDinner_22 : decode cX3_isDinner 22 = .ok (.invokestatic 242, 3) := dk_184 0 242 (dk_at dksX3_isDinner_1 0 rfl rfl)
theorem dX3_isDinner_25 : decode cX3_isDinner 25 = .ok (.ifCond .eq 30, 3) := dk_153 0 30 (dk_at dksX3_isDinner_1 3 rfl rfl)
theorem dX3_isDinner_28 : decode cX3_isDinner 28 = .ok (.iload_n 1, 1) := dk_27 (dk_at dksX3_isDinner_1 6 rfl rfl)
theorem dX3_isDinner_29 : decode cX3_isDinner 29 = .ok (.iload_n 3, 1) := dk_29 (dk_at dksX3_isDinner_1 7 rfl rfl)
theorem dX3_isDinner_30 : decode cX3_isDinner 30 = .ok (.invokestatic 242, 3) := dk_184 0 242 (dk_at dksX3_isDinner_1 8 rfl rfl)
theorem dX3_isDinner_33 : decode cX3_isDinner 33 = .ok (.ifCond .eq 22, 3) := dk_153 0 22 (dk_at dksX3_isDinner_1 11 rfl rfl)
theorem dX3_isDinner_36 : decode cX3_isDinner 36 = .ok (.aload_n 0, 1) := dk_42 (dk_at dksX3_isDinner_1 14 rfl rfl)
theorem dX3_isDinner_37 : decode cX3_isDinner 37 = .ok (.aload_n 0, 1) := dk_42 (dk_at dksX3_isDinner_1 15 rfl rfl)
theorem dX3_isDinner_38 : decode cX3_isDinner 38 = .ok (.iload_n 2, 1) := dk_28 (dk_at dksX3_isDinner_1 16 rfl rfl)
theorem dX3_isDinner_39 : decode cX3_isDinner 39 = .ok (.invokevirtual 446, 3) := dk_182 1 190 (dk_at dksX3_isDinner_1 17 rfl rfl)
theorem dX3_isDinner_42 : decode cX3_isDinner 42 = .ok (.aload_n 0, 1) := dk_42 (dk_at dksX3_isDinner_1 20 rfl rfl)
theorem dX3_isDinner_43 : decode cX3_isDinner 43 = .ok (.iload_n 3, 1) := dk_29 (dk_at dksX3_isDinner_1 21 rfl rfl)
theorem dX3_isDinner_44 : decode cX3_isDinner 44 = .ok (.invokevirtual 446, 3) := dk_182 1 190 (dk_at dksX3_isDinner_2 0 rfl rfl)
theorem dX3_isDinner_47 : decode cX3_isDinner 47 = .ok (.invokevirtual 449, 3) := dk_182 1 193 (dk_at dksX3_isDinner_2 3 rfl rfl)
theorem dX3_isDinner_50 : decode cX3_isDinner 50 = .ok (.ifCond .ne 5, 3) := dk_154 0 5 (dk_at dksX3_isDinner_2 6 rfl rfl)
theorem dX3_isDinner_53 : decode cX3_isDinner 53 = .ok (.iconst 0, 1) := dk_3 (dk_at dksX3_isDinner_2 9 rfl rfl)
theorem dX3_isDinner_54 : decode cX3_isDinner 54 = .ok (.ireturn, 1) := dk_172 (dk_at dksX3_isDinner_2 10 rfl rfl)
theorem dX3_isDinner_55 : decode cX3_isDinner 55 = .ok (.iinc 3 1, 3) := dk_132 3 1 (dk_at dksX3_isDinner_2 11 rfl rfl)
theorem dX3_isDinner_58 : decode cX3_isDinner 58 = .ok (.goto (-43), 3) := dk_167 255 213 (dk_at dksX3_isDinner_2 14 rfl rfl)
theorem dX3_isDinner_61 : decode cX3_isDinner 61 = .ok (.iinc 2 1, 3) := dk_132 2 1 (dk_at dksX3_isDinner_2 17 rfl rfl)
theorem dX3_isDinner_64 : decode cX3_isDinner 64 = .ok (.goto (-62), 3) := dk_167 255 194 (dk_at dksX3_isDinner_2 20 rfl rfl)
theorem dX3_isDinner_67 : decode cX3_isDinner 67 = .ok (.iconst 1, 1) := dk_4 (dk_at dksX3_isDinner_2 23 rfl rfl)
theorem dX3_isDinner_68 : decode cX3_isDinner 68 = .ok (.ireturn, 1) := dk_172 (dk_at dksX3_isDinner_3 0 rfl rfl)
abbrev cX3_kindIn : ByteArray := prog_14_method_87_code
def yX3_kindIn : MethodName := ⟨RX3, "kindIn", "(I)I"⟩
def dkwX3_kindIn_0 : List UInt8 := [42, 180, 0, 58, 8, 27, 104, 3, 96, 46, 172]
abbrev dktX3_kindIn_0 : List UInt8 := dkwX3_kindIn_0 ++ []
theorem dksX3_kindIn_0 : cX3_kindIn.data.toList.drop 0 = dktX3_kindIn_0 := by decide +kernel
theorem dX3_kindIn_0 : decode cX3_kindIn 0 = .ok (.aload_n 0, 1) := dk_42 (dk_at dksX3_kindIn_0 0 rfl rfl)
theorem dX3_kindIn_1 : decode cX3_kindIn 1 = .ok (.getfield 58, 3) := dk_180 0 58 (dk_at dksX3_kindIn_0 1 rfl rfl)
theorem dX3_kindIn_4 : decode cX3_kindIn 4 = .ok (.iconst 5, 1) := dk_8 (dk_at dksX3_kindIn_0 4 rfl rfl)
theorem dX3_kindIn_5 : decode cX3_kindIn 5 = .ok (.iload_n 1, 1) := dk_27 (dk_at dksX3_kindIn_0 5 rfl rfl)
theorem dX3_kindIn_6 : decode cX3_kindIn 6 = .ok (.imul, 1) := dk_104 (dk_at dksX3_kindIn_0 6 rfl rfl)
theorem dX3_kindIn_7 : decode cX3_kindIn 7 = .ok (.iconst 0, 1) := dk_3 (dk_at dksX3_kindIn_0 7 rfl rfl)
theorem dX3_kindIn_8 : decode cX3_kindIn 8 = .ok (.iadd, 1) := dk_96 (dk_at dksX3_kindIn_0 8 rfl rfl)
theorem dX3_kindIn_9 : decode cX3_kindIn 9 = .ok (.iaload, 1) := dk_46 (dk_at dksX3_kindIn_0 9 rfl rfl)
theorem dX3_kindIn_10 : decode cX3_kindIn 10 = .ok (.ireturn, 1) := dk_172 (dk_at dksX3_kindIn_0 10 rfl rfl)
abbrev cX3_fit : ByteArray := prog_14_method_86_code
def yX3_fit : MethodName := ⟨RX3, "fit", "(II)Z"⟩
def dkwX3_fit_1 : List UInt8 := [160, 0, 7, 4, 167, 0, 4, 3, 172]
abbrev dktX3_fit_1 : List UInt8 := dkwX3_fit_1 ++ []
def dkwX3_fit_0 : List UInt8 := [27, 28, 159, 0, 23, 42, 27, 7, 182, 1, 66, 28, 159, 0, 13, 42, 28, 7, 182, 1, 66, 27]
abbrev dktX3_fit_0 : List UInt8 := dkwX3_fit_0 ++ dktX3_fit_1
theorem dksX3_fit_0 : cX3_fit.data.toList.drop 0 = dktX3_fit_0 := by decide +kernel
theorem dksX3_fit_1 : cX3_fit.data.toList.drop 22 = dktX3_fit_1 := dk_seg dksX3_fit_0 22 rfl rfl
theorem dX3_fit_0 : decode cX3_fit 0 = .ok (.iload_n 1, 1) := dk_27 (dk_at dksX3_fit_0 0 rfl rfl)
theorem dX3_fit_1 : decode cX3_fit 1 = .ok (.iload_n 2, 1) := dk_28 (dk_at dksX3_fit_0 1 rfl rfl)
theorem dX3_fit_2 : decode cX3_fit 2 = .ok (.if_icmp .eq 23, 3) := dk_159 0 23 (dk_at dksX3_fit_0 2 rfl rfl)
theorem dX3_fit_5 : decode cX3_fit 5 = .ok (.aload_n 0, 1) := dk_42 (dk_at dksX3_fit_0 5 rfl rfl)
theorem dX3_fit_6 : decode cX3_fit 6 = .ok (.iload_n 1, 1) := dk_27 (dk_at dksX3_fit_0 6 rfl rfl)
theorem dX3_fit_7 : decode cX3_fit 7 = .ok (.iconst 4, 1) := dk_7 (dk_at dksX3_fit_0 7 rfl rfl)
theorem dX3_fit_8 : decode cX3_fit 8 = .ok (.invokevirtual 322, 3) := dk_182 1 66 (dk_at dksX3_fit_0 8 rfl rfl)
theorem dX3_fit_11 : decode cX3_fit 11 = .ok (.iload_n 2, 1) := dk_28 (dk_at dksX3_fit_0 11 rfl rfl)
theorem dX3_fit_12 : decode cX3_fit 12 = .ok (.if_icmp .eq 13, 3) := dk_159 0 13 (dk_at dksX3_fit_0 12 rfl rfl)
theorem dX3_fit_15 : decode cX3_fit 15 = .ok (.aload_n 0, 1) := dk_42 (dk_at dksX3_fit_0 15 rfl rfl)
theorem dX3_fit_16 : decode cX3_fit 16 = .ok (.iload_n 2, 1) := dk_28 (dk_at dksX3_fit_0 16 rfl rfl)
theorem dX3_fit_17 : decode cX3_fit 17 = .ok (.iconst 4, 1) := dk_7 (dk_at dksX3_fit_0 17 rfl rfl)
theorem dX3_fit_18 : decode cX3_fit 18 = .ok (.invokevirtual 322, 3) := dk_182 1 66 (dk_at dksX3_fit_0 18 rfl rfl)
theorem dX3_fit_21 : decode cX3_fit 21 = .ok (.iload_n 1, 1) := dk_27 (dk_at dksX3_fit_0 21 rfl rfl)
theorem dX3_fit_22 : decode cX3_fit 22 = .ok (.if_icmp .ne 7, 3) := dk_160 0 7 (dk_at dksX3_fit_1 0 rfl rfl)
theorem dX3_fit_25 : decode cX3_fit 25 = .ok (.iconst 1, 1) := dk_4 (dk_at dksX3_fit_1 3 rfl rfl)
theorem dX3_fit_26 : decode cX3_fit 26 = .ok (.goto 4, 3) := dk_167 0 4 (dk_at dksX3_fit_1 4 rfl rfl)
theorem dX3_fit_29 : decode cX3_fit 29 = .ok (.iconst 0, 1) := dk_3 (dk_at dksX3_fit_1 7 rfl rfl)
theorem dX3_fit_30 : decode cX3_fit 30 = .ok (.ireturn, 1) := dk_172 (dk_at dksX3_fit_1 8 rfl rfl)
abbrev cX3_eat : ByteArray := prog_14_method_92_code
def yX3_eat : MethodName := ⟨RX3, "eat", "(I)I"⟩
def dkwX3_eat_6 : List UInt8 := [180, 1, 206, 172]
abbrev dktX3_eat_6 : List UInt8 := dkwX3_eat_6 ++ []
def dkwX3_eat_5 : List UInt8 := [4, 28, 120, 4, 100, 3, 3, 3, 182, 1, 215, 27, 154, 0, 10, 42, 180, 1, 209, 167, 0, 7, 42]
abbrev dktX3_eat_5 : List UInt8 := dkwX3_eat_5 ++ dktX3_eat_6
def dkwX3_eat_4 : List UInt8 := [182, 1, 90, 96, 62, 132, 4, 1, 167, 255, 199, 29, 172, 42, 2, 181, 1, 206, 42, 3, 181, 1, 209, 42]
abbrev dktX3_eat_4 : List UInt8 := dkwX3_eat_4 ++ dktX3_eat_5
def dkwX3_eat_3 : List UInt8 := [180, 0, 58, 21, 5, 27, 5, 160, 0, 7, 3, 167, 0, 9, 28, 4, 100, 21, 4, 100, 21, 4]
abbrev dktX3_eat_3 : List UInt8 := dkwX3_eat_3 ++ dktX3_eat_4
def dkwX3_eat_2 : List UInt8 := [162, 0, 57, 27, 5, 160, 0, 12, 28, 4, 100, 21, 4, 100, 167, 0, 5, 21, 4, 54, 5, 29, 42, 42]
abbrev dktX3_eat_2 : List UInt8 := dkwX3_eat_2 ++ dktX3_eat_3
def dkwX3_eat_1 : List UInt8 := [2, 172, 42, 180, 0, 58, 16, 40, 46, 61, 3, 62, 27, 4, 164, 0, 68, 3, 54, 4, 21, 4, 28]
abbrev dktX3_eat_1 : List UInt8 := dkwX3_eat_1 ++ dktX3_eat_2
def dkwX3_eat_0 : List UInt8 := [42, 3, 181, 0, 109, 42, 180, 1, 51, 153, 0, 15, 27, 133, 9, 20, 1, 98, 184, 0, 230, 154, 0, 5]
abbrev dktX3_eat_0 : List UInt8 := dkwX3_eat_0 ++ dktX3_eat_1
theorem dksX3_eat_0 : cX3_eat.data.toList.drop 0 = dktX3_eat_0 := by decide +kernel
theorem dksX3_eat_1 : cX3_eat.data.toList.drop 24 = dktX3_eat_1 := dk_seg dksX3_eat_0 24 rfl rfl
theorem dksX3_eat_2 : cX3_eat.data.toList.drop 47 = dktX3_eat_2 := dk_seg dksX3_eat_1 23 rfl rfl
theorem dksX3_eat_3 : cX3_eat.data.toList.drop 71 = dktX3_eat_3 := dk_seg dksX3_eat_2 24 rfl rfl
theorem dksX3_eat_4 : cX3_eat.data.toList.drop 93 = dktX3_eat_4 := dk_seg dksX3_eat_3 22 rfl rfl
theorem dksX3_eat_5 : cX3_eat.data.toList.drop 117 = dktX3_eat_5 := dk_seg dksX3_eat_4 24 rfl rfl
theorem dksX3_eat_6 : cX3_eat.data.toList.drop 140 = dktX3_eat_6 := dk_seg dksX3_eat_5 23 rfl rfl
theorem dX3_eat_0 : decode cX3_eat 0 = .ok (.aload_n 0, 1) := dk_42 (dk_at dksX3_eat_0 0 rfl rfl)
theorem dX3_eat_1 : decode cX3_eat 1 = .ok (.iconst 0, 1) := dk_3 (dk_at dksX3_eat_0 1 rfl rfl)
theorem dX3_eat_2 : decode cX3_eat 2 = .ok (.putfield 109, 3) := dk_181 0 109 (dk_at dksX3_eat_0 2 rfl rfl)
theorem dX3_eat_5 : decode cX3_eat 5 = .ok (.aload_n 0, 1) := dk_42 (dk_at dksX3_eat_0 5 rfl rfl)
theorem dX3_eat_6 : decode cX3_eat 6 = .ok (.getfield 307, 3) := dk_180 1 51 (dk_at dksX3_eat_0 6 rfl rfl)
theorem dX3_eat_9 : decode cX3_eat 9 = .ok (.ifCond .eq 15, 3) := dk_153 0 15 (dk_at dksX3_eat_0 9 rfl rfl)
theorem dX3_eat_12 : decode cX3_eat 12 = .ok (.iload_n 1, 1) := dk_27 (dk_at dksX3_eat_0 12 rfl rfl)
theorem dX3_eat_13 : decode cX3_eat 13 = .ok (.i2l, 1) := dk_133 (dk_at dksX3_eat_0 13 rfl rfl)
theorem dX3_eat_14 : decode cX3_eat 14 = .ok (.lconst 0, 1) := dk_9 (dk_at dksX3_eat_0 14 rfl rfl)
theorem dX3_eat_15 : decode cX3_eat 15 = .ok (.ldc2_w 354, 3) := dk_20 1 98 (dk_at dksX3_eat_0 15 rfl rfl)
theorem dX3_eat_18 : decode cX3_eat 18 = .ok (.invokestatic 230, 3) := dk_184 0 230 (dk_at dksX3_eat_0 18 rfl rfl)
theorem dX3_eat_21 : decode cX3_eat 21 = .ok (.ifCond .ne 5, 3) := dk_154 0 5 (dk_at dksX3_eat_0 21 rfl rfl)
theorem dX3_eat_24 : decode cX3_eat 24 = .ok (.iconst (-1), 1) := dk_2 (dk_at dksX3_eat_1 0 rfl rfl)
theorem dX3_eat_25 : decode cX3_eat 25 = .ok (.ireturn, 1) := dk_172 (dk_at dksX3_eat_1 1 rfl rfl)
theorem dX3_eat_26 : decode cX3_eat 26 = .ok (.aload_n 0, 1) := dk_42 (dk_at dksX3_eat_1 2 rfl rfl)
theorem dX3_eat_27 : decode cX3_eat 27 = .ok (.getfield 58, 3) := dk_180 0 58 (dk_at dksX3_eat_1 3 rfl rfl)
theorem dX3_eat_30 : decode cX3_eat 30 = .ok (.bipush 40, 2) := dk_16 40 (dk_at dksX3_eat_1 6 rfl rfl)
theorem dX3_eat_32 : decode cX3_eat 32 = .ok (.iaload, 1) := dk_46 (dk_at dksX3_eat_1 8 rfl rfl)
theorem dX3_eat_33 : decode cX3_eat 33 = .ok (.istore_n 2, 1) := dk_61 (dk_at dksX3_eat_1 9 rfl rfl)
theorem dX3_eat_34 : decode cX3_eat 34 = .ok (.iconst 0, 1) := dk_3 (dk_at dksX3_eat_1 10 rfl rfl)
theorem dX3_eat_35 : decode cX3_eat 35 = .ok (.istore_n 3, 1) := dk_62 (dk_at dksX3_eat_1 11 rfl rfl)
theorem dX3_eat_36 : decode cX3_eat 36 = .ok (.iload_n 1, 1) := dk_27 (dk_at dksX3_eat_1 12 rfl rfl)
theorem dX3_eat_37 : decode cX3_eat 37 = .ok (.iconst 1, 1) := dk_4 (dk_at dksX3_eat_1 13 rfl rfl)
theorem dX3_eat_38 : decode cX3_eat 38 = .ok (.if_icmp .le 68, 3) := dk_164 0 68 (dk_at dksX3_eat_1 14 rfl rfl)
theorem dX3_eat_41 : decode cX3_eat 41 = .ok (.iconst 0, 1) := dk_3 (dk_at dksX3_eat_1 17 rfl rfl)
theorem dX3_eat_42 : decode cX3_eat 42 = .ok (.istore 4, 2) := dk_54 4 (dk_at dksX3_eat_1 18 rfl rfl)
theorem dX3_eat_44 : decode cX3_eat 44 = .ok (.iload 4, 2) := dk_21 4 (dk_at dksX3_eat_1 20 rfl rfl)
theorem dX3_eat_46 : decode cX3_eat 46 = .ok (.iload_n 2, 1) := dk_28 (dk_at dksX3_eat_1 22 rfl rfl)
theorem dX3_eat_47 : decode cX3_eat 47 = .ok (.if_icmp .ge 57, 3) := dk_162 0 57 (dk_at dksX3_eat_2 0 rfl rfl)
theorem dX3_eat_50 : decode cX3_eat 50 = .ok (.iload_n 1, 1) := dk_27 (dk_at dksX3_eat_2 3 rfl rfl)
theorem dX3_eat_51 : decode cX3_eat 51 = .ok (.iconst 2, 1) := dk_5 (dk_at dksX3_eat_2 4 rfl rfl)
theorem dX3_eat_52 : decode cX3_eat 52 = .ok (.if_icmp .ne 12, 3) := dk_160 0 12 (dk_at dksX3_eat_2 5 rfl rfl)
theorem dX3_eat_55 : decode cX3_eat 55 = .ok (.iload_n 2, 1) := dk_28 (dk_at dksX3_eat_2 8 rfl rfl)
theorem dX3_eat_56 : decode cX3_eat 56 = .ok (.iconst 1, 1) := dk_4 (dk_at dksX3_eat_2 9 rfl rfl)
theorem dX3_eat_57 : decode cX3_eat 57 = .ok (.isub, 1) := dk_100 (dk_at dksX3_eat_2 10 rfl rfl)
theorem dX3_eat_58 : decode cX3_eat 58 = .ok (.iload 4, 2) := dk_21 4 (dk_at dksX3_eat_2 11 rfl rfl)
theorem dX3_eat_60 : decode cX3_eat 60 = .ok (.isub, 1) := dk_100 (dk_at dksX3_eat_2 13 rfl rfl)
theorem dX3_eat_61 : decode cX3_eat 61 = .ok (.goto 5, 3) := dk_167 0 5 (dk_at dksX3_eat_2 14 rfl rfl)
theorem dX3_eat_64 : decode cX3_eat 64 = .ok (.iload 4, 2) := dk_21 4 (dk_at dksX3_eat_2 17 rfl rfl)
theorem dX3_eat_66 : decode cX3_eat 66 = .ok (.istore 5, 2) := dk_54 5 (dk_at dksX3_eat_2 19 rfl rfl)
theorem dX3_eat_68 : decode cX3_eat 68 = .ok (.iload_n 3, 1) := dk_29 (dk_at dksX3_eat_2 21 rfl rfl)
theorem dX3_eat_69 : decode cX3_eat 69 = .ok (.aload_n 0, 1) := dk_42 (dk_at dksX3_eat_2 22 rfl rfl)
theorem dX3_eat_70 : decode cX3_eat 70 = .ok (.aload_n 0, 1) := dk_42 (dk_at dksX3_eat_2 23 rfl rfl)
theorem dX3_eat_71 : decode cX3_eat 71 = .ok (.getfield 58, 3) := dk_180 0 58 (dk_at dksX3_eat_3 0 rfl rfl)
theorem dX3_eat_74 : decode cX3_eat 74 = .ok (.iload 5, 2) := dk_21 5 (dk_at dksX3_eat_3 3 rfl rfl)
theorem dX3_eat_76 : decode cX3_eat 76 = .ok (.iload_n 1, 1) := dk_27 (dk_at dksX3_eat_3 5 rfl rfl)
theorem dX3_eat_77 : decode cX3_eat 77 = .ok (.iconst 2, 1) := dk_5 (dk_at dksX3_eat_3 6 rfl rfl)
theorem dX3_eat_78 : decode cX3_eat 78 = .ok (.if_icmp .ne 7, 3) := dk_160 0 7 (dk_at dksX3_eat_3 7 rfl rfl)
theorem dX3_eat_81 : decode cX3_eat 81 = .ok (.iconst 0, 1) := dk_3 (dk_at dksX3_eat_3 10 rfl rfl)
theorem dX3_eat_82 : decode cX3_eat 82 = .ok (.goto 9, 3) := dk_167 0 9 (dk_at dksX3_eat_3 11 rfl rfl)
theorem dX3_eat_85 : decode cX3_eat 85 = .ok (.iload_n 2, 1) := dk_28 (dk_at dksX3_eat_3 14 rfl rfl)
theorem dX3_eat_86 : decode cX3_eat 86 = .ok (.iconst 1, 1) := dk_4 (dk_at dksX3_eat_3 15 rfl rfl)
theorem dX3_eat_87 : decode cX3_eat 87 = .ok (.isub, 1) := dk_100 (dk_at dksX3_eat_3 16 rfl rfl)
theorem dX3_eat_88 : decode cX3_eat 88 = .ok (.iload 4, 2) := dk_21 4 (dk_at dksX3_eat_3 17 rfl rfl)
theorem dX3_eat_90 : decode cX3_eat 90 = .ok (.isub, 1) := dk_100 (dk_at dksX3_eat_3 19 rfl rfl)
theorem dX3_eat_91 : decode cX3_eat 91 = .ok (.iload 4, 2) := dk_21 4 (dk_at dksX3_eat_3 20 rfl rfl)
theorem dX3_eat_93 : decode cX3_eat 93 = .ok (.invokevirtual 346, 3) := dk_182 1 90 (dk_at dksX3_eat_4 0 rfl rfl)
theorem dX3_eat_96 : decode cX3_eat 96 = .ok (.iadd, 1) := dk_96 (dk_at dksX3_eat_4 3 rfl rfl)
theorem dX3_eat_97 : decode cX3_eat 97 = .ok (.istore_n 3, 1) := dk_62 (dk_at dksX3_eat_4 4 rfl rfl)
theorem dX3_eat_98 : decode cX3_eat 98 = .ok (.iinc 4 1, 3) := dk_132 4 1 (dk_at dksX3_eat_4 5 rfl rfl)
theorem dX3_eat_101 : decode cX3_eat 101 = .ok (.goto (-57), 3) := dk_167 255 199 (dk_at dksX3_eat_4 8 rfl rfl)
theorem dX3_eat_104 : decode cX3_eat 104 = .ok (.iload_n 3, 1) := dk_29 (dk_at dksX3_eat_4 11 rfl rfl)
theorem dX3_eat_105 : decode cX3_eat 105 = .ok (.ireturn, 1) := dk_172 (dk_at dksX3_eat_4 12 rfl rfl)
theorem dX3_eat_106 : decode cX3_eat 106 = .ok (.aload_n 0, 1) := dk_42 (dk_at dksX3_eat_4 13 rfl rfl)
theorem dX3_eat_107 : decode cX3_eat 107 = .ok (.iconst (-1), 1) := dk_2 (dk_at dksX3_eat_4 14 rfl rfl)
theorem dX3_eat_108 : decode cX3_eat 108 = .ok (.putfield 462, 3) := dk_181 1 206 (dk_at dksX3_eat_4 15 rfl rfl)
theorem dX3_eat_111 : decode cX3_eat 111 = .ok (.aload_n 0, 1) := dk_42 (dk_at dksX3_eat_4 18 rfl rfl)
theorem dX3_eat_112 : decode cX3_eat 112 = .ok (.iconst 0, 1) := dk_3 (dk_at dksX3_eat_4 19 rfl rfl)
theorem dX3_eat_113 : decode cX3_eat 113 = .ok (.putfield 465, 3) := dk_181 1 209 (dk_at dksX3_eat_4 20 rfl rfl)
theorem dX3_eat_116 : decode cX3_eat 116 = .ok (.aload_n 0, 1) := dk_42 (dk_at dksX3_eat_4 23 rfl rfl)
theorem dX3_eat_117 : decode cX3_eat 117 = .ok (.iconst 1, 1) := dk_4 (dk_at dksX3_eat_5 0 rfl rfl)
theorem dX3_eat_118 : decode cX3_eat 118 = .ok (.iload_n 2, 1) := dk_28 (dk_at dksX3_eat_5 1 rfl rfl)
theorem dX3_eat_119 : decode cX3_eat 119 = .ok (.ishl, 1) := dk_120 (dk_at dksX3_eat_5 2 rfl rfl)
theorem dX3_eat_120 : decode cX3_eat 120 = .ok (.iconst 1, 1) := dk_4 (dk_at dksX3_eat_5 3 rfl rfl)
theorem dX3_eat_121 : decode cX3_eat 121 = .ok (.isub, 1) := dk_100 (dk_at dksX3_eat_5 4 rfl rfl)
theorem dX3_eat_122 : decode cX3_eat 122 = .ok (.iconst 0, 1) := dk_3 (dk_at dksX3_eat_5 5 rfl rfl)
theorem dX3_eat_123 : decode cX3_eat 123 = .ok (.iconst 0, 1) := dk_3 (dk_at dksX3_eat_5 6 rfl rfl)
theorem dX3_eat_124 : decode cX3_eat 124 = .ok (.iconst 0, 1) := dk_3 (dk_at dksX3_eat_5 7 rfl rfl)
theorem dX3_eat_125 : decode cX3_eat 125 = .ok (.invokevirtual 471, 3) := dk_182 1 215 (dk_at dksX3_eat_5 8 rfl rfl)
theorem dX3_eat_128 : decode cX3_eat 128 = .ok (.iload_n 1, 1) := dk_27 (dk_at dksX3_eat_5 11 rfl rfl)
theorem dX3_eat_129 : decode cX3_eat 129 = .ok (.ifCond .ne 10, 3) := dk_154 0 10 (dk_at dksX3_eat_5 12 rfl rfl)
theorem dX3_eat_132 : decode cX3_eat 132 = .ok (.aload_n 0, 1) := dk_42 (dk_at dksX3_eat_5 15 rfl rfl)
theorem dX3_eat_133 : decode cX3_eat 133 = .ok (.getfield 465, 3) := dk_180 1 209 (dk_at dksX3_eat_5 16 rfl rfl)
theorem dX3_eat_136 : decode cX3_eat 136 = .ok (.goto 7, 3) := dk_167 0 7 (dk_at dksX3_eat_5 19 rfl rfl)
theorem dX3_eat_139 : decode cX3_eat 139 = .ok (.aload_n 0, 1) := dk_42 (dk_at dksX3_eat_5 22 rfl rfl)
theorem dX3_eat_140 : decode cX3_eat 140 = .ok (.getfield 462, 3) := dk_180 1 206 (dk_at dksX3_eat_6 0 rfl rfl)
theorem dX3_eat_143 : decode cX3_eat 143 = .ok (.ireturn, 1) := dk_172 (dk_at dksX3_eat_6 3 rfl rfl)
abbrev cX3_goEat : ByteArray := prog_14_method_91_code
def yX3_goEat : MethodName := ⟨RX3, "goEat", "(IIII)V"⟩
def dkwX3_goEat_4 : List UInt8 := [104, 21, 5, 96, 182, 1, 215, 132, 5, 1, 167, 255, 189, 177]
abbrev dktX3_goEat_4 : List UInt8 := dkwX3_goEat_4 ++ []
def dkwX3_goEat_3 : List UInt8 := [29, 42, 42, 180, 0, 58, 21, 5, 42, 27, 21, 5, 182, 1, 212, 28, 182, 1, 90, 96, 16, 10, 21, 4]
abbrev dktX3_goEat_3 : List UInt8 := dkwX3_goEat_3 ++ dktX3_goEat_4
def dkwX3_goEat_2 : List UInt8 := [162, 0, 61, 27, 21, 5, 184, 0, 242, 153, 0, 46, 42, 27, 4, 21, 5, 120, 2, 130, 126, 28, 4, 96]
abbrev dktX3_goEat_2 : List UInt8 := dkwX3_goEat_2 ++ dktX3_goEat_3
def dkwX3_goEat_1 : List UInt8 := [181, 1, 206, 42, 21, 4, 181, 1, 209, 177, 3, 54, 5, 21, 5, 42, 180, 0, 58, 16, 40, 46]
abbrev dktX3_goEat_1 : List UInt8 := dkwX3_goEat_1 ++ dktX3_goEat_2
def dkwX3_goEat_0 : List UInt8 := [27, 154, 0, 32, 42, 180, 1, 206, 2, 159, 0, 12, 29, 42, 180, 1, 206, 163, 0, 4, 177, 42, 29]
abbrev dktX3_goEat_0 : List UInt8 := dkwX3_goEat_0 ++ dktX3_goEat_1
theorem dksX3_goEat_0 : cX3_goEat.data.toList.drop 0 = dktX3_goEat_0 := by decide +kernel
theorem dksX3_goEat_1 : cX3_goEat.data.toList.drop 23 = dktX3_goEat_1 := dk_seg dksX3_goEat_0 23 rfl rfl
theorem dksX3_goEat_2 : cX3_goEat.data.toList.drop 45 = dktX3_goEat_2 := dk_seg dksX3_goEat_1 22 rfl rfl
theorem dksX3_goEat_3 : cX3_goEat.data.toList.drop 69 = dktX3_goEat_3 := dk_seg dksX3_goEat_2 24 rfl rfl
theorem dksX3_goEat_4 : cX3_goEat.data.toList.drop 93 = dktX3_goEat_4 := dk_seg dksX3_goEat_3 24 rfl rfl
theorem dX3_goEat_0 : decode cX3_goEat 0 = .ok (.iload_n 1, 1) := dk_27 (dk_at dksX3_goEat_0 0 rfl rfl)
theorem dX3_goEat_1 : decode cX3_goEat 1 = .ok (.ifCond .ne 32, 3) := dk_154 0 32 (dk_at dksX3_goEat_0 1 rfl rfl)
theorem dX3_goEat_4 : decode cX3_goEat 4 = .ok (.aload_n 0, 1) := dk_42 (dk_at dksX3_goEat_0 4 rfl rfl)
theorem dX3_goEat_5 : decode cX3_goEat 5 = .ok (.getfield 462, 3) := dk_180 1 206 (dk_at dksX3_goEat_0 5 rfl rfl)
theorem dX3_goEat_8 : decode cX3_goEat 8 = .ok (.iconst (-1), 1) := dk_2 (dk_at dksX3_goEat_0 8 rfl rfl)
theorem dX3_goEat_9 : decode cX3_goEat 9 = .ok (.if_icmp .eq 12, 3) := dk_159 0 12 (dk_at dksX3_goEat_0 9 rfl rfl)
theorem dX3_goEat_12 : decode cX3_goEat 12 = .ok (.iload_n 3, 1) := dk_29 (dk_at dksX3_goEat_0 12 rfl rfl)
theorem dX3_goEat_13 : decode cX3_goEat 13 = .ok (.aload_n 0, 1) := dk_42 (dk_at dksX3_goEat_0 13 rfl rfl)
theorem dX3_goEat_14 : decode cX3_goEat 14 = .ok (.getfield 462, 3) := dk_180 1 206 (dk_at dksX3_goEat_0 14 rfl rfl)
theorem dX3_goEat_17 : decode cX3_goEat 17 = .ok (.if_icmp .gt 4, 3) := dk_163 0 4 (dk_at dksX3_goEat_0 17 rfl rfl)
theorem dX3_goEat_20 : decode cX3_goEat 20 = .ok (.return_, 1) := dk_177 (dk_at dksX3_goEat_0 20 rfl rfl)
theorem dX3_goEat_21 : decode cX3_goEat 21 = .ok (.aload_n 0, 1) := dk_42 (dk_at dksX3_goEat_0 21 rfl rfl)
theorem dX3_goEat_22 : decode cX3_goEat 22 = .ok (.iload_n 3, 1) := dk_29 (dk_at dksX3_goEat_0 22 rfl rfl)
theorem dX3_goEat_23 : decode cX3_goEat 23 = .ok (.putfield 462, 3) := dk_181 1 206 (dk_at dksX3_goEat_1 0 rfl rfl)
theorem dX3_goEat_26 : decode cX3_goEat 26 = .ok (.aload_n 0, 1) := dk_42 (dk_at dksX3_goEat_1 3 rfl rfl)
theorem dX3_goEat_27 : decode cX3_goEat 27 = .ok (.iload 4, 2) := dk_21 4 (dk_at dksX3_goEat_1 4 rfl rfl)
theorem dX3_goEat_29 : decode cX3_goEat 29 = .ok (.putfield 465, 3) := dk_181 1 209 (dk_at dksX3_goEat_1 6 rfl rfl)
theorem dX3_goEat_32 : decode cX3_goEat 32 = .ok (.return_, 1) := dk_177 (dk_at dksX3_goEat_1 9 rfl rfl)
theorem dX3_goEat_33 : decode cX3_goEat 33 = .ok (.iconst 0, 1) := dk_3 (dk_at dksX3_goEat_1 10 rfl rfl)
theorem dX3_goEat_34 : decode cX3_goEat 34 = .ok (.istore 5, 2) := dk_54 5 (dk_at dksX3_goEat_1 11 rfl rfl)
theorem dX3_goEat_36 : decode cX3_goEat 36 = .ok (.iload 5, 2) := dk_21 5 (dk_at dksX3_goEat_1 13 rfl rfl)
theorem dX3_goEat_38 : decode cX3_goEat 38 = .ok (.aload_n 0, 1) := dk_42 (dk_at dksX3_goEat_1 15 rfl rfl)
theorem dX3_goEat_39 : decode cX3_goEat 39 = .ok (.getfield 58, 3) := dk_180 0 58 (dk_at dksX3_goEat_1 16 rfl rfl)
theorem dX3_goEat_42 : decode cX3_goEat 42 = .ok (.bipush 40, 2) := dk_16 40 (dk_at dksX3_goEat_1 19 rfl rfl)
theorem dX3_goEat_44 : decode cX3_goEat 44 = .ok (.iaload, 1) := dk_46 (dk_at dksX3_goEat_1 21 rfl rfl)
theorem dX3_goEat_45 : decode cX3_goEat 45 = .ok (.if_icmp .ge 61, 3) := dk_162 0 61 (dk_at dksX3_goEat_2 0 rfl rfl)
theorem dX3_goEat_48 : decode cX3_goEat 48 = .ok (.iload_n 1, 1) := dk_27 (dk_at dksX3_goEat_2 3 rfl rfl)
theorem dX3_goEat_49 : decode cX3_goEat 49 = .ok (.iload 5, 2) := dk_21 5 (dk_at dksX3_goEat_2 4 rfl rfl)
theorem dX3_goEat_51 : decode cX3_goEat 51 = .ok (.invokestatic 242, 3) := dk_184 0 242 (dk_at dksX3_goEat_2 6 rfl rfl)
theorem dX3_goEat_54 : decode cX3_goEat 54 = .ok (.ifCond .eq 46, 3) := dk_153 0 46 (dk_at dksX3_goEat_2 9 rfl rfl)
theorem dX3_goEat_57 : decode cX3_goEat 57 = .ok (.aload_n 0, 1) := dk_42 (dk_at dksX3_goEat_2 12 rfl rfl)
theorem dX3_goEat_58 : decode cX3_goEat 58 = .ok (.iload_n 1, 1) := dk_27 (dk_at dksX3_goEat_2 13 rfl rfl)
theorem dX3_goEat_59 : decode cX3_goEat 59 = .ok (.iconst 1, 1) := dk_4 (dk_at dksX3_goEat_2 14 rfl rfl)
theorem dX3_goEat_60 : decode cX3_goEat 60 = .ok (.iload 5, 2) := dk_21 5 (dk_at dksX3_goEat_2 15 rfl rfl)
theorem dX3_goEat_62 : decode cX3_goEat 62 = .ok (.ishl, 1) := dk_120 (dk_at dksX3_goEat_2 17 rfl rfl)
theorem dX3_goEat_63 : decode cX3_goEat 63 = .ok (.iconst (-1), 1) := dk_2 (dk_at dksX3_goEat_2 18 rfl rfl)
theorem dX3_goEat_64 : decode cX3_goEat 64 = .ok (.ixor, 1) := dk_130 (dk_at dksX3_goEat_2 19 rfl rfl)
theorem dX3_goEat_65 : decode cX3_goEat 65 = .ok (.iand, 1) := dk_126 (dk_at dksX3_goEat_2 20 rfl rfl)
theorem dX3_goEat_66 : decode cX3_goEat 66 = .ok (.iload_n 2, 1) := dk_28 (dk_at dksX3_goEat_2 21 rfl rfl)
theorem dX3_goEat_67 : decode cX3_goEat 67 = .ok (.iconst 1, 1) := dk_4 (dk_at dksX3_goEat_2 22 rfl rfl)
theorem dX3_goEat_68 : decode cX3_goEat 68 = .ok (.iadd, 1) := dk_96 (dk_at dksX3_goEat_2 23 rfl rfl)
theorem dX3_goEat_69 : decode cX3_goEat 69 = .ok (.iload_n 3, 1) := dk_29 (dk_at dksX3_goEat_3 0 rfl rfl)
theorem dX3_goEat_70 : decode cX3_goEat 70 = .ok (.aload_n 0, 1) := dk_42 (dk_at dksX3_goEat_3 1 rfl rfl)
theorem dX3_goEat_71 : decode cX3_goEat 71 = .ok (.aload_n 0, 1) := dk_42 (dk_at dksX3_goEat_3 2 rfl rfl)
theorem dX3_goEat_72 : decode cX3_goEat 72 = .ok (.getfield 58, 3) := dk_180 0 58 (dk_at dksX3_goEat_3 3 rfl rfl)
theorem dX3_goEat_75 : decode cX3_goEat 75 = .ok (.iload 5, 2) := dk_21 5 (dk_at dksX3_goEat_3 6 rfl rfl)
theorem dX3_goEat_77 : decode cX3_goEat 77 = .ok (.aload_n 0, 1) := dk_42 (dk_at dksX3_goEat_3 8 rfl rfl)
theorem dX3_goEat_78 : decode cX3_goEat 78 = .ok (.iload_n 1, 1) := dk_27 (dk_at dksX3_goEat_3 9 rfl rfl)
theorem dX3_goEat_79 : decode cX3_goEat 79 = .ok (.iload 5, 2) := dk_21 5 (dk_at dksX3_goEat_3 10 rfl rfl)
theorem dX3_goEat_81 : decode cX3_goEat 81 = .ok (.invokevirtual 468, 3) := dk_182 1 212 (dk_at dksX3_goEat_3 12 rfl rfl)
theorem dX3_goEat_84 : decode cX3_goEat 84 = .ok (.iload_n 2, 1) := dk_28 (dk_at dksX3_goEat_3 15 rfl rfl)
theorem dX3_goEat_85 : decode cX3_goEat 85 = .ok (.invokevirtual 346, 3) := dk_182 1 90 (dk_at dksX3_goEat_3 16 rfl rfl)
theorem dX3_goEat_88 : decode cX3_goEat 88 = .ok (.iadd, 1) := dk_96 (dk_at dksX3_goEat_3 19 rfl rfl)
theorem dX3_goEat_89 : decode cX3_goEat 89 = .ok (.bipush 10, 2) := dk_16 10 (dk_at dksX3_goEat_3 20 rfl rfl)
theorem dX3_goEat_91 : decode cX3_goEat 91 = .ok (.iload 4, 2) := dk_21 4 (dk_at dksX3_goEat_3 22 rfl rfl)
theorem dX3_goEat_93 : decode cX3_goEat 93 = .ok (.imul, 1) := dk_104 (dk_at dksX3_goEat_4 0 rfl rfl)
theorem dX3_goEat_94 : decode cX3_goEat 94 = .ok (.iload 5, 2) := dk_21 5 (dk_at dksX3_goEat_4 1 rfl rfl)
theorem dX3_goEat_96 : decode cX3_goEat 96 = .ok (.iadd, 1) := dk_96 (dk_at dksX3_goEat_4 3 rfl rfl)
theorem dX3_goEat_97 : decode cX3_goEat 97 = .ok (.invokevirtual 471, 3) := dk_182 1 215 (dk_at dksX3_goEat_4 4 rfl rfl)
theorem dX3_goEat_100 : decode cX3_goEat 100 = .ok (.iinc 5 1, 3) := dk_132 5 1 (dk_at dksX3_goEat_4 7 rfl rfl)
theorem dX3_goEat_103 : decode cX3_goEat 103 = .ok (.goto (-67), 3) := dk_167 255 189 (dk_at dksX3_goEat_4 10 rfl rfl)
theorem dX3_goEat_106 : decode cX3_goEat 106 = .ok (.return_, 1) := dk_177 (dk_at dksX3_goEat_4 13 rfl rfl)
abbrev cX3_belowOf : ByteArray := prog_14_method_90_code
def yX3_belowOf : MethodName := ⟨RX3, "belowOf", "(II)I"⟩
def dkwX3_belowOf_0 : List UInt8 := [27, 28, 4, 96, 122, 184, 1, 201, 172]
abbrev dktX3_belowOf_0 : List UInt8 := dkwX3_belowOf_0 ++ []
theorem dksX3_belowOf_0 : cX3_belowOf.data.toList.drop 0 = dktX3_belowOf_0 := by decide +kernel
theorem dX3_belowOf_0 : decode cX3_belowOf 0 = .ok (.iload_n 1, 1) := dk_27 (dk_at dksX3_belowOf_0 0 rfl rfl)
theorem dX3_belowOf_1 : decode cX3_belowOf 1 = .ok (.iload_n 2, 1) := dk_28 (dk_at dksX3_belowOf_0 1 rfl rfl)
theorem dX3_belowOf_2 : decode cX3_belowOf 2 = .ok (.iconst 1, 1) := dk_4 (dk_at dksX3_belowOf_0 2 rfl rfl)
theorem dX3_belowOf_3 : decode cX3_belowOf 3 = .ok (.iadd, 1) := dk_96 (dk_at dksX3_belowOf_0 3 rfl rfl)
theorem dX3_belowOf_4 : decode cX3_belowOf 4 = .ok (.ishr, 1) := dk_122 (dk_at dksX3_belowOf_0 4 rfl rfl)
theorem dX3_belowOf_5 : decode cX3_belowOf 5 = .ok (.invokestatic 457, 3) := dk_184 1 201 (dk_at dksX3_belowOf_0 5 rfl rfl)
theorem dX3_belowOf_8 : decode cX3_belowOf 8 = .ok (.ireturn, 1) := dk_172 (dk_at dksX3_belowOf_0 8 rfl rfl)
abbrev cX3_costs : ByteArray := prog_14_method_93_code
def yX3_costs : MethodName := ⟨RX3, "costs", "(I)I"⟩
def dkwX3_costs_2 : List UInt8 := [42, 42, 180, 0, 58, 182, 1, 219, 42, 42, 180, 0, 61, 182, 1, 219, 100, 172]
abbrev dktX3_costs_2 : List UInt8 := dkwX3_costs_2 ++ []
def dkwX3_costs_1 : List UInt8 := [184, 1, 177, 42, 42, 180, 0, 61, 42, 42, 42, 180, 0, 58, 182, 1, 116, 27, 182, 1, 159, 182, 1, 144]
abbrev dktX3_costs_1 : List UInt8 := dkwX3_costs_1 ++ dktX3_costs_2
def dkwX3_costs_0 : List UInt8 := [42, 3, 181, 0, 109, 42, 27, 182, 1, 156, 154, 0, 5, 2, 172, 42, 180, 0, 58, 42, 180, 0, 61]
abbrev dktX3_costs_0 : List UInt8 := dkwX3_costs_0 ++ dktX3_costs_1
theorem dksX3_costs_0 : cX3_costs.data.toList.drop 0 = dktX3_costs_0 := by decide +kernel
theorem dksX3_costs_1 : cX3_costs.data.toList.drop 23 = dktX3_costs_1 := dk_seg dksX3_costs_0 23 rfl rfl
theorem dksX3_costs_2 : cX3_costs.data.toList.drop 47 = dktX3_costs_2 := dk_seg dksX3_costs_1 24 rfl rfl
theorem dX3_costs_0 : decode cX3_costs 0 = .ok (.aload_n 0, 1) := dk_42 (dk_at dksX3_costs_0 0 rfl rfl)
theorem dX3_costs_1 : decode cX3_costs 1 = .ok (.iconst 0, 1) := dk_3 (dk_at dksX3_costs_0 1 rfl rfl)
theorem dX3_costs_2 : decode cX3_costs 2 = .ok (.putfield 109, 3) := dk_181 0 109 (dk_at dksX3_costs_0 2 rfl rfl)
theorem dX3_costs_5 : decode cX3_costs 5 = .ok (.aload_n 0, 1) := dk_42 (dk_at dksX3_costs_0 5 rfl rfl)
theorem dX3_costs_6 : decode cX3_costs 6 = .ok (.iload_n 1, 1) := dk_27 (dk_at dksX3_costs_0 6 rfl rfl)
theorem dX3_costs_7 : decode cX3_costs 7 = .ok (.invokevirtual 412, 3) := dk_182 1 156 (dk_at dksX3_costs_0 7 rfl rfl)
theorem dX3_costs_10 : decode cX3_costs 10 = .ok (.ifCond .ne 5, 3) := dk_154 0 5 (dk_at dksX3_costs_0 10 rfl rfl)
theorem dX3_costs_13 : decode cX3_costs 13 = .ok (.iconst (-1), 1) := dk_2 (dk_at dksX3_costs_0 13 rfl rfl)
theorem dX3_costs_14 : decode cX3_costs 14 = .ok (.ireturn, 1) := dk_172 (dk_at dksX3_costs_0 14 rfl rfl)
theorem dX3_costs_15 : decode cX3_costs 15 = .ok (.aload_n 0, 1) := dk_42 (dk_at dksX3_costs_0 15 rfl rfl)
theorem dX3_costs_16 : decode cX3_costs 16 = .ok (.getfield 58, 3) := dk_180 0 58 (dk_at dksX3_costs_0 16 rfl rfl)
theorem dX3_costs_19 : decode cX3_costs 19 = .ok (.aload_n 0, 1) := dk_42 (dk_at dksX3_costs_0 19 rfl rfl)
theorem dX3_costs_20 : decode cX3_costs 20 = .ok (.getfield 61, 3) := dk_180 0 61 (dk_at dksX3_costs_0 20 rfl rfl)
theorem dX3_costs_23 : decode cX3_costs 23 = .ok (.invokestatic 433, 3) := dk_184 1 177 (dk_at dksX3_costs_1 0 rfl rfl)
theorem dX3_costs_26 : decode cX3_costs 26 = .ok (.aload_n 0, 1) := dk_42 (dk_at dksX3_costs_1 3 rfl rfl)
theorem dX3_costs_27 : decode cX3_costs 27 = .ok (.aload_n 0, 1) := dk_42 (dk_at dksX3_costs_1 4 rfl rfl)
theorem dX3_costs_28 : decode cX3_costs 28 = .ok (.getfield 61, 3) := dk_180 0 61 (dk_at dksX3_costs_1 5 rfl rfl)
theorem dX3_costs_31 : decode cX3_costs 31 = .ok (.aload_n 0, 1) := dk_42 (dk_at dksX3_costs_1 8 rfl rfl)
theorem dX3_costs_32 : decode cX3_costs 32 = .ok (.aload_n 0, 1) := dk_42 (dk_at dksX3_costs_1 9 rfl rfl)
theorem dX3_costs_33 : decode cX3_costs 33 = .ok (.aload_n 0, 1) := dk_42 (dk_at dksX3_costs_1 10 rfl rfl)
theorem dX3_costs_34 : decode cX3_costs 34 = .ok (.getfield 58, 3) := dk_180 0 58 (dk_at dksX3_costs_1 11 rfl rfl)
theorem dX3_costs_37 : decode cX3_costs 37 = .ok (.invokevirtual 372, 3) := dk_182 1 116 (dk_at dksX3_costs_1 14 rfl rfl)
theorem dX3_costs_40 : decode cX3_costs 40 = .ok (.iload_n 1, 1) := dk_27 (dk_at dksX3_costs_1 17 rfl rfl)
theorem dX3_costs_41 : decode cX3_costs 41 = .ok (.invokevirtual 415, 3) := dk_182 1 159 (dk_at dksX3_costs_1 18 rfl rfl)
theorem dX3_costs_44 : decode cX3_costs 44 = .ok (.invokevirtual 400, 3) := dk_182 1 144 (dk_at dksX3_costs_1 21 rfl rfl)
theorem dX3_costs_47 : decode cX3_costs 47 = .ok (.aload_n 0, 1) := dk_42 (dk_at dksX3_costs_2 0 rfl rfl)
theorem dX3_costs_48 : decode cX3_costs 48 = .ok (.aload_n 0, 1) := dk_42 (dk_at dksX3_costs_2 1 rfl rfl)
theorem dX3_costs_49 : decode cX3_costs 49 = .ok (.getfield 58, 3) := dk_180 0 58 (dk_at dksX3_costs_2 2 rfl rfl)
theorem dX3_costs_52 : decode cX3_costs 52 = .ok (.invokevirtual 475, 3) := dk_182 1 219 (dk_at dksX3_costs_2 5 rfl rfl)
theorem dX3_costs_55 : decode cX3_costs 55 = .ok (.aload_n 0, 1) := dk_42 (dk_at dksX3_costs_2 8 rfl rfl)
theorem dX3_costs_56 : decode cX3_costs 56 = .ok (.aload_n 0, 1) := dk_42 (dk_at dksX3_costs_2 9 rfl rfl)
theorem dX3_costs_57 : decode cX3_costs 57 = .ok (.getfield 61, 3) := dk_180 0 61 (dk_at dksX3_costs_2 10 rfl rfl)
theorem dX3_costs_60 : decode cX3_costs 60 = .ok (.invokevirtual 475, 3) := dk_182 1 219 (dk_at dksX3_costs_2 13 rfl rfl)
theorem dX3_costs_63 : decode cX3_costs 63 = .ok (.isub, 1) := dk_100 (dk_at dksX3_costs_2 16 rfl rfl)
theorem dX3_costs_64 : decode cX3_costs 64 = .ok (.ireturn, 1) := dk_172 (dk_at dksX3_costs_2 17 rfl rfl)
abbrev cX3_valueIn : ByteArray := prog_14_method_51_code
def yX3_valueIn : MethodName := ⟨RX3, "valueIn", "([I)I"⟩
def dkwX3_valueIn_1 : List UInt8 := [167, 255, 236, 28, 172]
abbrev dktX3_valueIn_1 : List UInt8 := dkwX3_valueIn_1 ++ []
def dkwX3_valueIn_0 : List UInt8 := [3, 61, 3, 62, 29, 43, 16, 40, 46, 162, 0, 18, 28, 42, 43, 29, 182, 1, 94, 96, 61, 132, 3, 1]
abbrev dktX3_valueIn_0 : List UInt8 := dkwX3_valueIn_0 ++ dktX3_valueIn_1
theorem dksX3_valueIn_0 : cX3_valueIn.data.toList.drop 0 = dktX3_valueIn_0 := by decide +kernel
theorem dksX3_valueIn_1 : cX3_valueIn.data.toList.drop 24 = dktX3_valueIn_1 := dk_seg dksX3_valueIn_0 24 rfl rfl
theorem dX3_valueIn_0 : decode cX3_valueIn 0 = .ok (.iconst 0, 1) := dk_3 (dk_at dksX3_valueIn_0 0 rfl rfl)
theorem dX3_valueIn_1 : decode cX3_valueIn 1 = .ok (.istore_n 2, 1) := dk_61 (dk_at dksX3_valueIn_0 1 rfl rfl)
theorem dX3_valueIn_2 : decode cX3_valueIn 2 = .ok (.iconst 0, 1) := dk_3 (dk_at dksX3_valueIn_0 2 rfl rfl)
theorem dX3_valueIn_3 : decode cX3_valueIn 3 = .ok (.istore_n 3, 1) := dk_62 (dk_at dksX3_valueIn_0 3 rfl rfl)
theorem dX3_valueIn_4 : decode cX3_valueIn 4 = .ok (.iload_n 3, 1) := dk_29 (dk_at dksX3_valueIn_0 4 rfl rfl)
theorem dX3_valueIn_5 : decode cX3_valueIn 5 = .ok (.aload_n 1, 1) := dk_43 (dk_at dksX3_valueIn_0 5 rfl rfl)
theorem dX3_valueIn_6 : decode cX3_valueIn 6 = .ok (.bipush 40, 2) := dk_16 40 (dk_at dksX3_valueIn_0 6 rfl rfl)
theorem dX3_valueIn_8 : decode cX3_valueIn 8 = .ok (.iaload, 1) := dk_46 (dk_at dksX3_valueIn_0 8 rfl rfl)
theorem dX3_valueIn_9 : decode cX3_valueIn 9 = .ok (.if_icmp .ge 18, 3) := dk_162 0 18 (dk_at dksX3_valueIn_0 9 rfl rfl)
theorem dX3_valueIn_12 : decode cX3_valueIn 12 = .ok (.iload_n 2, 1) := dk_28 (dk_at dksX3_valueIn_0 12 rfl rfl)
theorem dX3_valueIn_13 : decode cX3_valueIn 13 = .ok (.aload_n 0, 1) := dk_42 (dk_at dksX3_valueIn_0 13 rfl rfl)
theorem dX3_valueIn_14 : decode cX3_valueIn 14 = .ok (.aload_n 1, 1) := dk_43 (dk_at dksX3_valueIn_0 14 rfl rfl)
theorem dX3_valueIn_15 : decode cX3_valueIn 15 = .ok (.iload_n 3, 1) := dk_29 (dk_at dksX3_valueIn_0 15 rfl rfl)
theorem dX3_valueIn_16 : decode cX3_valueIn 16 = .ok (.invokevirtual 350, 3) := dk_182 1 94 (dk_at dksX3_valueIn_0 16 rfl rfl)
theorem dX3_valueIn_19 : decode cX3_valueIn 19 = .ok (.iadd, 1) := dk_96 (dk_at dksX3_valueIn_0 19 rfl rfl)
theorem dX3_valueIn_20 : decode cX3_valueIn 20 = .ok (.istore_n 2, 1) := dk_61 (dk_at dksX3_valueIn_0 20 rfl rfl)
theorem dX3_valueIn_21 : decode cX3_valueIn 21 = .ok (.iinc 3 1, 3) := dk_132 3 1 (dk_at dksX3_valueIn_0 21 rfl rfl)
theorem dX3_valueIn_24 : decode cX3_valueIn 24 = .ok (.goto (-20), 3) := dk_167 255 236 (dk_at dksX3_valueIn_1 0 rfl rfl)
theorem dX3_valueIn_27 : decode cX3_valueIn 27 = .ok (.iload_n 2, 1) := dk_28 (dk_at dksX3_valueIn_1 3 rfl rfl)
theorem dX3_valueIn_28 : decode cX3_valueIn 28 = .ok (.ireturn, 1) := dk_172 (dk_at dksX3_valueIn_1 4 rfl rfl)
abbrev cX3_full : ByteArray := prog_14_method_94_code
def yX3_full : MethodName := ⟨RX3, "full", "(I)I"⟩
def dkwX3_full_1 : List UInt8 := [163, 0, 20, 42, 28, 27, 182, 1, 159, 154, 0, 5, 28, 172, 132, 2, 1, 167, 255, 232, 2, 172]
abbrev dktX3_full_1 : List UInt8 := dkwX3_full_1 ++ []
def dkwX3_full_0 : List UInt8 := [42, 3, 181, 0, 109, 42, 27, 182, 1, 156, 154, 0, 5, 2, 172, 3, 61, 28, 42, 180, 0, 37, 3, 46]
abbrev dktX3_full_0 : List UInt8 := dkwX3_full_0 ++ dktX3_full_1
theorem dksX3_full_0 : cX3_full.data.toList.drop 0 = dktX3_full_0 := by decide +kernel
theorem dksX3_full_1 : cX3_full.data.toList.drop 24 = dktX3_full_1 := dk_seg dksX3_full_0 24 rfl rfl
theorem dX3_full_0 : decode cX3_full 0 = .ok (.aload_n 0, 1) := dk_42 (dk_at dksX3_full_0 0 rfl rfl)
theorem dX3_full_1 : decode cX3_full 1 = .ok (.iconst 0, 1) := dk_3 (dk_at dksX3_full_0 1 rfl rfl)
theorem dX3_full_2 : decode cX3_full 2 = .ok (.putfield 109, 3) := dk_181 0 109 (dk_at dksX3_full_0 2 rfl rfl)
theorem dX3_full_5 : decode cX3_full 5 = .ok (.aload_n 0, 1) := dk_42 (dk_at dksX3_full_0 5 rfl rfl)
theorem dX3_full_6 : decode cX3_full 6 = .ok (.iload_n 1, 1) := dk_27 (dk_at dksX3_full_0 6 rfl rfl)
theorem dX3_full_7 : decode cX3_full 7 = .ok (.invokevirtual 412, 3) := dk_182 1 156 (dk_at dksX3_full_0 7 rfl rfl)
theorem dX3_full_10 : decode cX3_full 10 = .ok (.ifCond .ne 5, 3) := dk_154 0 5 (dk_at dksX3_full_0 10 rfl rfl)
theorem dX3_full_13 : decode cX3_full 13 = .ok (.iconst (-1), 1) := dk_2 (dk_at dksX3_full_0 13 rfl rfl)
theorem dX3_full_14 : decode cX3_full 14 = .ok (.ireturn, 1) := dk_172 (dk_at dksX3_full_0 14 rfl rfl)
theorem dX3_full_15 : decode cX3_full 15 = .ok (.iconst 0, 1) := dk_3 (dk_at dksX3_full_0 15 rfl rfl)
theorem dX3_full_16 : decode cX3_full 16 = .ok (.istore_n 2, 1) := dk_61 (dk_at dksX3_full_0 16 rfl rfl)
theorem dX3_full_17 : decode cX3_full 17 = .ok (.iload_n 2, 1) := dk_28 (dk_at dksX3_full_0 17 rfl rfl)
theorem dX3_full_18 : decode cX3_full 18 = .ok (.aload_n 0, 1) := dk_42 (dk_at dksX3_full_0 18 rfl rfl)
theorem dX3_full_19 : decode cX3_full 19 = .ok (.getfield 37, 3) := dk_180 0 37 (dk_at dksX3_full_0 19 rfl rfl)
theorem dX3_full_22 : decode cX3_full 22 = .ok (.iconst 0, 1) := dk_3 (dk_at dksX3_full_0 22 rfl rfl)
theorem dX3_full_23 : decode cX3_full 23 = .ok (.iaload, 1) := dk_46 (dk_at dksX3_full_0 23 rfl rfl)
theorem dX3_full_24 : decode cX3_full 24 = .ok (.if_icmp .gt 20, 3) := dk_163 0 20 (dk_at dksX3_full_1 0 rfl rfl)
theorem dX3_full_27 : decode cX3_full 27 = .ok (.aload_n 0, 1) := dk_42 (dk_at dksX3_full_1 3 rfl rfl)
theorem dX3_full_28 : decode cX3_full 28 = .ok (.iload_n 2, 1) := dk_28 (dk_at dksX3_full_1 4 rfl rfl)
theorem dX3_full_29 : decode cX3_full 29 = .ok (.iload_n 1, 1) := dk_27 (dk_at dksX3_full_1 5 rfl rfl)
theorem dX3_full_30 : decode cX3_full 30 = .ok (.invokevirtual 415, 3) := dk_182 1 159 (dk_at dksX3_full_1 6 rfl rfl)
theorem dX3_full_33 : decode cX3_full 33 = .ok (.ifCond .ne 5, 3) := dk_154 0 5 (dk_at dksX3_full_1 9 rfl rfl)
theorem dX3_full_36 : decode cX3_full 36 = .ok (.iload_n 2, 1) := dk_28 (dk_at dksX3_full_1 12 rfl rfl)
theorem dX3_full_37 : decode cX3_full 37 = .ok (.ireturn, 1) := dk_172 (dk_at dksX3_full_1 13 rfl rfl)
theorem dX3_full_38 : decode cX3_full 38 = .ok (.iinc 2 1, 3) := dk_132 2 1 (dk_at dksX3_full_1 14 rfl rfl)
theorem dX3_full_41 : decode cX3_full 41 = .ok (.goto (-24), 3) := dk_167 255 232 (dk_at dksX3_full_1 17 rfl rfl)
theorem dX3_full_44 : decode cX3_full 44 = .ok (.iconst (-1), 1) := dk_2 (dk_at dksX3_full_1 20 rfl rfl)
theorem dX3_full_45 : decode cX3_full 45 = .ok (.ireturn, 1) := dk_172 (dk_at dksX3_full_1 21 rfl rfl)
abbrev cX3_keep : ByteArray := prog_14_method_95_code
def yX3_keep : MethodName := ⟨RX3, "keep", "(II)I"⟩
def dkwX3_keep_5 : List UInt8 := [167, 255, 204, 29, 172]
abbrev dktX3_keep_5 : List UInt8 := dkwX3_keep_5 ++ []
def dkwX3_keep_4 : List UInt8 := [21, 4, 104, 4, 96, 46, 104, 161, 0, 10, 4, 21, 4, 120, 167, 0, 4, 3, 128, 62, 132, 4, 1]
abbrev dktX3_keep_4 : List UInt8 := dkwX3_keep_4 ++ dktX3_keep_5
def dkwX3_keep_3 : List UInt8 := [16, 40, 46, 162, 0, 46, 29, 42, 42, 180, 0, 61, 21, 4, 182, 1, 94, 28, 42, 180, 0, 61, 8]
abbrev dktX3_keep_3 : List UInt8 := dkwX3_keep_3 ++ dktX3_keep_4
def dkwX3_keep_2 : List UInt8 := [180, 0, 58, 182, 1, 116, 27, 182, 1, 159, 182, 1, 144, 3, 62, 3, 54, 4, 21, 4, 42, 180, 0, 61]
abbrev dktX3_keep_2 : List UInt8 := dkwX3_keep_2 ++ dktX3_keep_3
def dkwX3_keep_1 : List UInt8 := [154, 0, 5, 2, 172, 42, 180, 0, 58, 42, 180, 0, 61, 184, 1, 177, 42, 42, 180, 0, 61, 42, 42, 42]
abbrev dktX3_keep_1 : List UInt8 := dkwX3_keep_1 ++ dktX3_keep_2
def dkwX3_keep_0 : List UInt8 := [42, 3, 181, 0, 109, 42, 27, 182, 1, 156, 153, 0, 15, 28, 133, 9, 20, 1, 114, 184, 0, 230]
abbrev dktX3_keep_0 : List UInt8 := dkwX3_keep_0 ++ dktX3_keep_1
theorem dksX3_keep_0 : cX3_keep.data.toList.drop 0 = dktX3_keep_0 := by decide +kernel
theorem dksX3_keep_1 : cX3_keep.data.toList.drop 22 = dktX3_keep_1 := dk_seg dksX3_keep_0 22 rfl rfl
theorem dksX3_keep_2 : cX3_keep.data.toList.drop 46 = dktX3_keep_2 := dk_seg dksX3_keep_1 24 rfl rfl
theorem dksX3_keep_3 : cX3_keep.data.toList.drop 70 = dktX3_keep_3 := dk_seg dksX3_keep_2 24 rfl rfl
theorem dksX3_keep_4 : cX3_keep.data.toList.drop 93 = dktX3_keep_4 := dk_seg dksX3_keep_3 23 rfl rfl
theorem dksX3_keep_5 : cX3_keep.data.toList.drop 116 = dktX3_keep_5 := dk_seg dksX3_keep_4 23 rfl rfl
theorem dX3_keep_0 : decode cX3_keep 0 = .ok (.aload_n 0, 1) := dk_42 (dk_at dksX3_keep_0 0 rfl rfl)
theorem dX3_keep_1 : decode cX3_keep 1 = .ok (.iconst 0, 1) := dk_3 (dk_at dksX3_keep_0 1 rfl rfl)
theorem dX3_keep_2 : decode cX3_keep 2 = .ok (.putfield 109, 3) := dk_181 0 109 (dk_at dksX3_keep_0 2 rfl rfl)
theorem dX3_keep_5 : decode cX3_keep 5 = .ok (.aload_n 0, 1) := dk_42 (dk_at dksX3_keep_0 5 rfl rfl)
theorem dX3_keep_6 : decode cX3_keep 6 = .ok (.iload_n 1, 1) := dk_27 (dk_at dksX3_keep_0 6 rfl rfl)
theorem dX3_keep_7 : decode cX3_keep 7 = .ok (.invokevirtual 412, 3) := dk_182 1 156 (dk_at dksX3_keep_0 7 rfl rfl)
theorem dX3_keep_10 : decode cX3_keep 10 = .ok (.ifCond .eq 15, 3) := dk_153 0 15 (dk_at dksX3_keep_0 10 rfl rfl)
theorem dX3_keep_13 : decode cX3_keep 13 = .ok (.iload_n 2, 1) := dk_28 (dk_at dksX3_keep_0 13 rfl rfl)
theorem dX3_keep_14 : decode cX3_keep 14 = .ok (.i2l, 1) := dk_133 (dk_at dksX3_keep_0 14 rfl rfl)
theorem dX3_keep_15 : decode cX3_keep 15 = .ok (.lconst 0, 1) := dk_9 (dk_at dksX3_keep_0 15 rfl rfl)
theorem dX3_keep_16 : decode cX3_keep 16 = .ok (.ldc2_w 370, 3) := dk_20 1 114 (dk_at dksX3_keep_0 16 rfl rfl)
theorem dX3_keep_19 : decode cX3_keep 19 = .ok (.invokestatic 230, 3) := dk_184 0 230 (dk_at dksX3_keep_0 19 rfl rfl)
theorem dX3_keep_22 : decode cX3_keep 22 = .ok (.ifCond .ne 5, 3) := dk_154 0 5 (dk_at dksX3_keep_1 0 rfl rfl)
theorem dX3_keep_25 : decode cX3_keep 25 = .ok (.iconst (-1), 1) := dk_2 (dk_at dksX3_keep_1 3 rfl rfl)
theorem dX3_keep_26 : decode cX3_keep 26 = .ok (.ireturn, 1) := dk_172 (dk_at dksX3_keep_1 4 rfl rfl)
theorem dX3_keep_27 : decode cX3_keep 27 = .ok (.aload_n 0, 1) := dk_42 (dk_at dksX3_keep_1 5 rfl rfl)
theorem dX3_keep_28 : decode cX3_keep 28 = .ok (.getfield 58, 3) := dk_180 0 58 (dk_at dksX3_keep_1 6 rfl rfl)
theorem dX3_keep_31 : decode cX3_keep 31 = .ok (.aload_n 0, 1) := dk_42 (dk_at dksX3_keep_1 9 rfl rfl)
theorem dX3_keep_32 : decode cX3_keep 32 = .ok (.getfield 61, 3) := dk_180 0 61 (dk_at dksX3_keep_1 10 rfl rfl)
theorem dX3_keep_35 : decode cX3_keep 35 = .ok (.invokestatic 433, 3) := dk_184 1 177 (dk_at dksX3_keep_1 13 rfl rfl)
theorem dX3_keep_38 : decode cX3_keep 38 = .ok (.aload_n 0, 1) := dk_42 (dk_at dksX3_keep_1 16 rfl rfl)
theorem dX3_keep_39 : decode cX3_keep 39 = .ok (.aload_n 0, 1) := dk_42 (dk_at dksX3_keep_1 17 rfl rfl)
theorem dX3_keep_40 : decode cX3_keep 40 = .ok (.getfield 61, 3) := dk_180 0 61 (dk_at dksX3_keep_1 18 rfl rfl)
theorem dX3_keep_43 : decode cX3_keep 43 = .ok (.aload_n 0, 1) := dk_42 (dk_at dksX3_keep_1 21 rfl rfl)
theorem dX3_keep_44 : decode cX3_keep 44 = .ok (.aload_n 0, 1) := dk_42 (dk_at dksX3_keep_1 22 rfl rfl)
theorem dX3_keep_45 : decode cX3_keep 45 = .ok (.aload_n 0, 1) := dk_42 (dk_at dksX3_keep_1 23 rfl rfl)
theorem dX3_keep_46 : decode cX3_keep 46 = .ok (.getfield 58, 3) := dk_180 0 58 (dk_at dksX3_keep_2 0 rfl rfl)
theorem dX3_keep_49 : decode cX3_keep 49 = .ok (.invokevirtual 372, 3) := dk_182 1 116 (dk_at dksX3_keep_2 3 rfl rfl)
theorem dX3_keep_52 : decode cX3_keep 52 = .ok (.iload_n 1, 1) := dk_27 (dk_at dksX3_keep_2 6 rfl rfl)
theorem dX3_keep_53 : decode cX3_keep 53 = .ok (.invokevirtual 415, 3) := dk_182 1 159 (dk_at dksX3_keep_2 7 rfl rfl)
theorem dX3_keep_56 : decode cX3_keep 56 = .ok (.invokevirtual 400, 3) := dk_182 1 144 (dk_at dksX3_keep_2 10 rfl rfl)
theorem dX3_keep_59 : decode cX3_keep 59 = .ok (.iconst 0, 1) := dk_3 (dk_at dksX3_keep_2 13 rfl rfl)
theorem dX3_keep_60 : decode cX3_keep 60 = .ok (.istore_n 3, 1) := dk_62 (dk_at dksX3_keep_2 14 rfl rfl)
theorem dX3_keep_61 : decode cX3_keep 61 = .ok (.iconst 0, 1) := dk_3 (dk_at dksX3_keep_2 15 rfl rfl)
theorem dX3_keep_62 : decode cX3_keep 62 = .ok (.istore 4, 2) := dk_54 4 (dk_at dksX3_keep_2 16 rfl rfl)
theorem dX3_keep_64 : decode cX3_keep 64 = .ok (.iload 4, 2) := dk_21 4 (dk_at dksX3_keep_2 18 rfl rfl)
theorem dX3_keep_66 : decode cX3_keep 66 = .ok (.aload_n 0, 1) := dk_42 (dk_at dksX3_keep_2 20 rfl rfl)
theorem dX3_keep_67 : decode cX3_keep 67 = .ok (.getfield 61, 3) := dk_180 0 61 (dk_at dksX3_keep_2 21 rfl rfl)
theorem dX3_keep_70 : decode cX3_keep 70 = .ok (.bipush 40, 2) := dk_16 40 (dk_at dksX3_keep_3 0 rfl rfl)
theorem dX3_keep_72 : decode cX3_keep 72 = .ok (.iaload, 1) := dk_46 (dk_at dksX3_keep_3 2 rfl rfl)
theorem dX3_keep_73 : decode cX3_keep 73 = .ok (.if_icmp .ge 46, 3) := dk_162 0 46 (dk_at dksX3_keep_3 3 rfl rfl)
theorem dX3_keep_76 : decode cX3_keep 76 = .ok (.iload_n 3, 1) := dk_29 (dk_at dksX3_keep_3 6 rfl rfl)
theorem dX3_keep_77 : decode cX3_keep 77 = .ok (.aload_n 0, 1) := dk_42 (dk_at dksX3_keep_3 7 rfl rfl)
theorem dX3_keep_78 : decode cX3_keep 78 = .ok (.aload_n 0, 1) := dk_42 (dk_at dksX3_keep_3 8 rfl rfl)
theorem dX3_keep_79 : decode cX3_keep 79 = .ok (.getfield 61, 3) := dk_180 0 61 (dk_at dksX3_keep_3 9 rfl rfl)
theorem dX3_keep_82 : decode cX3_keep 82 = .ok (.iload 4, 2) := dk_21 4 (dk_at dksX3_keep_3 12 rfl rfl)
theorem dX3_keep_84 : decode cX3_keep 84 = .ok (.invokevirtual 350, 3) := dk_182 1 94 (dk_at dksX3_keep_3 14 rfl rfl)
theorem dX3_keep_87 : decode cX3_keep 87 = .ok (.iload_n 2, 1) := dk_28 (dk_at dksX3_keep_3 17 rfl rfl)
theorem dX3_keep_88 : decode cX3_keep 88 = .ok (.aload_n 0, 1) := dk_42 (dk_at dksX3_keep_3 18 rfl rfl)
theorem dX3_keep_89 : decode cX3_keep 89 = .ok (.getfield 61, 3) := dk_180 0 61 (dk_at dksX3_keep_3 19 rfl rfl)
theorem dX3_keep_92 : decode cX3_keep 92 = .ok (.iconst 5, 1) := dk_8 (dk_at dksX3_keep_3 22 rfl rfl)
theorem dX3_keep_93 : decode cX3_keep 93 = .ok (.iload 4, 2) := dk_21 4 (dk_at dksX3_keep_4 0 rfl rfl)
theorem dX3_keep_95 : decode cX3_keep 95 = .ok (.imul, 1) := dk_104 (dk_at dksX3_keep_4 2 rfl rfl)
theorem dX3_keep_96 : decode cX3_keep 96 = .ok (.iconst 1, 1) := dk_4 (dk_at dksX3_keep_4 3 rfl rfl)
theorem dX3_keep_97 : decode cX3_keep 97 = .ok (.iadd, 1) := dk_96 (dk_at dksX3_keep_4 4 rfl rfl)
theorem dX3_keep_98 : decode cX3_keep 98 = .ok (.iaload, 1) := dk_46 (dk_at dksX3_keep_4 5 rfl rfl)
theorem dX3_keep_99 : decode cX3_keep 99 = .ok (.imul, 1) := dk_104 (dk_at dksX3_keep_4 6 rfl rfl)
theorem dX3_keep_100 : decode cX3_keep 100 = .ok (.if_icmp .lt 10, 3) := dk_161 0 10 (dk_at dksX3_keep_4 7 rfl rfl)
theorem dX3_keep_103 : decode cX3_keep 103 = .ok (.iconst 1, 1) := dk_4 (dk_at dksX3_keep_4 10 rfl rfl)
theorem dX3_keep_104 : decode cX3_keep 104 = .ok (.iload 4, 2) := dk_21 4 (dk_at dksX3_keep_4 11 rfl rfl)
theorem dX3_keep_106 : decode cX3_keep 106 = .ok (.ishl, 1) := dk_120 (dk_at dksX3_keep_4 13 rfl rfl)
theorem dX3_keep_107 : decode cX3_keep 107 = .ok (.goto 4, 3) := dk_167 0 4 (dk_at dksX3_keep_4 14 rfl rfl)
theorem dX3_keep_110 : decode cX3_keep 110 = .ok (.iconst 0, 1) := dk_3 (dk_at dksX3_keep_4 17 rfl rfl)
theorem dX3_keep_111 : decode cX3_keep 111 = .ok (.ior, 1) := dk_128 (dk_at dksX3_keep_4 18 rfl rfl)
theorem dX3_keep_112 : decode cX3_keep 112 = .ok (.istore_n 3, 1) := dk_62 (dk_at dksX3_keep_4 19 rfl rfl)
theorem dX3_keep_113 : decode cX3_keep 113 = .ok (.iinc 4 1, 3) := dk_132 4 1 (dk_at dksX3_keep_4 20 rfl rfl)
theorem dX3_keep_116 : decode cX3_keep 116 = .ok (.goto (-52), 3) := dk_167 255 204 (dk_at dksX3_keep_5 0 rfl rfl)
theorem dX3_keep_119 : decode cX3_keep 119 = .ok (.iload_n 3, 1) := dk_29 (dk_at dksX3_keep_5 3 rfl rfl)
theorem dX3_keep_120 : decode cX3_keep 120 = .ok (.ireturn, 1) := dk_172 (dk_at dksX3_keep_5 4 rfl rfl)
abbrev cX3_spans : ByteArray := prog_14_method_98_code
def yX3_spans : MethodName := ⟨RX3, "spans", "(II)I"⟩
def dkwX3_spans_4 : List UInt8 := [167, 0, 4, 3, 96, 62, 132, 4, 1, 167, 255, 182, 29, 172]
abbrev dktX3_spans_4 : List UInt8 := dkwX3_spans_4 ++ []
def dkwX3_spans_3 : List UInt8 := [46, 167, 0, 4, 3, 96, 62, 167, 0, 22, 29, 28, 4, 160, 0, 13, 42, 21, 4, 27, 182, 1, 225]
abbrev dktX3_spans_3 : List UInt8 := dkwX3_spans_3 ++ dktX3_spans_4
def dkwX3_spans_2 : List UInt8 := [154, 0, 34, 29, 42, 21, 4, 182, 1, 190, 27, 160, 0, 17, 42, 180, 0, 58, 8, 21, 4, 104, 4, 96]
abbrev dktX3_spans_2 : List UInt8 := dkwX3_spans_2 ++ dktX3_spans_3
def dkwX3_spans_1 : List UInt8 := [172, 3, 62, 3, 54, 4, 21, 4, 42, 180, 0, 58, 16, 40, 46, 162, 0, 68, 42, 21, 4, 182, 1, 222]
abbrev dktX3_spans_1 : List UInt8 := dkwX3_spans_1 ++ dktX3_spans_2
def dkwX3_spans_0 : List UInt8 := [42, 3, 181, 0, 109, 42, 27, 182, 1, 100, 153, 0, 13, 28, 133, 9, 10, 184, 0, 230, 154, 0, 5, 2]
abbrev dktX3_spans_0 : List UInt8 := dkwX3_spans_0 ++ dktX3_spans_1
theorem dksX3_spans_0 : cX3_spans.data.toList.drop 0 = dktX3_spans_0 := by decide +kernel
theorem dksX3_spans_1 : cX3_spans.data.toList.drop 24 = dktX3_spans_1 := dk_seg dksX3_spans_0 24 rfl rfl
theorem dksX3_spans_2 : cX3_spans.data.toList.drop 48 = dktX3_spans_2 := dk_seg dksX3_spans_1 24 rfl rfl
theorem dksX3_spans_3 : cX3_spans.data.toList.drop 72 = dktX3_spans_3 := dk_seg dksX3_spans_2 24 rfl rfl
theorem dksX3_spans_4 : cX3_spans.data.toList.drop 95 = dktX3_spans_4 := dk_seg dksX3_spans_3 23 rfl rfl
theorem dX3_spans_0 : decode cX3_spans 0 = .ok (.aload_n 0, 1) := dk_42 (dk_at dksX3_spans_0 0 rfl rfl)
theorem dX3_spans_1 : decode cX3_spans 1 = .ok (.iconst 0, 1) := dk_3 (dk_at dksX3_spans_0 1 rfl rfl)
theorem dX3_spans_2 : decode cX3_spans 2 = .ok (.putfield 109, 3) := dk_181 0 109 (dk_at dksX3_spans_0 2 rfl rfl)
theorem dX3_spans_5 : decode cX3_spans 5 = .ok (.aload_n 0, 1) := dk_42 (dk_at dksX3_spans_0 5 rfl rfl)
theorem dX3_spans_6 : decode cX3_spans 6 = .ok (.iload_n 1, 1) := dk_27 (dk_at dksX3_spans_0 6 rfl rfl)
theorem dX3_spans_7 : decode cX3_spans 7 = .ok (.invokevirtual 356, 3) := dk_182 1 100 (dk_at dksX3_spans_0 7 rfl rfl)
theorem dX3_spans_10 : decode cX3_spans 10 = .ok (.ifCond .eq 13, 3) := dk_153 0 13 (dk_at dksX3_spans_0 10 rfl rfl)
theorem dX3_spans_13 : decode cX3_spans 13 = .ok (.iload_n 2, 1) := dk_28 (dk_at dksX3_spans_0 13 rfl rfl)
theorem dX3_spans_14 : decode cX3_spans 14 = .ok (.i2l, 1) := dk_133 (dk_at dksX3_spans_0 14 rfl rfl)
theorem dX3_spans_15 : decode cX3_spans 15 = .ok (.lconst 0, 1) := dk_9 (dk_at dksX3_spans_0 15 rfl rfl)
theorem dX3_spans_16 : decode cX3_spans 16 = .ok (.lconst 1, 1) := dk_10 (dk_at dksX3_spans_0 16 rfl rfl)
theorem dX3_spans_17 : decode cX3_spans 17 = .ok (.invokestatic 230, 3) := dk_184 0 230 (dk_at dksX3_spans_0 17 rfl rfl)
theorem dX3_spans_20 : decode cX3_spans 20 = .ok (.ifCond .ne 5, 3) := dk_154 0 5 (dk_at dksX3_spans_0 20 rfl rfl)
theorem dX3_spans_23 : decode cX3_spans 23 = .ok (.iconst (-1), 1) := dk_2 (dk_at dksX3_spans_0 23 rfl rfl)
theorem dX3_spans_24 : decode cX3_spans 24 = .ok (.ireturn, 1) := dk_172 (dk_at dksX3_spans_1 0 rfl rfl)
theorem dX3_spans_25 : decode cX3_spans 25 = .ok (.iconst 0, 1) := dk_3 (dk_at dksX3_spans_1 1 rfl rfl)
theorem dX3_spans_26 : decode cX3_spans 26 = .ok (.istore_n 3, 1) := dk_62 (dk_at dksX3_spans_1 2 rfl rfl)
theorem dX3_spans_27 : decode cX3_spans 27 = .ok (.iconst 0, 1) := dk_3 (dk_at dksX3_spans_1 3 rfl rfl)
theorem dX3_spans_28 : decode cX3_spans 28 = .ok (.istore 4, 2) := dk_54 4 (dk_at dksX3_spans_1 4 rfl rfl)
theorem dX3_spans_30 : decode cX3_spans 30 = .ok (.iload 4, 2) := dk_21 4 (dk_at dksX3_spans_1 6 rfl rfl)
theorem dX3_spans_32 : decode cX3_spans 32 = .ok (.aload_n 0, 1) := dk_42 (dk_at dksX3_spans_1 8 rfl rfl)
theorem dX3_spans_33 : decode cX3_spans 33 = .ok (.getfield 58, 3) := dk_180 0 58 (dk_at dksX3_spans_1 9 rfl rfl)
theorem dX3_spans_36 : decode cX3_spans 36 = .ok (.bipush 40, 2) := dk_16 40 (dk_at dksX3_spans_1 12 rfl rfl)
theorem dX3_spans_38 : decode cX3_spans 38 = .ok (.iaload, 1) := dk_46 (dk_at dksX3_spans_1 14 rfl rfl)
theorem dX3_spans_39 : decode cX3_spans 39 = .ok (.if_icmp .ge 68, 3) := dk_162 0 68 (dk_at dksX3_spans_1 15 rfl rfl)
theorem dX3_spans_42 : decode cX3_spans 42 = .ok (.aload_n 0, 1) := dk_42 (dk_at dksX3_spans_1 18 rfl rfl)
theorem dX3_spans_43 : decode cX3_spans 43 = .ok (.iload 4, 2) := dk_21 4 (dk_at dksX3_spans_1 19 rfl rfl)
theorem dX3_spans_45 : decode cX3_spans 45 = .ok (.invokevirtual 478, 3) := dk_182 1 222 (dk_at dksX3_spans_1 21 rfl rfl)
theorem dX3_spans_48 : decode cX3_spans 48 = .ok (.ifCond .ne 34, 3) := dk_154 0 34 (dk_at dksX3_spans_2 0 rfl rfl)
theorem dX3_spans_51 : decode cX3_spans 51 = .ok (.iload_n 3, 1) := dk_29 (dk_at dksX3_spans_2 3 rfl rfl)
theorem dX3_spans_52 : decode cX3_spans 52 = .ok (.aload_n 0, 1) := dk_42 (dk_at dksX3_spans_2 4 rfl rfl)
theorem dX3_spans_53 : decode cX3_spans 53 = .ok (.iload 4, 2) := dk_21 4 (dk_at dksX3_spans_2 5 rfl rfl)
theorem dX3_spans_55 : decode cX3_spans 55 = .ok (.invokevirtual 446, 3) := dk_182 1 190 (dk_at dksX3_spans_2 7 rfl rfl)
theorem dX3_spans_58 : decode cX3_spans 58 = .ok (.iload_n 1, 1) := dk_27 (dk_at dksX3_spans_2 10 rfl rfl)
theorem dX3_spans_59 : decode cX3_spans 59 = .ok (.if_icmp .ne 17, 3) := dk_160 0 17 (dk_at dksX3_spans_2 11 rfl rfl)
theorem dX3_spans_62 : decode cX3_spans 62 = .ok (.aload_n 0, 1) := dk_42 (dk_at dksX3_spans_2 14 rfl rfl)
theorem dX3_spans_63 : decode cX3_spans 63 = .ok (.getfield 58, 3) := dk_180 0 58 (dk_at dksX3_spans_2 15 rfl rfl)
theorem dX3_spans_66 : decode cX3_spans 66 = .ok (.iconst 5, 1) := dk_8 (dk_at dksX3_spans_2 18 rfl rfl)
theorem dX3_spans_67 : decode cX3_spans 67 = .ok (.iload 4, 2) := dk_21 4 (dk_at dksX3_spans_2 19 rfl rfl)
theorem dX3_spans_69 : decode cX3_spans 69 = .ok (.imul, 1) := dk_104 (dk_at dksX3_spans_2 21 rfl rfl)
theorem dX3_spans_70 : decode cX3_spans 70 = .ok (.iconst 1, 1) := dk_4 (dk_at dksX3_spans_2 22 rfl rfl)
theorem dX3_spans_71 : decode cX3_spans 71 = .ok (.iadd, 1) := dk_96 (dk_at dksX3_spans_2 23 rfl rfl)
theorem dX3_spans_72 : decode cX3_spans 72 = .ok (.iaload, 1) := dk_46 (dk_at dksX3_spans_3 0 rfl rfl)
theorem dX3_spans_73 : decode cX3_spans 73 = .ok (.goto 4, 3) := dk_167 0 4 (dk_at dksX3_spans_3 1 rfl rfl)
theorem dX3_spans_76 : decode cX3_spans 76 = .ok (.iconst 0, 1) := dk_3 (dk_at dksX3_spans_3 4 rfl rfl)
theorem dX3_spans_77 : decode cX3_spans 77 = .ok (.iadd, 1) := dk_96 (dk_at dksX3_spans_3 5 rfl rfl)
theorem dX3_spans_78 : decode cX3_spans 78 = .ok (.istore_n 3, 1) := dk_62 (dk_at dksX3_spans_3 6 rfl rfl)
theorem dX3_spans_79 : decode cX3_spans 79 = .ok (.goto 22, 3) := dk_167 0 22 (dk_at dksX3_spans_3 7 rfl rfl)
theorem dX3_spans_82 : decode cX3_spans 82 = .ok (.iload_n 3, 1) := dk_29 (dk_at dksX3_spans_3 10 rfl rfl)
theorem dX3_spans_83 : decode cX3_spans 83 = .ok (.iload_n 2, 1) := dk_28 (dk_at dksX3_spans_3 11 rfl rfl)
theorem dX3_spans_84 : decode cX3_spans 84 = .ok (.iconst 1, 1) := dk_4 (dk_at dksX3_spans_3 12 rfl rfl)
theorem dX3_spans_85 : decode cX3_spans 85 = .ok (.if_icmp .ne 13, 3) := dk_160 0 13 (dk_at dksX3_spans_3 13 rfl rfl)
theorem dX3_spans_88 : decode cX3_spans 88 = .ok (.aload_n 0, 1) := dk_42 (dk_at dksX3_spans_3 16 rfl rfl)
theorem dX3_spans_89 : decode cX3_spans 89 = .ok (.iload 4, 2) := dk_21 4 (dk_at dksX3_spans_3 17 rfl rfl)
theorem dX3_spans_91 : decode cX3_spans 91 = .ok (.iload_n 1, 1) := dk_27 (dk_at dksX3_spans_3 19 rfl rfl)
theorem dX3_spans_92 : decode cX3_spans 92 = .ok (.invokevirtual 481, 3) := dk_182 1 225 (dk_at dksX3_spans_3 20 rfl rfl)
theorem dX3_spans_95 : decode cX3_spans 95 = .ok (.goto 4, 3) := dk_167 0 4 (dk_at dksX3_spans_4 0 rfl rfl)
theorem dX3_spans_98 : decode cX3_spans 98 = .ok (.iconst 0, 1) := dk_3 (dk_at dksX3_spans_4 3 rfl rfl)
theorem dX3_spans_99 : decode cX3_spans 99 = .ok (.iadd, 1) := dk_96 (dk_at dksX3_spans_4 4 rfl rfl)
theorem dX3_spans_100 : decode cX3_spans 100 = .ok (.istore_n 3, 1) := dk_62 (dk_at dksX3_spans_4 5 rfl rfl)
theorem dX3_spans_101 : decode cX3_spans 101 = .ok (.iinc 4 1, 3) := dk_132 4 1 (dk_at dksX3_spans_4 6 rfl rfl)
theorem dX3_spans_104 : decode cX3_spans 104 = .ok (.goto (-74), 3) := dk_167 255 182 (dk_at dksX3_spans_4 9 rfl rfl)
theorem dX3_spans_107 : decode cX3_spans 107 = .ok (.iload_n 3, 1) := dk_29 (dk_at dksX3_spans_4 12 rfl rfl)
theorem dX3_spans_108 : decode cX3_spans 108 = .ok (.ireturn, 1) := dk_172 (dk_at dksX3_spans_4 13 rfl rfl)
abbrev cX3_isNameless : ByteArray := prog_14_method_96_code
def yX3_isNameless : MethodName := ⟨RX3, "isNameless", "(I)Z"⟩
def dkwX3_isNameless_0 : List UInt8 := [42, 180, 0, 58, 8, 27, 104, 6, 96, 46, 154, 0, 7, 4, 167, 0, 4, 3, 172]
abbrev dktX3_isNameless_0 : List UInt8 := dkwX3_isNameless_0 ++ []
theorem dksX3_isNameless_0 : cX3_isNameless.data.toList.drop 0 = dktX3_isNameless_0 := by decide +kernel
theorem dX3_isNameless_0 : decode cX3_isNameless 0 = .ok (.aload_n 0, 1) := dk_42 (dk_at dksX3_isNameless_0 0 rfl rfl)
theorem dX3_isNameless_1 : decode cX3_isNameless 1 = .ok (.getfield 58, 3) := dk_180 0 58 (dk_at dksX3_isNameless_0 1 rfl rfl)
theorem dX3_isNameless_4 : decode cX3_isNameless 4 = .ok (.iconst 5, 1) := dk_8 (dk_at dksX3_isNameless_0 4 rfl rfl)
theorem dX3_isNameless_5 : decode cX3_isNameless 5 = .ok (.iload_n 1, 1) := dk_27 (dk_at dksX3_isNameless_0 5 rfl rfl)
theorem dX3_isNameless_6 : decode cX3_isNameless 6 = .ok (.imul, 1) := dk_104 (dk_at dksX3_isNameless_0 6 rfl rfl)
theorem dX3_isNameless_7 : decode cX3_isNameless 7 = .ok (.iconst 3, 1) := dk_6 (dk_at dksX3_isNameless_0 7 rfl rfl)
theorem dX3_isNameless_8 : decode cX3_isNameless 8 = .ok (.iadd, 1) := dk_96 (dk_at dksX3_isNameless_0 8 rfl rfl)
theorem dX3_isNameless_9 : decode cX3_isNameless 9 = .ok (.iaload, 1) := dk_46 (dk_at dksX3_isNameless_0 9 rfl rfl)
theorem dX3_isNameless_10 : decode cX3_isNameless 10 = .ok (.ifCond .ne 7, 3) := dk_154 0 7 (dk_at dksX3_isNameless_0 10 rfl rfl)
theorem dX3_isNameless_13 : decode cX3_isNameless 13 = .ok (.iconst 1, 1) := dk_4 (dk_at dksX3_isNameless_0 13 rfl rfl)
theorem dX3_isNameless_14 : decode cX3_isNameless 14 = .ok (.goto 4, 3) := dk_167 0 4 (dk_at dksX3_isNameless_0 14 rfl rfl)
theorem dX3_isNameless_17 : decode cX3_isNameless 17 = .ok (.iconst 0, 1) := dk_3 (dk_at dksX3_isNameless_0 17 rfl rfl)
theorem dX3_isNameless_18 : decode cX3_isNameless 18 = .ok (.ireturn, 1) := dk_172 (dk_at dksX3_isNameless_0 18 rfl rfl)
abbrev cX3_couldBe : ByteArray := prog_14_method_97_code
def yX3_couldBe : MethodName := ⟨RX3, "couldBe", "(II)I"⟩
def dkwX3_couldBe_2 : List UInt8 := [16, 9, 163, 0, 10, 29, 21, 4, 108, 167, 0, 4, 3, 172]
abbrev dktX3_couldBe_2 : List UInt8 := dkwX3_couldBe_2 ++ []
def dkwX3_couldBe_1 : List UInt8 := [3, 182, 1, 66, 42, 28, 3, 182, 1, 66, 160, 0, 26, 29, 21, 4, 112, 154, 0, 19, 29, 21, 4, 108]
abbrev dktX3_couldBe_1 : List UInt8 := dkwX3_couldBe_1 ++ dktX3_couldBe_2
def dkwX3_couldBe_0 : List UInt8 := [42, 42, 180, 0, 58, 27, 182, 1, 111, 62, 42, 28, 4, 182, 1, 66, 54, 4, 42, 42, 27, 182, 1, 190]
abbrev dktX3_couldBe_0 : List UInt8 := dkwX3_couldBe_0 ++ dktX3_couldBe_1
theorem dksX3_couldBe_0 : cX3_couldBe.data.toList.drop 0 = dktX3_couldBe_0 := by decide +kernel
theorem dksX3_couldBe_1 : cX3_couldBe.data.toList.drop 24 = dktX3_couldBe_1 := dk_seg dksX3_couldBe_0 24 rfl rfl
theorem dksX3_couldBe_2 : cX3_couldBe.data.toList.drop 48 = dktX3_couldBe_2 := dk_seg dksX3_couldBe_1 24 rfl rfl
theorem dX3_couldBe_0 : decode cX3_couldBe 0 = .ok (.aload_n 0, 1) := dk_42 (dk_at dksX3_couldBe_0 0 rfl rfl)
theorem dX3_couldBe_1 : decode cX3_couldBe 1 = .ok (.aload_n 0, 1) := dk_42 (dk_at dksX3_couldBe_0 1 rfl rfl)
theorem dX3_couldBe_2 : decode cX3_couldBe 2 = .ok (.getfield 58, 3) := dk_180 0 58 (dk_at dksX3_couldBe_0 2 rfl rfl)
theorem dX3_couldBe_5 : decode cX3_couldBe 5 = .ok (.iload_n 1, 1) := dk_27 (dk_at dksX3_couldBe_0 5 rfl rfl)
theorem dX3_couldBe_6 : decode cX3_couldBe 6 = .ok (.invokevirtual 367, 3) := dk_182 1 111 (dk_at dksX3_couldBe_0 6 rfl rfl)
theorem dX3_couldBe_9 : decode cX3_couldBe 9 = .ok (.istore_n 3, 1) := dk_62 (dk_at dksX3_couldBe_0 9 rfl rfl)
theorem dX3_couldBe_10 : decode cX3_couldBe 10 = .ok (.aload_n 0, 1) := dk_42 (dk_at dksX3_couldBe_0 10 rfl rfl)
theorem dX3_couldBe_11 : decode cX3_couldBe 11 = .ok (.iload_n 2, 1) := dk_28 (dk_at dksX3_couldBe_0 11 rfl rfl)
theorem dX3_couldBe_12 : decode cX3_couldBe 12 = .ok (.iconst 1, 1) := dk_4 (dk_at dksX3_couldBe_0 12 rfl rfl)
theorem dX3_couldBe_13 : decode cX3_couldBe 13 = .ok (.invokevirtual 322, 3) := dk_182 1 66 (dk_at dksX3_couldBe_0 13 rfl rfl)
theorem dX3_couldBe_16 : decode cX3_couldBe 16 = .ok (.istore 4, 2) := dk_54 4 (dk_at dksX3_couldBe_0 16 rfl rfl)
theorem dX3_couldBe_18 : decode cX3_couldBe 18 = .ok (.aload_n 0, 1) := dk_42 (dk_at dksX3_couldBe_0 18 rfl rfl)
theorem dX3_couldBe_19 : decode cX3_couldBe 19 = .ok (.aload_n 0, 1) := dk_42 (dk_at dksX3_couldBe_0 19 rfl rfl)
theorem dX3_couldBe_20 : decode cX3_couldBe 20 = .ok (.iload_n 1, 1) := dk_27 (dk_at dksX3_couldBe_0 20 rfl rfl)
theorem dX3_couldBe_21 : decode cX3_couldBe 21 = .ok (.invokevirtual 446, 3) := dk_182 1 190 (dk_at dksX3_couldBe_0 21 rfl rfl)
theorem dX3_couldBe_24 : decode cX3_couldBe 24 = .ok (.iconst 0, 1) := dk_3 (dk_at dksX3_couldBe_1 0 rfl rfl)
theorem dX3_couldBe_25 : decode cX3_couldBe 25 = .ok (.invokevirtual 322, 3) := dk_182 1 66 (dk_at dksX3_couldBe_1 1 rfl rfl)
theorem dX3_couldBe_28 : decode cX3_couldBe 28 = .ok (.aload_n 0, 1) := dk_42 (dk_at dksX3_couldBe_1 4 rfl rfl)
theorem dX3_couldBe_29 : decode cX3_couldBe 29 = .ok (.iload_n 2, 1) := dk_28 (dk_at dksX3_couldBe_1 5 rfl rfl)
theorem dX3_couldBe_30 : decode cX3_couldBe 30 = .ok (.iconst 0, 1) := dk_3 (dk_at dksX3_couldBe_1 6 rfl rfl)
theorem dX3_couldBe_31 : decode cX3_couldBe 31 = .ok (.invokevirtual 322, 3) := dk_182 1 66 (dk_at dksX3_couldBe_1 7 rfl rfl)
theorem dX3_couldBe_34 : decode cX3_couldBe 34 = .ok (.if_icmp .ne 26, 3) := dk_160 0 26 (dk_at dksX3_couldBe_1 10 rfl rfl)
theorem dX3_couldBe_37 : decode cX3_couldBe 37 = .ok (.iload_n 3, 1) := dk_29 (dk_at dksX3_couldBe_1 13 rfl rfl)
theorem dX3_couldBe_38 : decode cX3_couldBe 38 = .ok (.iload 4, 2) := dk_21 4 (dk_at dksX3_couldBe_1 14 rfl rfl)
theorem dX3_couldBe_40 : decode cX3_couldBe 40 = .ok (.irem, 1) := dk_112 (dk_at dksX3_couldBe_1 16 rfl rfl)
theorem dX3_couldBe_41 : decode cX3_couldBe 41 = .ok (.ifCond .ne 19, 3) := dk_154 0 19 (dk_at dksX3_couldBe_1 17 rfl rfl)
theorem dX3_couldBe_44 : decode cX3_couldBe 44 = .ok (.iload_n 3, 1) := dk_29 (dk_at dksX3_couldBe_1 20 rfl rfl)
theorem dX3_couldBe_45 : decode cX3_couldBe 45 = .ok (.iload 4, 2) := dk_21 4 (dk_at dksX3_couldBe_1 21 rfl rfl)
theorem dX3_couldBe_47 : decode cX3_couldBe 47 = .ok (.idiv, 1) := dk_108 (dk_at dksX3_couldBe_1 23 rfl rfl)
theorem dX3_couldBe_48 : decode cX3_couldBe 48 = .ok (.bipush 9, 2) := dk_16 9 (dk_at dksX3_couldBe_2 0 rfl rfl)
theorem dX3_couldBe_50 : decode cX3_couldBe 50 = .ok (.if_icmp .gt 10, 3) := dk_163 0 10 (dk_at dksX3_couldBe_2 2 rfl rfl)
theorem dX3_couldBe_53 : decode cX3_couldBe 53 = .ok (.iload_n 3, 1) := dk_29 (dk_at dksX3_couldBe_2 5 rfl rfl)
theorem dX3_couldBe_54 : decode cX3_couldBe 54 = .ok (.iload 4, 2) := dk_21 4 (dk_at dksX3_couldBe_2 6 rfl rfl)
theorem dX3_couldBe_56 : decode cX3_couldBe 56 = .ok (.idiv, 1) := dk_108 (dk_at dksX3_couldBe_2 8 rfl rfl)
theorem dX3_couldBe_57 : decode cX3_couldBe 57 = .ok (.goto 4, 3) := dk_167 0 4 (dk_at dksX3_couldBe_2 9 rfl rfl)
theorem dX3_couldBe_60 : decode cX3_couldBe 60 = .ok (.iconst 0, 1) := dk_3 (dk_at dksX3_couldBe_2 12 rfl rfl)
theorem dX3_couldBe_61 : decode cX3_couldBe 61 = .ok (.ireturn, 1) := dk_172 (dk_at dksX3_couldBe_2 13 rfl rfl)
abbrev cX3_nameless : ByteArray := prog_14_method_99_code
def yX3_nameless : MethodName := ⟨RX3, "nameless", "()I"⟩
def dkwX3_nameless_2 : List UInt8 := [132, 2, 1, 167, 255, 224, 27, 172]
abbrev dktX3_nameless_2 : List UInt8 := dkwX3_nameless_2 ++ []
def dkwX3_nameless_1 : List UInt8 := [16, 40, 46, 162, 0, 27, 27, 42, 28, 182, 1, 222, 153, 0, 9, 4, 28, 120, 167, 0, 4, 3, 128, 60]
abbrev dktX3_nameless_1 : List UInt8 := dkwX3_nameless_1 ++ dktX3_nameless_2
def dkwX3_nameless_0 : List UInt8 := [42, 3, 181, 0, 109, 42, 180, 1, 51, 154, 0, 5, 2, 172, 3, 60, 3, 61, 28, 42, 180, 0, 58]
abbrev dktX3_nameless_0 : List UInt8 := dkwX3_nameless_0 ++ dktX3_nameless_1
theorem dksX3_nameless_0 : cX3_nameless.data.toList.drop 0 = dktX3_nameless_0 := by decide +kernel
theorem dksX3_nameless_1 : cX3_nameless.data.toList.drop 23 = dktX3_nameless_1 := dk_seg dksX3_nameless_0 23 rfl rfl
theorem dksX3_nameless_2 : cX3_nameless.data.toList.drop 47 = dktX3_nameless_2 := dk_seg dksX3_nameless_1 24 rfl rfl
theorem dX3_nameless_0 : decode cX3_nameless 0 = .ok (.aload_n 0, 1) := dk_42 (dk_at dksX3_nameless_0 0 rfl rfl)
theorem dX3_nameless_1 : decode cX3_nameless 1 = .ok (.iconst 0, 1) := dk_3 (dk_at dksX3_nameless_0 1 rfl rfl)
theorem dX3_nameless_2 : decode cX3_nameless 2 = .ok (.putfield 109, 3) := dk_181 0 109 (dk_at dksX3_nameless_0 2 rfl rfl)
theorem dX3_nameless_5 : decode cX3_nameless 5 = .ok (.aload_n 0, 1) := dk_42 (dk_at dksX3_nameless_0 5 rfl rfl)
theorem dX3_nameless_6 : decode cX3_nameless 6 = .ok (.getfield 307, 3) := dk_180 1 51 (dk_at dksX3_nameless_0 6 rfl rfl)
theorem dX3_nameless_9 : decode cX3_nameless 9 = .ok (.ifCond .ne 5, 3) := dk_154 0 5 (dk_at dksX3_nameless_0 9 rfl rfl)
theorem dX3_nameless_12 : decode cX3_nameless 12 = .ok (.iconst (-1), 1) := dk_2 (dk_at dksX3_nameless_0 12 rfl rfl)
theorem dX3_nameless_13 : decode cX3_nameless 13 = .ok (.ireturn, 1) := dk_172 (dk_at dksX3_nameless_0 13 rfl rfl)
theorem dX3_nameless_14 : decode cX3_nameless 14 = .ok (.iconst 0, 1) := dk_3 (dk_at dksX3_nameless_0 14 rfl rfl)
theorem dX3_nameless_15 : decode cX3_nameless 15 = .ok (.istore_n 1, 1) := dk_60 (dk_at dksX3_nameless_0 15 rfl rfl)
theorem dX3_nameless_16 : decode cX3_nameless 16 = .ok (.iconst 0, 1) := dk_3 (dk_at dksX3_nameless_0 16 rfl rfl)
theorem dX3_nameless_17 : decode cX3_nameless 17 = .ok (.istore_n 2, 1) := dk_61 (dk_at dksX3_nameless_0 17 rfl rfl)
theorem dX3_nameless_18 : decode cX3_nameless 18 = .ok (.iload_n 2, 1) := dk_28 (dk_at dksX3_nameless_0 18 rfl rfl)
theorem dX3_nameless_19 : decode cX3_nameless 19 = .ok (.aload_n 0, 1) := dk_42 (dk_at dksX3_nameless_0 19 rfl rfl)
theorem dX3_nameless_20 : decode cX3_nameless 20 = .ok (.getfield 58, 3) := dk_180 0 58 (dk_at dksX3_nameless_0 20 rfl rfl)
theorem dX3_nameless_23 : decode cX3_nameless 23 = .ok (.bipush 40, 2) := dk_16 40 (dk_at dksX3_nameless_1 0 rfl rfl)
theorem dX3_nameless_25 : decode cX3_nameless 25 = .ok (.iaload, 1) := dk_46 (dk_at dksX3_nameless_1 2 rfl rfl)
theorem dX3_nameless_26 : decode cX3_nameless 26 = .ok (.if_icmp .ge 27, 3) := dk_162 0 27 (dk_at dksX3_nameless_1 3 rfl rfl)
theorem dX3_nameless_29 : decode cX3_nameless 29 = .ok (.iload_n 1, 1) := dk_27 (dk_at dksX3_nameless_1 6 rfl rfl)
theorem dX3_nameless_30 : decode cX3_nameless 30 = .ok (.aload_n 0, 1) := dk_42 (dk_at dksX3_nameless_1 7 rfl rfl)
theorem dX3_nameless_31 : decode cX3_nameless 31 = .ok (.iload_n 2, 1) := dk_28 (dk_at dksX3_nameless_1 8 rfl rfl)
theorem dX3_nameless_32 : decode cX3_nameless 32 = .ok (.invokevirtual 478, 3) := dk_182 1 222 (dk_at dksX3_nameless_1 9 rfl rfl)
theorem dX3_nameless_35 : decode cX3_nameless 35 = .ok (.ifCond .eq 9, 3) := dk_153 0 9 (dk_at dksX3_nameless_1 12 rfl rfl)
theorem dX3_nameless_38 : decode cX3_nameless 38 = .ok (.iconst 1, 1) := dk_4 (dk_at dksX3_nameless_1 15 rfl rfl)
theorem dX3_nameless_39 : decode cX3_nameless 39 = .ok (.iload_n 2, 1) := dk_28 (dk_at dksX3_nameless_1 16 rfl rfl)
theorem dX3_nameless_40 : decode cX3_nameless 40 = .ok (.ishl, 1) := dk_120 (dk_at dksX3_nameless_1 17 rfl rfl)
theorem dX3_nameless_41 : decode cX3_nameless 41 = .ok (.goto 4, 3) := dk_167 0 4 (dk_at dksX3_nameless_1 18 rfl rfl)
theorem dX3_nameless_44 : decode cX3_nameless 44 = .ok (.iconst 0, 1) := dk_3 (dk_at dksX3_nameless_1 21 rfl rfl)
theorem dX3_nameless_45 : decode cX3_nameless 45 = .ok (.ior, 1) := dk_128 (dk_at dksX3_nameless_1 22 rfl rfl)
theorem dX3_nameless_46 : decode cX3_nameless 46 = .ok (.istore_n 1, 1) := dk_60 (dk_at dksX3_nameless_1 23 rfl rfl)
theorem dX3_nameless_47 : decode cX3_nameless 47 = .ok (.iinc 2 1, 3) := dk_132 2 1 (dk_at dksX3_nameless_2 0 rfl rfl)
theorem dX3_nameless_50 : decode cX3_nameless 50 = .ok (.goto (-32), 3) := dk_167 255 224 (dk_at dksX3_nameless_2 3 rfl rfl)
theorem dX3_nameless_53 : decode cX3_nameless 53 = .ok (.iload_n 1, 1) := dk_27 (dk_at dksX3_nameless_2 6 rfl rfl)
theorem dX3_nameless_54 : decode cX3_nameless 54 = .ok (.ireturn, 1) := dk_172 (dk_at dksX3_nameless_2 7 rfl rfl)
abbrev cX3_doubles : ByteArray := prog_14_method_100_code
def yX3_doubles : MethodName := ⟨RX3, "doubles", "(I)I"⟩
def dkwX3_doubles_6 : List UInt8 := [167, 255, 137, 27, 2, 160, 0, 7, 28, 167, 0, 4, 2, 172]
abbrev dktX3_doubles_6 : List UInt8 := dkwX3_doubles_6 ++ []
def dkwX3_doubles_5 : List UInt8 := [27, 160, 0, 11, 16, 10, 29, 104, 21, 4, 96, 172, 132, 2, 1, 132, 4, 1, 167, 255, 159, 132, 3, 1]
abbrev dktX3_doubles_5 : List UInt8 := dkwX3_doubles_5 ++ dktX3_doubles_6
def dkwX3_doubles_4 : List UInt8 := [180, 0, 58, 29, 182, 1, 111, 42, 42, 180, 0, 58, 21, 4, 182, 1, 111, 159, 0, 6, 167, 0, 19, 28]
abbrev dktX3_doubles_4 : List UInt8 := dkwX3_doubles_4 ++ dktX3_doubles_5
def dkwX3_doubles_3 : List UInt8 := [182, 1, 190, 3, 182, 1, 66, 42, 42, 21, 4, 182, 1, 190, 3, 182, 1, 66, 160, 0, 44, 42, 42]
abbrev dktX3_doubles_3 : List UInt8 := dkwX3_doubles_3 ++ dktX3_doubles_4
def dkwX3_doubles_2 : List UInt8 := [162, 0, 91, 42, 29, 182, 1, 222, 153, 0, 77, 42, 21, 4, 182, 1, 222, 153, 0, 68, 42, 42, 29]
abbrev dktX3_doubles_2 : List UInt8 := dkwX3_doubles_2 ++ dktX3_doubles_3
def dkwX3_doubles_1 : List UInt8 := [42, 180, 0, 58, 16, 40, 46, 162, 0, 114, 29, 4, 96, 54, 4, 21, 4, 42, 180, 0, 58, 16, 40, 46]
abbrev dktX3_doubles_1 : List UInt8 := dkwX3_doubles_1 ++ dktX3_doubles_2
def dkwX3_doubles_0 : List UInt8 := [42, 3, 181, 0, 109, 42, 180, 1, 51, 153, 0, 8, 27, 2, 162, 0, 5, 2, 172, 3, 61, 3, 62, 29]
abbrev dktX3_doubles_0 : List UInt8 := dkwX3_doubles_0 ++ dktX3_doubles_1
theorem dksX3_doubles_0 : cX3_doubles.data.toList.drop 0 = dktX3_doubles_0 := by decide +kernel
theorem dksX3_doubles_1 : cX3_doubles.data.toList.drop 24 = dktX3_doubles_1 := dk_seg dksX3_doubles_0 24 rfl rfl
theorem dksX3_doubles_2 : cX3_doubles.data.toList.drop 48 = dktX3_doubles_2 := dk_seg dksX3_doubles_1 24 rfl rfl
theorem dksX3_doubles_3 : cX3_doubles.data.toList.drop 71 = dktX3_doubles_3 := dk_seg dksX3_doubles_2 23 rfl rfl
theorem dksX3_doubles_4 : cX3_doubles.data.toList.drop 94 = dktX3_doubles_4 := dk_seg dksX3_doubles_3 23 rfl rfl
theorem dksX3_doubles_5 : cX3_doubles.data.toList.drop 118 = dktX3_doubles_5 := dk_seg dksX3_doubles_4 24 rfl rfl
theorem dksX3_doubles_6 : cX3_doubles.data.toList.drop 142 = dktX3_doubles_6 := dk_seg dksX3_doubles_5 24 rfl rfl
theorem dX3_doubles_0 : decode cX3_doubles 0 = .ok (.aload_n 0, 1) := dk_42 (dk_at dksX3_doubles_0 0 rfl rfl)
theorem dX3_doubles_1 : decode cX3_doubles 1 = .ok (.iconst 0, 1) := dk_3 (dk_at dksX3_doubles_0 1 rfl rfl)
theorem dX3_doubles_2 : decode cX3_doubles 2 = .ok (.putfield 109, 3) := dk_181 0 109 (dk_at dksX3_doubles_0 2 rfl rfl)
theorem dX3_doubles_5 : decode cX3_doubles 5 = .ok (.aload_n 0, 1) := dk_42 (dk_at dksX3_doubles_0 5 rfl rfl)
theorem dX3_doubles_6 : decode cX3_doubles 6 = .ok (.getfield 307, 3) := dk_180 1 51 (dk_at dksX3_doubles_0 6 rfl rfl)
theorem dX3_doubles_9 : decode cX3_doubles 9 = .ok (.ifCond .eq 8, 3) := dk_153 0 8 (dk_at dksX3_doubles_0 9 rfl rfl)
theorem dX3_doubles_12 : decode cX3_doubles 12 = .ok (.iload_n 1, 1) := dk_27 (dk_at dksX3_doubles_0 12 rfl rfl)
theorem dX3_doubles_13 : decode cX3_doubles 13 = .ok (.iconst (-1), 1) := dk_2 (dk_at dksX3_doubles_0 13 rfl rfl)
theorem dX3_doubles_14 : decode cX3_doubles 14 = .ok (.if_icmp .ge 5, 3) := dk_162 0 5 (dk_at dksX3_doubles_0 14 rfl rfl)
theorem dX3_doubles_17 : decode cX3_doubles 17 = .ok (.iconst (-1), 1) := dk_2 (dk_at dksX3_doubles_0 17 rfl rfl)
theorem dX3_doubles_18 : decode cX3_doubles 18 = .ok (.ireturn, 1) := dk_172 (dk_at dksX3_doubles_0 18 rfl rfl)
theorem dX3_doubles_19 : decode cX3_doubles 19 = .ok (.iconst 0, 1) := dk_3 (dk_at dksX3_doubles_0 19 rfl rfl)
theorem dX3_doubles_20 : decode cX3_doubles 20 = .ok (.istore_n 2, 1) := dk_61 (dk_at dksX3_doubles_0 20 rfl rfl)
theorem dX3_doubles_21 : decode cX3_doubles 21 = .ok (.iconst 0, 1) := dk_3 (dk_at dksX3_doubles_0 21 rfl rfl)
theorem dX3_doubles_22 : decode cX3_doubles 22 = .ok (.istore_n 3, 1) := dk_62 (dk_at dksX3_doubles_0 22 rfl rfl)
theorem dX3_doubles_23 : decode cX3_doubles 23 = .ok (.iload_n 3, 1) := dk_29 (dk_at dksX3_doubles_0 23 rfl rfl)
theorem dX3_doubles_24 : decode cX3_doubles 24 = .ok (.aload_n 0, 1) := dk_42 (dk_at dksX3_doubles_1 0 rfl rfl)
theorem dX3_doubles_25 : decode cX3_doubles 25 = .ok (.getfield 58, 3) := dk_180 0 58 (dk_at dksX3_doubles_1 1 rfl rfl)
theorem dX3_doubles_28 : decode cX3_doubles 28 = .ok (.bipush 40, 2) := dk_16 40 (dk_at dksX3_doubles_1 4 rfl rfl)
theorem dX3_doubles_30 : decode cX3_doubles 30 = .ok (.iaload, 1) := dk_46 (dk_at dksX3_doubles_1 6 rfl rfl)
theorem dX3_doubles_31 : decode cX3_doubles 31 = .ok (.if_icmp .ge 114, 3) := dk_162 0 114 (dk_at dksX3_doubles_1 7 rfl rfl)
theorem dX3_doubles_34 : decode cX3_doubles 34 = .ok (.iload_n 3, 1) := dk_29 (dk_at dksX3_doubles_1 10 rfl rfl)
theorem dX3_doubles_35 : decode cX3_doubles 35 = .ok (.iconst 1, 1) := dk_4 (dk_at dksX3_doubles_1 11 rfl rfl)
theorem dX3_doubles_36 : decode cX3_doubles 36 = .ok (.iadd, 1) := dk_96 (dk_at dksX3_doubles_1 12 rfl rfl)
theorem dX3_doubles_37 : decode cX3_doubles 37 = .ok (.istore 4, 2) := dk_54 4 (dk_at dksX3_doubles_1 13 rfl rfl)
theorem dX3_doubles_39 : decode cX3_doubles 39 = .ok (.iload 4, 2) := dk_21 4 (dk_at dksX3_doubles_1 15 rfl rfl)
theorem dX3_doubles_41 : decode cX3_doubles 41 = .ok (.aload_n 0, 1) := dk_42 (dk_at dksX3_doubles_1 17 rfl rfl)
theorem dX3_doubles_42 : decode cX3_doubles 42 = .ok (.getfield 58, 3) := dk_180 0 58 (dk_at dksX3_doubles_1 18 rfl rfl)
theorem dX3_doubles_45 : decode cX3_doubles 45 = .ok (.bipush 40, 2) := dk_16 40 (dk_at dksX3_doubles_1 21 rfl rfl)
theorem dX3_doubles_47 : decode cX3_doubles 47 = .ok (.iaload, 1) := dk_46 (dk_at dksX3_doubles_1 23 rfl rfl)
theorem dX3_doubles_48 : decode cX3_doubles 48 = .ok (.if_icmp .ge 91, 3) := dk_162 0 91 (dk_at dksX3_doubles_2 0 rfl rfl)
theorem dX3_doubles_51 : decode cX3_doubles 51 = .ok (.aload_n 0, 1) := dk_42 (dk_at dksX3_doubles_2 3 rfl rfl)
theorem dX3_doubles_52 : decode cX3_doubles 52 = .ok (.iload_n 3, 1) := dk_29 (dk_at dksX3_doubles_2 4 rfl rfl)
theorem dX3_doubles_53 : decode cX3_doubles 53 = .ok (.invokevirtual 478, 3) := dk_182 1 222 (dk_at dksX3_doubles_2 5 rfl rfl)
theorem dX3_doubles_56 : decode cX3_doubles 56 = .ok (.ifCond .eq 77, 3) := dk_153 0 77 (dk_at dksX3_doubles_2 8 rfl rfl)
theorem dX3_doubles_59 : decode cX3_doubles 59 = .ok (.aload_n 0, 1) := dk_42 (dk_at dksX3_doubles_2 11 rfl rfl)
theorem dX3_doubles_60 : decode cX3_doubles 60 = .ok (.iload 4, 2) := dk_21 4 (dk_at dksX3_doubles_2 12 rfl rfl)
theorem dX3_doubles_62 : decode cX3_doubles 62 = .ok (.invokevirtual 478, 3) := dk_182 1 222 (dk_at dksX3_doubles_2 14 rfl rfl)
theorem dX3_doubles_65 : decode cX3_doubles 65 = .ok (.ifCond .eq 68, 3) := dk_153 0 68 (dk_at dksX3_doubles_2 17 rfl rfl)
theorem dX3_doubles_68 : decode cX3_doubles 68 = .ok (.aload_n 0, 1) := dk_42 (dk_at dksX3_doubles_2 20 rfl rfl)
theorem dX3_doubles_69 : decode cX3_doubles 69 = .ok (.aload_n 0, 1) := dk_42 (dk_at dksX3_doubles_2 21 rfl rfl)
theorem dX3_doubles_70 : decode cX3_doubles 70 = .ok (.iload_n 3, 1) := dk_29 (dk_at dksX3_doubles_2 22 rfl rfl)
theorem dX3_doubles_71 : decode cX3_doubles 71 = .ok (.invokevirtual 446, 3) := dk_182 1 190 (dk_at dksX3_doubles_3 0 rfl rfl)
theorem dX3_doubles_74 : decode cX3_doubles 74 = .ok (.iconst 0, 1) := dk_3 (dk_at dksX3_doubles_3 3 rfl rfl)
theorem dX3_doubles_75 : decode cX3_doubles 75 = .ok (.invokevirtual 322, 3) := dk_182 1 66 (dk_at dksX3_doubles_3 4 rfl rfl)
theorem dX3_doubles_78 : decode cX3_doubles 78 = .ok (.aload_n 0, 1) := dk_42 (dk_at dksX3_doubles_3 7 rfl rfl)
theorem dX3_doubles_79 : decode cX3_doubles 79 = .ok (.aload_n 0, 1) := dk_42 (dk_at dksX3_doubles_3 8 rfl rfl)
theorem dX3_doubles_80 : decode cX3_doubles 80 = .ok (.iload 4, 2) := dk_21 4 (dk_at dksX3_doubles_3 9 rfl rfl)
theorem dX3_doubles_82 : decode cX3_doubles 82 = .ok (.invokevirtual 446, 3) := dk_182 1 190 (dk_at dksX3_doubles_3 11 rfl rfl)
theorem dX3_doubles_85 : decode cX3_doubles 85 = .ok (.iconst 0, 1) := dk_3 (dk_at dksX3_doubles_3 14 rfl rfl)
theorem dX3_doubles_86 : decode cX3_doubles 86 = .ok (.invokevirtual 322, 3) := dk_182 1 66 (dk_at dksX3_doubles_3 15 rfl rfl)
theorem dX3_doubles_89 : decode cX3_doubles 89 = .ok (.if_icmp .ne 44, 3) := dk_160 0 44 (dk_at dksX3_doubles_3 18 rfl rfl)
theorem dX3_doubles_92 : decode cX3_doubles 92 = .ok (.aload_n 0, 1) := dk_42 (dk_at dksX3_doubles_3 21 rfl rfl)
theorem dX3_doubles_93 : decode cX3_doubles 93 = .ok (.aload_n 0, 1) := dk_42 (dk_at dksX3_doubles_3 22 rfl rfl)
theorem dX3_doubles_94 : decode cX3_doubles 94 = .ok (.getfield 58, 3) := dk_180 0 58 (dk_at dksX3_doubles_4 0 rfl rfl)
theorem dX3_doubles_97 : decode cX3_doubles 97 = .ok (.iload_n 3, 1) := dk_29 (dk_at dksX3_doubles_4 3 rfl rfl)
theorem dX3_doubles_98 : decode cX3_doubles 98 = .ok (.invokevirtual 367, 3) := dk_182 1 111 (dk_at dksX3_doubles_4 4 rfl rfl)
theorem dX3_doubles_101 : decode cX3_doubles 101 = .ok (.aload_n 0, 1) := dk_42 (dk_at dksX3_doubles_4 7 rfl rfl)
theorem dX3_doubles_102 : decode cX3_doubles 102 = .ok (.aload_n 0, 1) := dk_42 (dk_at dksX3_doubles_4 8 rfl rfl)
theorem dX3_doubles_103 : decode cX3_doubles 103 = .ok (.getfield 58, 3) := dk_180 0 58 (dk_at dksX3_doubles_4 9 rfl rfl)
theorem dX3_doubles_106 : decode cX3_doubles 106 = .ok (.iload 4, 2) := dk_21 4 (dk_at dksX3_doubles_4 12 rfl rfl)
theorem dX3_doubles_108 : decode cX3_doubles 108 = .ok (.invokevirtual 367, 3) := dk_182 1 111 (dk_at dksX3_doubles_4 14 rfl rfl)
theorem dX3_doubles_111 : decode cX3_doubles 111 = .ok (.if_icmp .eq 6, 3) := dk_159 0 6 (dk_at dksX3_doubles_4 17 rfl rfl)
theorem dX3_doubles_114 : decode cX3_doubles 114 = .ok (.goto 19, 3) := dk_167 0 19 (dk_at dksX3_doubles_4 20 rfl rfl)
theorem dX3_doubles_117 : decode cX3_doubles 117 = .ok (.iload_n 2, 1) := dk_28 (dk_at dksX3_doubles_4 23 rfl rfl)
theorem dX3_doubles_118 : decode cX3_doubles 118 = .ok (.iload_n 1, 1) := dk_27 (dk_at dksX3_doubles_5 0 rfl rfl)
theorem dX3_doubles_119 : decode cX3_doubles 119 = .ok (.if_icmp .ne 11, 3) := dk_160 0 11 (dk_at dksX3_doubles_5 1 rfl rfl)
theorem dX3_doubles_122 : decode cX3_doubles 122 = .ok (.bipush 10, 2) := dk_16 10 (dk_at dksX3_doubles_5 4 rfl rfl)
theorem dX3_doubles_124 : decode cX3_doubles 124 = .ok (.iload_n 3, 1) := dk_29 (dk_at dksX3_doubles_5 6 rfl rfl)
theorem dX3_doubles_125 : decode cX3_doubles 125 = .ok (.imul, 1) := dk_104 (dk_at dksX3_doubles_5 7 rfl rfl)
theorem dX3_doubles_126 : decode cX3_doubles 126 = .ok (.iload 4, 2) := dk_21 4 (dk_at dksX3_doubles_5 8 rfl rfl)
theorem dX3_doubles_128 : decode cX3_doubles 128 = .ok (.iadd, 1) := dk_96 (dk_at dksX3_doubles_5 10 rfl rfl)
theorem dX3_doubles_129 : decode cX3_doubles 129 = .ok (.ireturn, 1) := dk_172 (dk_at dksX3_doubles_5 11 rfl rfl)
theorem dX3_doubles_130 : decode cX3_doubles 130 = .ok (.iinc 2 1, 3) := dk_132 2 1 (dk_at dksX3_doubles_5 12 rfl rfl)
theorem dX3_doubles_133 : decode cX3_doubles 133 = .ok (.iinc 4 1, 3) := dk_132 4 1 (dk_at dksX3_doubles_5 15 rfl rfl)
theorem dX3_doubles_136 : decode cX3_doubles 136 = .ok (.goto (-97), 3) := dk_167 255 159 (dk_at dksX3_doubles_5 18 rfl rfl)
theorem dX3_doubles_139 : decode cX3_doubles 139 = .ok (.iinc 3 1, 3) := dk_132 3 1 (dk_at dksX3_doubles_5 21 rfl rfl)
theorem dX3_doubles_142 : decode cX3_doubles 142 = .ok (.goto (-119), 3) := dk_167 255 137 (dk_at dksX3_doubles_6 0 rfl rfl)
theorem dX3_doubles_145 : decode cX3_doubles 145 = .ok (.iload_n 1, 1) := dk_27 (dk_at dksX3_doubles_6 3 rfl rfl)
theorem dX3_doubles_146 : decode cX3_doubles 146 = .ok (.iconst (-1), 1) := dk_2 (dk_at dksX3_doubles_6 4 rfl rfl)
theorem dX3_doubles_147 : decode cX3_doubles 147 = .ok (.if_icmp .ne 7, 3) := dk_160 0 7 (dk_at dksX3_doubles_6 5 rfl rfl)
theorem dX3_doubles_150 : decode cX3_doubles 150 = .ok (.iload_n 2, 1) := dk_28 (dk_at dksX3_doubles_6 8 rfl rfl)
theorem dX3_doubles_151 : decode cX3_doubles 151 = .ok (.goto 4, 3) := dk_167 0 4 (dk_at dksX3_doubles_6 9 rfl rfl)
theorem dX3_doubles_154 : decode cX3_doubles 154 = .ok (.iconst (-1), 1) := dk_2 (dk_at dksX3_doubles_6 12 rfl rfl)
theorem dX3_doubles_155 : decode cX3_doubles 155 = .ok (.ireturn, 1) := dk_172 (dk_at dksX3_doubles_6 13 rfl rfl)
abbrev cX3_peek : ByteArray := prog_14_method_101_code
def yX3_peek : MethodName := ⟨RX3, "peek", "(II)I"⟩
def dkwX3_peek_3 : List UInt8 := [42, 180, 1, 54, 28, 79, 42, 89, 180, 1, 54, 4, 96, 181, 1, 54, 42, 180, 1, 54, 172]
abbrev dktX3_peek_3 : List UInt8 := dkwX3_peek_3 ++ []
def dkwX3_peek_2 : List UInt8 := [180, 1, 54, 16, 12, 160, 0, 5, 2, 172, 42, 180, 0, 81, 42, 180, 1, 54, 27, 79, 42, 180, 0, 84]
abbrev dktX3_peek_2 : List UInt8 := dkwX3_peek_2 ++ dktX3_peek_3
def dkwX3_peek_1 : List UInt8 := [27, 133, 27, 154, 0, 9, 20, 1, 82, 167, 0, 6, 20, 1, 114, 184, 0, 230, 153, 0, 12, 42]
abbrev dktX3_peek_1 : List UInt8 := dkwX3_peek_1 ++ dktX3_peek_2
def dkwX3_peek_0 : List UInt8 := [42, 3, 181, 0, 109, 42, 180, 1, 51, 153, 0, 45, 27, 133, 9, 10, 184, 0, 230, 153, 0, 35, 28, 133]
abbrev dktX3_peek_0 : List UInt8 := dkwX3_peek_0 ++ dktX3_peek_1
theorem dksX3_peek_0 : cX3_peek.data.toList.drop 0 = dktX3_peek_0 := by decide +kernel
theorem dksX3_peek_1 : cX3_peek.data.toList.drop 24 = dktX3_peek_1 := dk_seg dksX3_peek_0 24 rfl rfl
theorem dksX3_peek_2 : cX3_peek.data.toList.drop 46 = dktX3_peek_2 := dk_seg dksX3_peek_1 22 rfl rfl
theorem dksX3_peek_3 : cX3_peek.data.toList.drop 70 = dktX3_peek_3 := dk_seg dksX3_peek_2 24 rfl rfl
theorem dX3_peek_0 : decode cX3_peek 0 = .ok (.aload_n 0, 1) := dk_42 (dk_at dksX3_peek_0 0 rfl rfl)
theorem dX3_peek_1 : decode cX3_peek 1 = .ok (.iconst 0, 1) := dk_3 (dk_at dksX3_peek_0 1 rfl rfl)
theorem dX3_peek_2 : decode cX3_peek 2 = .ok (.putfield 109, 3) := dk_181 0 109 (dk_at dksX3_peek_0 2 rfl rfl)
theorem dX3_peek_5 : decode cX3_peek 5 = .ok (.aload_n 0, 1) := dk_42 (dk_at dksX3_peek_0 5 rfl rfl)
theorem dX3_peek_6 : decode cX3_peek 6 = .ok (.getfield 307, 3) := dk_180 1 51 (dk_at dksX3_peek_0 6 rfl rfl)
theorem dX3_peek_9 : decode cX3_peek 9 = .ok (.ifCond .eq 45, 3) := dk_153 0 45 (dk_at dksX3_peek_0 9 rfl rfl)
theorem dX3_peek_12 : decode cX3_peek 12 = .ok (.iload_n 1, 1) := dk_27 (dk_at dksX3_peek_0 12 rfl rfl)
theorem dX3_peek_13 : decode cX3_peek 13 = .ok (.i2l, 1) := dk_133 (dk_at dksX3_peek_0 13 rfl rfl)
theorem dX3_peek_14 : decode cX3_peek 14 = .ok (.lconst 0, 1) := dk_9 (dk_at dksX3_peek_0 14 rfl rfl)
theorem dX3_peek_15 : decode cX3_peek 15 = .ok (.lconst 1, 1) := dk_10 (dk_at dksX3_peek_0 15 rfl rfl)
theorem dX3_peek_16 : decode cX3_peek 16 = .ok (.invokestatic 230, 3) := dk_184 0 230 (dk_at dksX3_peek_0 16 rfl rfl)
theorem dX3_peek_19 : decode cX3_peek 19 = .ok (.ifCond .eq 35, 3) := dk_153 0 35 (dk_at dksX3_peek_0 19 rfl rfl)
theorem dX3_peek_22 : decode cX3_peek 22 = .ok (.iload_n 2, 1) := dk_28 (dk_at dksX3_peek_0 22 rfl rfl)
theorem dX3_peek_23 : decode cX3_peek 23 = .ok (.i2l, 1) := dk_133 (dk_at dksX3_peek_0 23 rfl rfl)
theorem dX3_peek_24 : decode cX3_peek 24 = .ok (.iload_n 1, 1) := dk_27 (dk_at dksX3_peek_1 0 rfl rfl)
theorem dX3_peek_25 : decode cX3_peek 25 = .ok (.i2l, 1) := dk_133 (dk_at dksX3_peek_1 1 rfl rfl)
theorem dX3_peek_26 : decode cX3_peek 26 = .ok (.iload_n 1, 1) := dk_27 (dk_at dksX3_peek_1 2 rfl rfl)
theorem dX3_peek_27 : decode cX3_peek 27 = .ok (.ifCond .ne 9, 3) := dk_154 0 9 (dk_at dksX3_peek_1 3 rfl rfl)
theorem dX3_peek_30 : decode cX3_peek 30 = .ok (.ldc2_w 338, 3) := dk_20 1 82 (dk_at dksX3_peek_1 6 rfl rfl)
theorem dX3_peek_33 : decode cX3_peek 33 = .ok (.goto 6, 3) := dk_167 0 6 (dk_at dksX3_peek_1 9 rfl rfl)
theorem dX3_peek_36 : decode cX3_peek 36 = .ok (.ldc2_w 370, 3) := dk_20 1 114 (dk_at dksX3_peek_1 12 rfl rfl)
theorem dX3_peek_39 : decode cX3_peek 39 = .ok (.invokestatic 230, 3) := dk_184 0 230 (dk_at dksX3_peek_1 15 rfl rfl)
theorem dX3_peek_42 : decode cX3_peek 42 = .ok (.ifCond .eq 12, 3) := dk_153 0 12 (dk_at dksX3_peek_1 18 rfl rfl)
theorem dX3_peek_45 : decode cX3_peek 45 = .ok (.aload_n 0, 1) := dk_42 (dk_at dksX3_peek_1 21 rfl rfl)
theorem dX3_peek_46 : decode cX3_peek 46 = .ok (.getfield 310, 3) := dk_180 1 54 (dk_at dksX3_peek_2 0 rfl rfl)
theorem dX3_peek_49 : decode cX3_peek 49 = .ok (.bipush 12, 2) := dk_16 12 (dk_at dksX3_peek_2 3 rfl rfl)
theorem dX3_peek_51 : decode cX3_peek 51 = .ok (.if_icmp .ne 5, 3) := dk_160 0 5 (dk_at dksX3_peek_2 5 rfl rfl)
theorem dX3_peek_54 : decode cX3_peek 54 = .ok (.iconst (-1), 1) := dk_2 (dk_at dksX3_peek_2 8 rfl rfl)
theorem dX3_peek_55 : decode cX3_peek 55 = .ok (.ireturn, 1) := dk_172 (dk_at dksX3_peek_2 9 rfl rfl)
theorem dX3_peek_56 : decode cX3_peek 56 = .ok (.aload_n 0, 1) := dk_42 (dk_at dksX3_peek_2 10 rfl rfl)
theorem dX3_peek_57 : decode cX3_peek 57 = .ok (.getfield 81, 3) := dk_180 0 81 (dk_at dksX3_peek_2 11 rfl rfl)
theorem dX3_peek_60 : decode cX3_peek 60 = .ok (.aload_n 0, 1) := dk_42 (dk_at dksX3_peek_2 14 rfl rfl)
theorem dX3_peek_61 : decode cX3_peek 61 = .ok (.getfield 310, 3) := dk_180 1 54 (dk_at dksX3_peek_2 15 rfl rfl)
theorem dX3_peek_64 : decode cX3_peek 64 = .ok (.iload_n 1, 1) := dk_27 (dk_at dksX3_peek_2 18 rfl rfl)
theorem dX3_peek_65 : decode cX3_peek 65 = .ok (.iastore, 1) := dk_79 (dk_at dksX3_peek_2 19 rfl rfl)
theorem dX3_peek_66 : decode cX3_peek 66 = .ok (.aload_n 0, 1) := dk_42 (dk_at dksX3_peek_2 20 rfl rfl)
theorem dX3_peek_67 : decode cX3_peek 67 = .ok (.getfield 84, 3) := dk_180 0 84 (dk_at dksX3_peek_2 21 rfl rfl)
theorem dX3_peek_70 : decode cX3_peek 70 = .ok (.aload_n 0, 1) := dk_42 (dk_at dksX3_peek_3 0 rfl rfl)
theorem dX3_peek_71 : decode cX3_peek 71 = .ok (.getfield 310, 3) := dk_180 1 54 (dk_at dksX3_peek_3 1 rfl rfl)
theorem dX3_peek_74 : decode cX3_peek 74 = .ok (.iload_n 2, 1) := dk_28 (dk_at dksX3_peek_3 4 rfl rfl)
theorem dX3_peek_75 : decode cX3_peek 75 = .ok (.iastore, 1) := dk_79 (dk_at dksX3_peek_3 5 rfl rfl)
theorem dX3_peek_76 : decode cX3_peek 76 = .ok (.aload_n 0, 1) := dk_42 (dk_at dksX3_peek_3 6 rfl rfl)
theorem dX3_peek_77 : decode cX3_peek 77 = .ok (.dup, 1) := dk_89 (dk_at dksX3_peek_3 7 rfl rfl)
theorem dX3_peek_78 : decode cX3_peek 78 = .ok (.getfield 310, 3) := dk_180 1 54 (dk_at dksX3_peek_3 8 rfl rfl)
theorem dX3_peek_81 : decode cX3_peek 81 = .ok (.iconst 1, 1) := dk_4 (dk_at dksX3_peek_3 11 rfl rfl)
theorem dX3_peek_82 : decode cX3_peek 82 = .ok (.iadd, 1) := dk_96 (dk_at dksX3_peek_3 12 rfl rfl)
theorem dX3_peek_83 : decode cX3_peek 83 = .ok (.putfield 310, 3) := dk_181 1 54 (dk_at dksX3_peek_3 13 rfl rfl)
theorem dX3_peek_86 : decode cX3_peek 86 = .ok (.aload_n 0, 1) := dk_42 (dk_at dksX3_peek_3 16 rfl rfl)
theorem dX3_peek_87 : decode cX3_peek 87 = .ok (.getfield 310, 3) := dk_180 1 54 (dk_at dksX3_peek_3 17 rfl rfl)
theorem dX3_peek_90 : decode cX3_peek 90 = .ok (.ireturn, 1) := dk_172 (dk_at dksX3_peek_3 20 rfl rfl)
abbrev cX3_what : ByteArray := prog_14_method_104_code
def yX3_what : MethodName := ⟨RX3, "what", "(I)I"⟩
def dkwX3_what_5 : List UInt8 := [20, 1, 235, 42, 28, 182, 1, 228, 105, 33, 109, 136, 172]
abbrev dktX3_what_5 : List UInt8 := dkwX3_what_5 ++ []
def dkwX3_what_4 : List UInt8 := [132, 5, 1, 167, 255, 217, 27, 154, 0, 5, 28, 172, 33, 9, 148, 154, 0, 7, 3, 167, 0, 15]
abbrev dktX3_what_4 : List UInt8 := dkwX3_what_4 ++ dktX3_what_5
def dkwX3_what_3 : List UInt8 := [182, 1, 228, 42, 28, 182, 1, 228, 148, 158, 0, 6, 21, 5, 61, 33, 42, 21, 5, 182, 1, 228, 97, 66]
abbrev dktX3_what_3 : List UInt8 := dkwX3_what_3 ++ dktX3_what_4
def dkwX3_what_2 : List UInt8 := [167, 0, 4, 3, 172, 3, 61, 9, 66, 3, 54, 5, 21, 5, 42, 180, 1, 51, 162, 0, 36, 42, 21, 5]
abbrev dktX3_what_2 : List UInt8 := dkwX3_what_2 ++ dktX3_what_3
def dkwX3_what_1 : List UInt8 := [2, 172, 27, 5, 160, 0, 23, 42, 4, 182, 1, 232, 42, 3, 182, 1, 232, 148, 156, 0, 7, 4]
abbrev dktX3_what_1 : List UInt8 := dkwX3_what_1 ++ dktX3_what_2
def dkwX3_what_0 : List UInt8 := [42, 3, 181, 0, 109, 42, 180, 1, 51, 153, 0, 15, 27, 133, 9, 20, 1, 32, 184, 0, 230, 154, 0, 5]
abbrev dktX3_what_0 : List UInt8 := dkwX3_what_0 ++ dktX3_what_1
theorem dksX3_what_0 : cX3_what.data.toList.drop 0 = dktX3_what_0 := by decide +kernel
theorem dksX3_what_1 : cX3_what.data.toList.drop 24 = dktX3_what_1 := dk_seg dksX3_what_0 24 rfl rfl
theorem dksX3_what_2 : cX3_what.data.toList.drop 46 = dktX3_what_2 := dk_seg dksX3_what_1 22 rfl rfl
theorem dksX3_what_3 : cX3_what.data.toList.drop 70 = dktX3_what_3 := dk_seg dksX3_what_2 24 rfl rfl
theorem dksX3_what_4 : cX3_what.data.toList.drop 94 = dktX3_what_4 := dk_seg dksX3_what_3 24 rfl rfl
theorem dksX3_what_5 : cX3_what.data.toList.drop 116 = dktX3_what_5 := dk_seg dksX3_what_4 22 rfl rfl
theorem dX3_what_0 : decode cX3_what 0 = .ok (.aload_n 0, 1) := dk_42 (dk_at dksX3_what_0 0 rfl rfl)
theorem dX3_what_1 : decode cX3_what 1 = .ok (.iconst 0, 1) := dk_3 (dk_at dksX3_what_0 1 rfl rfl)
theorem dX3_what_2 : decode cX3_what 2 = .ok (.putfield 109, 3) := dk_181 0 109 (dk_at dksX3_what_0 2 rfl rfl)
theorem dX3_what_5 : decode cX3_what 5 = .ok (.aload_n 0, 1) := dk_42 (dk_at dksX3_what_0 5 rfl rfl)
theorem dX3_what_6 : decode cX3_what 6 = .ok (.getfield 307, 3) := dk_180 1 51 (dk_at dksX3_what_0 6 rfl rfl)
theorem dX3_what_9 : decode cX3_what 9 = .ok (.ifCond .eq 15, 3) := dk_153 0 15 (dk_at dksX3_what_0 9 rfl rfl)
theorem dX3_what_12 : decode cX3_what 12 = .ok (.iload_n 1, 1) := dk_27 (dk_at dksX3_what_0 12 rfl rfl)
theorem dX3_what_13 : decode cX3_what 13 = .ok (.i2l, 1) := dk_133 (dk_at dksX3_what_0 13 rfl rfl)
theorem dX3_what_14 : decode cX3_what 14 = .ok (.lconst 0, 1) := dk_9 (dk_at dksX3_what_0 14 rfl rfl)
theorem dX3_what_15 : decode cX3_what 15 = .ok (.ldc2_w 288, 3) := dk_20 1 32 (dk_at dksX3_what_0 15 rfl rfl)
theorem dX3_what_18 : decode cX3_what 18 = .ok (.invokestatic 230, 3) := dk_184 0 230 (dk_at dksX3_what_0 18 rfl rfl)
theorem dX3_what_21 : decode cX3_what 21 = .ok (.ifCond .ne 5, 3) := dk_154 0 5 (dk_at dksX3_what_0 21 rfl rfl)
theorem dX3_what_24 : decode cX3_what 24 = .ok (.iconst (-1), 1) := dk_2 (dk_at dksX3_what_1 0 rfl rfl)
theorem dX3_what_25 : decode cX3_what 25 = .ok (.ireturn, 1) := dk_172 (dk_at dksX3_what_1 1 rfl rfl)
theorem dX3_what_26 : decode cX3_what 26 = .ok (.iload_n 1, 1) := dk_27 (dk_at dksX3_what_1 2 rfl rfl)
theorem dX3_what_27 : decode cX3_what 27 = .ok (.iconst 2, 1) := dk_5 (dk_at dksX3_what_1 3 rfl rfl)
theorem dX3_what_28 : decode cX3_what 28 = .ok (.if_icmp .ne 23, 3) := dk_160 0 23 (dk_at dksX3_what_1 4 rfl rfl)
theorem dX3_what_31 : decode cX3_what 31 = .ok (.aload_n 0, 1) := dk_42 (dk_at dksX3_what_1 7 rfl rfl)
theorem dX3_what_32 : decode cX3_what 32 = .ok (.iconst 1, 1) := dk_4 (dk_at dksX3_what_1 8 rfl rfl)
theorem dX3_what_33 : decode cX3_what 33 = .ok (.invokevirtual 488, 3) := dk_182 1 232 (dk_at dksX3_what_1 9 rfl rfl)
theorem dX3_what_36 : decode cX3_what 36 = .ok (.aload_n 0, 1) := dk_42 (dk_at dksX3_what_1 12 rfl rfl)
theorem dX3_what_37 : decode cX3_what 37 = .ok (.iconst 0, 1) := dk_3 (dk_at dksX3_what_1 13 rfl rfl)
theorem dX3_what_38 : decode cX3_what 38 = .ok (.invokevirtual 488, 3) := dk_182 1 232 (dk_at dksX3_what_1 14 rfl rfl)
theorem dX3_what_41 : decode cX3_what 41 = .ok (.lcmp, 1) := dk_148 (dk_at dksX3_what_1 17 rfl rfl)
theorem dX3_what_42 : decode cX3_what 42 = .ok (.ifCond .ge 7, 3) := dk_156 0 7 (dk_at dksX3_what_1 18 rfl rfl)
theorem dX3_what_45 : decode cX3_what 45 = .ok (.iconst 1, 1) := dk_4 (dk_at dksX3_what_1 21 rfl rfl)
theorem dX3_what_46 : decode cX3_what 46 = .ok (.goto 4, 3) := dk_167 0 4 (dk_at dksX3_what_2 0 rfl rfl)
theorem dX3_what_49 : decode cX3_what 49 = .ok (.iconst 0, 1) := dk_3 (dk_at dksX3_what_2 3 rfl rfl)
theorem dX3_what_50 : decode cX3_what 50 = .ok (.ireturn, 1) := dk_172 (dk_at dksX3_what_2 4 rfl rfl)
theorem dX3_what_51 : decode cX3_what 51 = .ok (.iconst 0, 1) := dk_3 (dk_at dksX3_what_2 5 rfl rfl)
theorem dX3_what_52 : decode cX3_what 52 = .ok (.istore_n 2, 1) := dk_61 (dk_at dksX3_what_2 6 rfl rfl)
theorem dX3_what_53 : decode cX3_what 53 = .ok (.lconst 0, 1) := dk_9 (dk_at dksX3_what_2 7 rfl rfl)
theorem dX3_what_54 : decode cX3_what 54 = .ok (.lstore_n 3, 1) := dk_66 (dk_at dksX3_what_2 8 rfl rfl)
theorem dX3_what_55 : decode cX3_what 55 = .ok (.iconst 0, 1) := dk_3 (dk_at dksX3_what_2 9 rfl rfl)
theorem dX3_what_56 : decode cX3_what 56 = .ok (.istore 5, 2) := dk_54 5 (dk_at dksX3_what_2 10 rfl rfl)
theorem dX3_what_58 : decode cX3_what 58 = .ok (.iload 5, 2) := dk_21 5 (dk_at dksX3_what_2 12 rfl rfl)
theorem dX3_what_60 : decode cX3_what 60 = .ok (.aload_n 0, 1) := dk_42 (dk_at dksX3_what_2 14 rfl rfl)
theorem dX3_what_61 : decode cX3_what 61 = .ok (.getfield 307, 3) := dk_180 1 51 (dk_at dksX3_what_2 15 rfl rfl)
theorem dX3_what_64 : decode cX3_what 64 = .ok (.if_icmp .ge 36, 3) := dk_162 0 36 (dk_at dksX3_what_2 18 rfl rfl)
theorem dX3_what_67 : decode cX3_what 67 = .ok (.aload_n 0, 1) := dk_42 (dk_at dksX3_what_2 21 rfl rfl)
theorem dX3_what_68 : decode cX3_what 68 = .ok (.iload 5, 2) := dk_21 5 (dk_at dksX3_what_2 22 rfl rfl)
theorem dX3_what_70 : decode cX3_what 70 = .ok (.invokevirtual 484, 3) := dk_182 1 228 (dk_at dksX3_what_3 0 rfl rfl)
theorem dX3_what_73 : decode cX3_what 73 = .ok (.aload_n 0, 1) := dk_42 (dk_at dksX3_what_3 3 rfl rfl)
theorem dX3_what_74 : decode cX3_what 74 = .ok (.iload_n 2, 1) := dk_28 (dk_at dksX3_what_3 4 rfl rfl)
theorem dX3_what_75 : decode cX3_what 75 = .ok (.invokevirtual 484, 3) := dk_182 1 228 (dk_at dksX3_what_3 5 rfl rfl)
theorem dX3_what_78 : decode cX3_what 78 = .ok (.lcmp, 1) := dk_148 (dk_at dksX3_what_3 8 rfl rfl)
theorem dX3_what_79 : decode cX3_what 79 = .ok (.ifCond .le 6, 3) := dk_158 0 6 (dk_at dksX3_what_3 9 rfl rfl)
theorem dX3_what_82 : decode cX3_what 82 = .ok (.iload 5, 2) := dk_21 5 (dk_at dksX3_what_3 12 rfl rfl)
theorem dX3_what_84 : decode cX3_what 84 = .ok (.istore_n 2, 1) := dk_61 (dk_at dksX3_what_3 14 rfl rfl)
theorem dX3_what_85 : decode cX3_what 85 = .ok (.lload_n 3, 1) := dk_33 (dk_at dksX3_what_3 15 rfl rfl)
theorem dX3_what_86 : decode cX3_what 86 = .ok (.aload_n 0, 1) := dk_42 (dk_at dksX3_what_3 16 rfl rfl)
theorem dX3_what_87 : decode cX3_what 87 = .ok (.iload 5, 2) := dk_21 5 (dk_at dksX3_what_3 17 rfl rfl)
theorem dX3_what_89 : decode cX3_what 89 = .ok (.invokevirtual 484, 3) := dk_182 1 228 (dk_at dksX3_what_3 19 rfl rfl)
theorem dX3_what_92 : decode cX3_what 92 = .ok (.ladd, 1) := dk_97 (dk_at dksX3_what_3 22 rfl rfl)
theorem dX3_what_93 : decode cX3_what 93 = .ok (.lstore_n 3, 1) := dk_66 (dk_at dksX3_what_3 23 rfl rfl)
theorem dX3_what_94 : decode cX3_what 94 = .ok (.iinc 5 1, 3) := dk_132 5 1 (dk_at dksX3_what_4 0 rfl rfl)
theorem dX3_what_97 : decode cX3_what 97 = .ok (.goto (-39), 3) := dk_167 255 217 (dk_at dksX3_what_4 3 rfl rfl)
theorem dX3_what_100 : decode cX3_what 100 = .ok (.iload_n 1, 1) := dk_27 (dk_at dksX3_what_4 6 rfl rfl)
theorem dX3_what_101 : decode cX3_what 101 = .ok (.ifCond .ne 5, 3) := dk_154 0 5 (dk_at dksX3_what_4 7 rfl rfl)
theorem dX3_what_104 : decode cX3_what 104 = .ok (.iload_n 2, 1) := dk_28 (dk_at dksX3_what_4 10 rfl rfl)
theorem dX3_what_105 : decode cX3_what 105 = .ok (.ireturn, 1) := dk_172 (dk_at dksX3_what_4 11 rfl rfl)
theorem dX3_what_106 : decode cX3_what 106 = .ok (.lload_n 3, 1) := dk_33 (dk_at dksX3_what_4 12 rfl rfl)
theorem dX3_what_107 : decode cX3_what 107 = .ok (.lconst 0, 1) := dk_9 (dk_at dksX3_what_4 13 rfl rfl)
theorem dX3_what_108 : decode cX3_what 108 = .ok (.lcmp, 1) := dk_148 (dk_at dksX3_what_4 14 rfl rfl)
theorem dX3_what_109 : decode cX3_what 109 = .ok (.ifCond .ne 7, 3) := dk_154 0 7 (dk_at dksX3_what_4 15 rfl rfl)
theorem dX3_what_112 : decode cX3_what 112 = .ok (.iconst 0, 1) := dk_3 (dk_at dksX3_what_4 18 rfl rfl)
theorem dX3_what_113 : decode cX3_what 113 = .ok (.goto 15, 3) := dk_167 0 15 (dk_at dksX3_what_4 19 rfl rfl)
theorem dX3_what_116 : decode cX3_what 116 = .ok (.ldc2_w 491, 3) := dk_20 1 235 (dk_at dksX3_what_5 0 rfl rfl)
theorem dX3_what_119 : decode cX3_what 119 = .ok (.aload_n 0, 1) := dk_42 (dk_at dksX3_what_5 3 rfl rfl)
theorem dX3_what_120 : decode cX3_what 120 = .ok (.iload_n 2, 1) := dk_28 (dk_at dksX3_what_5 4 rfl rfl)
theorem dX3_what_121 : decode cX3_what 121 = .ok (.invokevirtual 484, 3) := dk_182 1 228 (dk_at dksX3_what_5 5 rfl rfl)
theorem dX3_what_124 : decode cX3_what 124 = .ok (.lmul, 1) := dk_105 (dk_at dksX3_what_5 8 rfl rfl)
theorem dX3_what_125 : decode cX3_what 125 = .ok (.lload_n 3, 1) := dk_33 (dk_at dksX3_what_5 9 rfl rfl)
theorem dX3_what_126 : decode cX3_what 126 = .ok (.ldiv, 1) := dk_109 (dk_at dksX3_what_5 10 rfl rfl)
theorem dX3_what_127 : decode cX3_what 127 = .ok (.l2i, 1) := dk_136 (dk_at dksX3_what_5 11 rfl rfl)
theorem dX3_what_128 : decode cX3_what 128 = .ok (.ireturn, 1) := dk_172 (dk_at dksX3_what_5 12 rfl rfl)
abbrev cX3_greatestBy : ByteArray := prog_14_method_103_code
def yX3_greatestBy : MethodName := ⟨RX3, "greatestBy", "(I)J"⟩
def dkwX3_greatestBy_3 : List UInt8 := [167, 255, 191, 32, 173]
abbrev dktX3_greatestBy_3 : List UInt8 := dkwX3_greatestBy_3 ++ []
def dkwX3_greatestBy_2 : List UInt8 := [167, 0, 4, 9, 97, 55, 5, 132, 7, 1, 167, 255, 217, 32, 22, 5, 184, 0, 164, 65, 132, 4, 1]
abbrev dktX3_greatestBy_2 : List UInt8 := dkwX3_greatestBy_2 ++ dktX3_greatestBy_3
def dkwX3_greatestBy_1 : List UInt8 := [162, 0, 36, 22, 5, 42, 21, 7, 27, 182, 1, 66, 21, 4, 160, 0, 12, 42, 21, 7, 182, 1, 228]
abbrev dktX3_greatestBy_1 : List UInt8 := dkwX3_greatestBy_1 ++ dktX3_greatestBy_2
def dkwX3_greatestBy_0 : List UInt8 := [9, 65, 3, 54, 4, 21, 4, 16, 9, 163, 0, 64, 9, 55, 5, 3, 54, 7, 21, 7, 42, 180, 1, 51]
abbrev dktX3_greatestBy_0 : List UInt8 := dkwX3_greatestBy_0 ++ dktX3_greatestBy_1
theorem dksX3_greatestBy_0 : cX3_greatestBy.data.toList.drop 0 = dktX3_greatestBy_0 := by decide +kernel
theorem dksX3_greatestBy_1 : cX3_greatestBy.data.toList.drop 24 = dktX3_greatestBy_1 := dk_seg dksX3_greatestBy_0 24 rfl rfl
theorem dksX3_greatestBy_2 : cX3_greatestBy.data.toList.drop 47 = dktX3_greatestBy_2 := dk_seg dksX3_greatestBy_1 23 rfl rfl
theorem dksX3_greatestBy_3 : cX3_greatestBy.data.toList.drop 70 = dktX3_greatestBy_3 := dk_seg dksX3_greatestBy_2 23 rfl rfl
theorem dX3_greatestBy_0 : decode cX3_greatestBy 0 = .ok (.lconst 0, 1) := dk_9 (dk_at dksX3_greatestBy_0 0 rfl rfl)
theorem dX3_greatestBy_1 : decode cX3_greatestBy 1 = .ok (.lstore_n 2, 1) := dk_65 (dk_at dksX3_greatestBy_0 1 rfl rfl)
theorem dX3_greatestBy_2 : decode cX3_greatestBy 2 = .ok (.iconst 0, 1) := dk_3 (dk_at dksX3_greatestBy_0 2 rfl rfl)
theorem dX3_greatestBy_3 : decode cX3_greatestBy 3 = .ok (.istore 4, 2) := dk_54 4 (dk_at dksX3_greatestBy_0 3 rfl rfl)
theorem dX3_greatestBy_5 : decode cX3_greatestBy 5 = .ok (.iload 4, 2) := dk_21 4 (dk_at dksX3_greatestBy_0 5 rfl rfl)
theorem dX3_greatestBy_7 : decode cX3_greatestBy 7 = .ok (.bipush 9, 2) := dk_16 9 (dk_at dksX3_greatestBy_0 7 rfl rfl)
theorem dX3_greatestBy_9 : decode cX3_greatestBy 9 = .ok (.if_icmp .gt 64, 3) := dk_163 0 64 (dk_at dksX3_greatestBy_0 9 rfl rfl)
theorem dX3_greatestBy_12 : decode cX3_greatestBy 12 = .ok (.lconst 0, 1) := dk_9 (dk_at dksX3_greatestBy_0 12 rfl rfl)
theorem dX3_greatestBy_13 : decode cX3_greatestBy 13 = .ok (.lstore 5, 2) := dk_55 5 (dk_at dksX3_greatestBy_0 13 rfl rfl)
theorem dX3_greatestBy_15 : decode cX3_greatestBy 15 = .ok (.iconst 0, 1) := dk_3 (dk_at dksX3_greatestBy_0 15 rfl rfl)
theorem dX3_greatestBy_16 : decode cX3_greatestBy 16 = .ok (.istore 7, 2) := dk_54 7 (dk_at dksX3_greatestBy_0 16 rfl rfl)
theorem dX3_greatestBy_18 : decode cX3_greatestBy 18 = .ok (.iload 7, 2) := dk_21 7 (dk_at dksX3_greatestBy_0 18 rfl rfl)
theorem dX3_greatestBy_20 : decode cX3_greatestBy 20 = .ok (.aload_n 0, 1) := dk_42 (dk_at dksX3_greatestBy_0 20 rfl rfl)
theorem dX3_greatestBy_21 : decode cX3_greatestBy 21 = .ok (.getfield 307, 3) := dk_180 1 51 (dk_at dksX3_greatestBy_0 21 rfl rfl)
theorem dX3_greatestBy_24 : decode cX3_greatestBy 24 = .ok (.if_icmp .ge 36, 3) := dk_162 0 36 (dk_at dksX3_greatestBy_1 0 rfl rfl)
theorem dX3_greatestBy_27 : decode cX3_greatestBy 27 = .ok (.lload 5, 2) := dk_22 5 (dk_at dksX3_greatestBy_1 3 rfl rfl)
theorem dX3_greatestBy_29 : decode cX3_greatestBy 29 = .ok (.aload_n 0, 1) := dk_42 (dk_at dksX3_greatestBy_1 5 rfl rfl)
theorem dX3_greatestBy_30 : decode cX3_greatestBy 30 = .ok (.iload 7, 2) := dk_21 7 (dk_at dksX3_greatestBy_1 6 rfl rfl)
theorem dX3_greatestBy_32 : decode cX3_greatestBy 32 = .ok (.iload_n 1, 1) := dk_27 (dk_at dksX3_greatestBy_1 8 rfl rfl)
theorem dX3_greatestBy_33 : decode cX3_greatestBy 33 = .ok (.invokevirtual 322, 3) := dk_182 1 66 (dk_at dksX3_greatestBy_1 9 rfl rfl)
theorem dX3_greatestBy_36 : decode cX3_greatestBy 36 = .ok (.iload 4, 2) := dk_21 4 (dk_at dksX3_greatestBy_1 12 rfl rfl)
theorem dX3_greatestBy_38 : decode cX3_greatestBy 38 = .ok (.if_icmp .ne 12, 3) := dk_160 0 12 (dk_at dksX3_greatestBy_1 14 rfl rfl)
theorem dX3_greatestBy_41 : decode cX3_greatestBy 41 = .ok (.aload_n 0, 1) := dk_42 (dk_at dksX3_greatestBy_1 17 rfl rfl)
theorem dX3_greatestBy_42 : decode cX3_greatestBy 42 = .ok (.iload 7, 2) := dk_21 7 (dk_at dksX3_greatestBy_1 18 rfl rfl)
theorem dX3_greatestBy_44 : decode cX3_greatestBy 44 = .ok (.invokevirtual 484, 3) := dk_182 1 228 (dk_at dksX3_greatestBy_1 20 rfl rfl)
theorem dX3_greatestBy_47 : decode cX3_greatestBy 47 = .ok (.goto 4, 3) := dk_167 0 4 (dk_at dksX3_greatestBy_2 0 rfl rfl)
theorem dX3_greatestBy_50 : decode cX3_greatestBy 50 = .ok (.lconst 0, 1) := dk_9 (dk_at dksX3_greatestBy_2 3 rfl rfl)
theorem dX3_greatestBy_51 : decode cX3_greatestBy 51 = .ok (.ladd, 1) := dk_97 (dk_at dksX3_greatestBy_2 4 rfl rfl)
theorem dX3_greatestBy_52 : decode cX3_greatestBy 52 = .ok (.lstore 5, 2) := dk_55 5 (dk_at dksX3_greatestBy_2 5 rfl rfl)
theorem dX3_greatestBy_54 : decode cX3_greatestBy 54 = .ok (.iinc 7 1, 3) := dk_132 7 1 (dk_at dksX3_greatestBy_2 7 rfl rfl)
theorem dX3_greatestBy_57 : decode cX3_greatestBy 57 = .ok (.goto (-39), 3) := dk_167 255 217 (dk_at dksX3_greatestBy_2 10 rfl rfl)
theorem dX3_greatestBy_60 : decode cX3_greatestBy 60 = .ok (.lload_n 2, 1) := dk_32 (dk_at dksX3_greatestBy_2 13 rfl rfl)
theorem dX3_greatestBy_61 : decode cX3_greatestBy 61 = .ok (.lload 5, 2) := dk_22 5 (dk_at dksX3_greatestBy_2 14 rfl rfl)
theorem dX3_greatestBy_63 : decode cX3_greatestBy 63 = .ok (.invokestatic 164, 3) := dk_184 0 164 (dk_at dksX3_greatestBy_2 16 rfl rfl)
theorem dX3_greatestBy_66 : decode cX3_greatestBy 66 = .ok (.lstore_n 2, 1) := dk_65 (dk_at dksX3_greatestBy_2 19 rfl rfl)
theorem dX3_greatestBy_67 : decode cX3_greatestBy 67 = .ok (.iinc 4 1, 3) := dk_132 4 1 (dk_at dksX3_greatestBy_2 20 rfl rfl)
theorem dX3_greatestBy_70 : decode cX3_greatestBy 70 = .ok (.goto (-65), 3) := dk_167 255 191 (dk_at dksX3_greatestBy_3 0 rfl rfl)
theorem dX3_greatestBy_73 : decode cX3_greatestBy 73 = .ok (.lload_n 2, 1) := dk_32 (dk_at dksX3_greatestBy_3 3 rfl rfl)
theorem dX3_greatestBy_74 : decode cX3_greatestBy 74 = .ok (.lreturn, 1) := dk_173 (dk_at dksX3_greatestBy_3 4 rfl rfl)
abbrev cX3_heldBy : ByteArray := prog_14_method_102_code
def yX3_heldBy : MethodName := ⟨RX3, "heldBy", "(I)J"⟩
def dkwX3_heldBy_2 : List UInt8 := [167, 0, 10, 42, 180, 0, 37, 6, 46, 133, 105, 65, 132, 4, 1, 167, 255, 199, 32, 173]
abbrev dktX3_heldBy_2 : List UInt8 := dkwX3_heldBy_2 ++ []
def dkwX3_heldBy_1 : List UInt8 := [182, 1, 66, 42, 180, 0, 84, 21, 4, 46, 160, 0, 16, 16, 10, 42, 180, 0, 37, 6, 46, 100, 133]
abbrev dktX3_heldBy_1 : List UInt8 := dkwX3_heldBy_1 ++ dktX3_heldBy_2
def dkwX3_heldBy_0 : List UInt8 := [10, 65, 3, 54, 4, 21, 4, 42, 180, 1, 54, 162, 0, 54, 32, 42, 27, 42, 180, 0, 81, 21, 4, 46]
abbrev dktX3_heldBy_0 : List UInt8 := dkwX3_heldBy_0 ++ dktX3_heldBy_1
theorem dksX3_heldBy_0 : cX3_heldBy.data.toList.drop 0 = dktX3_heldBy_0 := by decide +kernel
theorem dksX3_heldBy_1 : cX3_heldBy.data.toList.drop 24 = dktX3_heldBy_1 := dk_seg dksX3_heldBy_0 24 rfl rfl
theorem dksX3_heldBy_2 : cX3_heldBy.data.toList.drop 47 = dktX3_heldBy_2 := dk_seg dksX3_heldBy_1 23 rfl rfl
theorem dX3_heldBy_0 : decode cX3_heldBy 0 = .ok (.lconst 1, 1) := dk_10 (dk_at dksX3_heldBy_0 0 rfl rfl)
theorem dX3_heldBy_1 : decode cX3_heldBy 1 = .ok (.lstore_n 2, 1) := dk_65 (dk_at dksX3_heldBy_0 1 rfl rfl)
theorem dX3_heldBy_2 : decode cX3_heldBy 2 = .ok (.iconst 0, 1) := dk_3 (dk_at dksX3_heldBy_0 2 rfl rfl)
theorem dX3_heldBy_3 : decode cX3_heldBy 3 = .ok (.istore 4, 2) := dk_54 4 (dk_at dksX3_heldBy_0 3 rfl rfl)
theorem dX3_heldBy_5 : decode cX3_heldBy 5 = .ok (.iload 4, 2) := dk_21 4 (dk_at dksX3_heldBy_0 5 rfl rfl)
theorem dX3_heldBy_7 : decode cX3_heldBy 7 = .ok (.aload_n 0, 1) := dk_42 (dk_at dksX3_heldBy_0 7 rfl rfl)
theorem dX3_heldBy_8 : decode cX3_heldBy 8 = .ok (.getfield 310, 3) := dk_180 1 54 (dk_at dksX3_heldBy_0 8 rfl rfl)
theorem dX3_heldBy_11 : decode cX3_heldBy 11 = .ok (.if_icmp .ge 54, 3) := dk_162 0 54 (dk_at dksX3_heldBy_0 11 rfl rfl)
theorem dX3_heldBy_14 : decode cX3_heldBy 14 = .ok (.lload_n 2, 1) := dk_32 (dk_at dksX3_heldBy_0 14 rfl rfl)
theorem dX3_heldBy_15 : decode cX3_heldBy 15 = .ok (.aload_n 0, 1) := dk_42 (dk_at dksX3_heldBy_0 15 rfl rfl)
theorem dX3_heldBy_16 : decode cX3_heldBy 16 = .ok (.iload_n 1, 1) := dk_27 (dk_at dksX3_heldBy_0 16 rfl rfl)
theorem dX3_heldBy_17 : decode cX3_heldBy 17 = .ok (.aload_n 0, 1) := dk_42 (dk_at dksX3_heldBy_0 17 rfl rfl)
theorem dX3_heldBy_18 : decode cX3_heldBy 18 = .ok (.getfield 81, 3) := dk_180 0 81 (dk_at dksX3_heldBy_0 18 rfl rfl)
theorem dX3_heldBy_21 : decode cX3_heldBy 21 = .ok (.iload 4, 2) := dk_21 4 (dk_at dksX3_heldBy_0 21 rfl rfl)
theorem dX3_heldBy_23 : decode cX3_heldBy 23 = .ok (.iaload, 1) := dk_46 (dk_at dksX3_heldBy_0 23 rfl rfl)
theorem dX3_heldBy_24 : decode cX3_heldBy 24 = .ok (.invokevirtual 322, 3) := dk_182 1 66 (dk_at dksX3_heldBy_1 0 rfl rfl)
theorem dX3_heldBy_27 : decode cX3_heldBy 27 = .ok (.aload_n 0, 1) := dk_42 (dk_at dksX3_heldBy_1 3 rfl rfl)
theorem dX3_heldBy_28 : decode cX3_heldBy 28 = .ok (.getfield 84, 3) := dk_180 0 84 (dk_at dksX3_heldBy_1 4 rfl rfl)
theorem dX3_heldBy_31 : decode cX3_heldBy 31 = .ok (.iload 4, 2) := dk_21 4 (dk_at dksX3_heldBy_1 7 rfl rfl)
theorem dX3_heldBy_33 : decode cX3_heldBy 33 = .ok (.iaload, 1) := dk_46 (dk_at dksX3_heldBy_1 9 rfl rfl)
theorem dX3_heldBy_34 : decode cX3_heldBy 34 = .ok (.if_icmp .ne 16, 3) := dk_160 0 16 (dk_at dksX3_heldBy_1 10 rfl rfl)
theorem dX3_heldBy_37 : decode cX3_heldBy 37 = .ok (.bipush 10, 2) := dk_16 10 (dk_at dksX3_heldBy_1 13 rfl rfl)
theorem dX3_heldBy_39 : decode cX3_heldBy 39 = .ok (.aload_n 0, 1) := dk_42 (dk_at dksX3_heldBy_1 15 rfl rfl)
theorem dX3_heldBy_40 : decode cX3_heldBy 40 = .ok (.getfield 37, 3) := dk_180 0 37 (dk_at dksX3_heldBy_1 16 rfl rfl)
theorem dX3_heldBy_43 : decode cX3_heldBy 43 = .ok (.iconst 3, 1) := dk_6 (dk_at dksX3_heldBy_1 19 rfl rfl)
theorem dX3_heldBy_44 : decode cX3_heldBy 44 = .ok (.iaload, 1) := dk_46 (dk_at dksX3_heldBy_1 20 rfl rfl)
theorem dX3_heldBy_45 : decode cX3_heldBy 45 = .ok (.isub, 1) := dk_100 (dk_at dksX3_heldBy_1 21 rfl rfl)
theorem dX3_heldBy_46 : decode cX3_heldBy 46 = .ok (.i2l, 1) := dk_133 (dk_at dksX3_heldBy_1 22 rfl rfl)
theorem dX3_heldBy_47 : decode cX3_heldBy 47 = .ok (.goto 10, 3) := dk_167 0 10 (dk_at dksX3_heldBy_2 0 rfl rfl)
theorem dX3_heldBy_50 : decode cX3_heldBy 50 = .ok (.aload_n 0, 1) := dk_42 (dk_at dksX3_heldBy_2 3 rfl rfl)
theorem dX3_heldBy_51 : decode cX3_heldBy 51 = .ok (.getfield 37, 3) := dk_180 0 37 (dk_at dksX3_heldBy_2 4 rfl rfl)
theorem dX3_heldBy_54 : decode cX3_heldBy 54 = .ok (.iconst 3, 1) := dk_6 (dk_at dksX3_heldBy_2 7 rfl rfl)
theorem dX3_heldBy_55 : decode cX3_heldBy 55 = .ok (.iaload, 1) := dk_46 (dk_at dksX3_heldBy_2 8 rfl rfl)
theorem dX3_heldBy_56 : decode cX3_heldBy 56 = .ok (.i2l, 1) := dk_133 (dk_at dksX3_heldBy_2 9 rfl rfl)
theorem dX3_heldBy_57 : decode cX3_heldBy 57 = .ok (.lmul, 1) := dk_105 (dk_at dksX3_heldBy_2 10 rfl rfl)
theorem dX3_heldBy_58 : decode cX3_heldBy 58 = .ok (.lstore_n 2, 1) := dk_65 (dk_at dksX3_heldBy_2 11 rfl rfl)
theorem dX3_heldBy_59 : decode cX3_heldBy 59 = .ok (.iinc 4 1, 3) := dk_132 4 1 (dk_at dksX3_heldBy_2 12 rfl rfl)
theorem dX3_heldBy_62 : decode cX3_heldBy 62 = .ok (.goto (-57), 3) := dk_167 255 199 (dk_at dksX3_heldBy_2 15 rfl rfl)
theorem dX3_heldBy_65 : decode cX3_heldBy 65 = .ok (.lload_n 2, 1) := dk_32 (dk_at dksX3_heldBy_2 18 rfl rfl)
theorem dX3_heldBy_66 : decode cX3_heldBy 66 = .ok (.lreturn, 1) := dk_173 (dk_at dksX3_heldBy_2 19 rfl rfl)
abbrev cX3_found : ByteArray := prog_14_method_105_code
def yX3_found : MethodName := ⟨RX3, "found", "(IIZ)I"⟩
def dkwX3_found_3 : List UInt8 := [84, 42, 89, 180, 1, 57, 4, 96, 181, 1, 57, 42, 180, 1, 57, 172]
abbrev dktX3_found_3 : List UInt8 := dkwX3_found_3 ++ []
def dkwX3_found_2 : List UInt8 := [180, 1, 57, 27, 79, 42, 180, 0, 90, 42, 180, 1, 57, 28, 79, 42, 180, 0, 102, 42, 180, 1, 57, 29]
abbrev dktX3_found_2 : List UInt8 := dkwX3_found_2 ++ dktX3_found_3
def dkwX3_found_1 : List UInt8 := [42, 28, 182, 1, 100, 153, 0, 12, 42, 180, 1, 57, 16, 10, 160, 0, 5, 2, 172, 42, 180, 0, 87, 42]
abbrev dktX3_found_1 : List UInt8 := dkwX3_found_1 ++ dktX3_found_2
def dkwX3_found_0 : List UInt8 := [42, 3, 181, 0, 109, 42, 180, 1, 51, 153, 0, 32, 27, 133, 9, 20, 1, 82, 184, 0, 230, 153, 0, 20]
abbrev dktX3_found_0 : List UInt8 := dkwX3_found_0 ++ dktX3_found_1
theorem dksX3_found_0 : cX3_found.data.toList.drop 0 = dktX3_found_0 := by decide +kernel
theorem dksX3_found_1 : cX3_found.data.toList.drop 24 = dktX3_found_1 := dk_seg dksX3_found_0 24 rfl rfl
theorem dksX3_found_2 : cX3_found.data.toList.drop 48 = dktX3_found_2 := dk_seg dksX3_found_1 24 rfl rfl
theorem dksX3_found_3 : cX3_found.data.toList.drop 72 = dktX3_found_3 := dk_seg dksX3_found_2 24 rfl rfl
theorem dX3_found_0 : decode cX3_found 0 = .ok (.aload_n 0, 1) := dk_42 (dk_at dksX3_found_0 0 rfl rfl)
theorem dX3_found_1 : decode cX3_found 1 = .ok (.iconst 0, 1) := dk_3 (dk_at dksX3_found_0 1 rfl rfl)
theorem dX3_found_2 : decode cX3_found 2 = .ok (.putfield 109, 3) := dk_181 0 109 (dk_at dksX3_found_0 2 rfl rfl)
theorem dX3_found_5 : decode cX3_found 5 = .ok (.aload_n 0, 1) := dk_42 (dk_at dksX3_found_0 5 rfl rfl)
theorem dX3_found_6 : decode cX3_found 6 = .ok (.getfield 307, 3) := dk_180 1 51 (dk_at dksX3_found_0 6 rfl rfl)
theorem dX3_found_9 : decode cX3_found 9 = .ok (.ifCond .eq 32, 3) := dk_153 0 32 (dk_at dksX3_found_0 9 rfl rfl)
theorem dX3_found_12 : decode cX3_found 12 = .ok (.iload_n 1, 1) := dk_27 (dk_at dksX3_found_0 12 rfl rfl)
theorem dX3_found_13 : decode cX3_found 13 = .ok (.i2l, 1) := dk_133 (dk_at dksX3_found_0 13 rfl rfl)
theorem dX3_found_14 : decode cX3_found 14 = .ok (.lconst 0, 1) := dk_9 (dk_at dksX3_found_0 14 rfl rfl)
theorem dX3_found_15 : decode cX3_found 15 = .ok (.ldc2_w 338, 3) := dk_20 1 82 (dk_at dksX3_found_0 15 rfl rfl)
theorem dX3_found_18 : decode cX3_found 18 = .ok (.invokestatic 230, 3) := dk_184 0 230 (dk_at dksX3_found_0 18 rfl rfl)
theorem dX3_found_21 : decode cX3_found 21 = .ok (.ifCond .eq 20, 3) := dk_153 0 20 (dk_at dksX3_found_0 21 rfl rfl)
theorem dX3_found_24 : decode cX3_found 24 = .ok (.aload_n 0, 1) := dk_42 (dk_at dksX3_found_1 0 rfl rfl)
theorem dX3_found_25 : decode cX3_found 25 = .ok (.iload_n 2, 1) := dk_28 (dk_at dksX3_found_1 1 rfl rfl)
theorem dX3_found_26 : decode cX3_found 26 = .ok (.invokevirtual 356, 3) := dk_182 1 100 (dk_at dksX3_found_1 2 rfl rfl)
theorem dX3_found_29 : decode cX3_found 29 = .ok (.ifCond .eq 12, 3) := dk_153 0 12 (dk_at dksX3_found_1 5 rfl rfl)
theorem dX3_found_32 : decode cX3_found 32 = .ok (.aload_n 0, 1) := dk_42 (dk_at dksX3_found_1 8 rfl rfl)
theorem dX3_found_33 : decode cX3_found 33 = .ok (.getfield 313, 3) := dk_180 1 57 (dk_at dksX3_found_1 9 rfl rfl)
theorem dX3_found_36 : decode cX3_found 36 = .ok (.bipush 10, 2) := dk_16 10 (dk_at dksX3_found_1 12 rfl rfl)
theorem dX3_found_38 : decode cX3_found 38 = .ok (.if_icmp .ne 5, 3) := dk_160 0 5 (dk_at dksX3_found_1 14 rfl rfl)
theorem dX3_found_41 : decode cX3_found 41 = .ok (.iconst (-1), 1) := dk_2 (dk_at dksX3_found_1 17 rfl rfl)
theorem dX3_found_42 : decode cX3_found 42 = .ok (.ireturn, 1) := dk_172 (dk_at dksX3_found_1 18 rfl rfl)
theorem dX3_found_43 : decode cX3_found 43 = .ok (.aload_n 0, 1) := dk_42 (dk_at dksX3_found_1 19 rfl rfl)
theorem dX3_found_44 : decode cX3_found 44 = .ok (.getfield 87, 3) := dk_180 0 87 (dk_at dksX3_found_1 20 rfl rfl)
theorem dX3_found_47 : decode cX3_found 47 = .ok (.aload_n 0, 1) := dk_42 (dk_at dksX3_found_1 23 rfl rfl)
theorem dX3_found_48 : decode cX3_found 48 = .ok (.getfield 313, 3) := dk_180 1 57 (dk_at dksX3_found_2 0 rfl rfl)
theorem dX3_found_51 : decode cX3_found 51 = .ok (.iload_n 1, 1) := dk_27 (dk_at dksX3_found_2 3 rfl rfl)
theorem dX3_found_52 : decode cX3_found 52 = .ok (.iastore, 1) := dk_79 (dk_at dksX3_found_2 4 rfl rfl)
theorem dX3_found_53 : decode cX3_found 53 = .ok (.aload_n 0, 1) := dk_42 (dk_at dksX3_found_2 5 rfl rfl)
theorem dX3_found_54 : decode cX3_found 54 = .ok (.getfield 90, 3) := dk_180 0 90 (dk_at dksX3_found_2 6 rfl rfl)
theorem dX3_found_57 : decode cX3_found 57 = .ok (.aload_n 0, 1) := dk_42 (dk_at dksX3_found_2 9 rfl rfl)
theorem dX3_found_58 : decode cX3_found 58 = .ok (.getfield 313, 3) := dk_180 1 57 (dk_at dksX3_found_2 10 rfl rfl)
theorem dX3_found_61 : decode cX3_found 61 = .ok (.iload_n 2, 1) := dk_28 (dk_at dksX3_found_2 13 rfl rfl)
theorem dX3_found_62 : decode cX3_found 62 = .ok (.iastore, 1) := dk_79 (dk_at dksX3_found_2 14 rfl rfl)
theorem dX3_found_63 : decode cX3_found 63 = .ok (.aload_n 0, 1) := dk_42 (dk_at dksX3_found_2 15 rfl rfl)
theorem dX3_found_64 : decode cX3_found 64 = .ok (.getfield 102, 3) := dk_180 0 102 (dk_at dksX3_found_2 16 rfl rfl)
theorem dX3_found_67 : decode cX3_found 67 = .ok (.aload_n 0, 1) := dk_42 (dk_at dksX3_found_2 19 rfl rfl)
theorem dX3_found_68 : decode cX3_found 68 = .ok (.getfield 313, 3) := dk_180 1 57 (dk_at dksX3_found_2 20 rfl rfl)
theorem dX3_found_71 : decode cX3_found 71 = .ok (.iload_n 3, 1) := dk_29 (dk_at dksX3_found_2 23 rfl rfl)
theorem dX3_found_72 : decode cX3_found 72 = .ok (.bastore, 1) := dk_84 (dk_at dksX3_found_3 0 rfl rfl)
theorem dX3_found_73 : decode cX3_found 73 = .ok (.aload_n 0, 1) := dk_42 (dk_at dksX3_found_3 1 rfl rfl)
theorem dX3_found_74 : decode cX3_found 74 = .ok (.dup, 1) := dk_89 (dk_at dksX3_found_3 2 rfl rfl)
theorem dX3_found_75 : decode cX3_found 75 = .ok (.getfield 313, 3) := dk_180 1 57 (dk_at dksX3_found_3 3 rfl rfl)
theorem dX3_found_78 : decode cX3_found 78 = .ok (.iconst 1, 1) := dk_4 (dk_at dksX3_found_3 6 rfl rfl)
theorem dX3_found_79 : decode cX3_found 79 = .ok (.iadd, 1) := dk_96 (dk_at dksX3_found_3 7 rfl rfl)
theorem dX3_found_80 : decode cX3_found 80 = .ok (.putfield 313, 3) := dk_181 1 57 (dk_at dksX3_found_3 8 rfl rfl)
theorem dX3_found_83 : decode cX3_found 83 = .ok (.aload_n 0, 1) := dk_42 (dk_at dksX3_found_3 11 rfl rfl)
theorem dX3_found_84 : decode cX3_found 84 = .ok (.getfield 313, 3) := dk_180 1 57 (dk_at dksX3_found_3 12 rfl rfl)
theorem dX3_found_87 : decode cX3_found 87 = .ok (.ireturn, 1) := dk_172 (dk_at dksX3_found_3 15 rfl rfl)
abbrev cX3_history : ByteArray := prog_14_method_109_code
def yX3_history : MethodName := ⟨RX3, "history", "(II)I"⟩
def dkwX3_history_1 : List UInt8 := [160, 0, 10, 42, 180, 1, 237, 167, 0, 7, 42, 180, 1, 240, 172]
abbrev dktX3_history_1 : List UInt8 := dkwX3_history_1 ++ []
def dkwX3_history_0 : List UInt8 := [42, 3, 181, 0, 109, 28, 2, 161, 0, 12, 42, 27, 28, 182, 1, 255, 154, 0, 5, 2, 172, 28, 2]
abbrev dktX3_history_0 : List UInt8 := dkwX3_history_0 ++ dktX3_history_1
theorem dksX3_history_0 : cX3_history.data.toList.drop 0 = dktX3_history_0 := by decide +kernel
theorem dksX3_history_1 : cX3_history.data.toList.drop 23 = dktX3_history_1 := dk_seg dksX3_history_0 23 rfl rfl
theorem dX3_history_0 : decode cX3_history 0 = .ok (.aload_n 0, 1) := dk_42 (dk_at dksX3_history_0 0 rfl rfl)
theorem dX3_history_1 : decode cX3_history 1 = .ok (.iconst 0, 1) := dk_3 (dk_at dksX3_history_0 1 rfl rfl)
theorem dX3_history_2 : decode cX3_history 2 = .ok (.putfield 109, 3) := dk_181 0 109 (dk_at dksX3_history_0 2 rfl rfl)
theorem dX3_history_5 : decode cX3_history 5 = .ok (.iload_n 2, 1) := dk_28 (dk_at dksX3_history_0 5 rfl rfl)
theorem dX3_history_6 : decode cX3_history 6 = .ok (.iconst (-1), 1) := dk_2 (dk_at dksX3_history_0 6 rfl rfl)
theorem dX3_history_7 : decode cX3_history 7 = .ok (.if_icmp .lt 12, 3) := dk_161 0 12 (dk_at dksX3_history_0 7 rfl rfl)
theorem dX3_history_10 : decode cX3_history 10 = .ok (.aload_n 0, 1) := dk_42 (dk_at dksX3_history_0 10 rfl rfl)
theorem dX3_history_11 : decode cX3_history 11 = .ok (.iload_n 1, 1) := dk_27 (dk_at dksX3_history_0 11 rfl rfl)
theorem dX3_history_12 : decode cX3_history 12 = .ok (.iload_n 2, 1) := dk_28 (dk_at dksX3_history_0 12 rfl rfl)
theorem dX3_history_13 : decode cX3_history 13 = .ok (.invokevirtual 511, 3) := dk_182 1 255 (dk_at dksX3_history_0 13 rfl rfl)
theorem dX3_history_16 : decode cX3_history 16 = .ok (.ifCond .ne 5, 3) := dk_154 0 5 (dk_at dksX3_history_0 16 rfl rfl)
theorem dX3_history_19 : decode cX3_history 19 = .ok (.iconst (-1), 1) := dk_2 (dk_at dksX3_history_0 19 rfl rfl)
theorem dX3_history_20 : decode cX3_history 20 = .ok (.ireturn, 1) := dk_172 (dk_at dksX3_history_0 20 rfl rfl)
theorem dX3_history_21 : decode cX3_history 21 = .ok (.iload_n 2, 1) := dk_28 (dk_at dksX3_history_0 21 rfl rfl)
theorem dX3_history_22 : decode cX3_history 22 = .ok (.iconst (-1), 1) := dk_2 (dk_at dksX3_history_0 22 rfl rfl)
theorem dX3_history_23 : decode cX3_history 23 = .ok (.if_icmp .ne 10, 3) := dk_160 0 10 (dk_at dksX3_history_1 0 rfl rfl)
theorem dX3_history_26 : decode cX3_history 26 = .ok (.aload_n 0, 1) := dk_42 (dk_at dksX3_history_1 3 rfl rfl)
theorem dX3_history_27 : decode cX3_history 27 = .ok (.getfield 493, 3) := dk_180 1 237 (dk_at dksX3_history_1 4 rfl rfl)
theorem dX3_history_30 : decode cX3_history 30 = .ok (.goto 7, 3) := dk_167 0 7 (dk_at dksX3_history_1 7 rfl rfl)
theorem dX3_history_33 : decode cX3_history 33 = .ok (.aload_n 0, 1) := dk_42 (dk_at dksX3_history_1 10 rfl rfl)
theorem dX3_history_34 : decode cX3_history 34 = .ok (.getfield 496, 3) := dk_180 1 240 (dk_at dksX3_history_1 11 rfl rfl)
theorem dX3_history_37 : decode cX3_history 37 = .ok (.ireturn, 1) := dk_172 (dk_at dksX3_history_1 14 rfl rfl)
abbrev cX3_layHistory : ByteArray := prog_14_method_108_code
def yX3_layHistory : MethodName := ⟨RX3, "layHistory", "(II)Z"⟩
def dkwX3_layHistory_5 : List UInt8 := [182, 1, 249, 4, 172]
abbrev dktX3_layHistory_5 : List UInt8 := dkwX3_layHistory_5 ++ []
def dkwX3_layHistory_4 : List UInt8 := [3, 172, 42, 3, 181, 1, 237, 42, 2, 181, 1, 240, 42, 16, 63, 181, 1, 243, 42, 3, 3, 28]
abbrev dktX3_layHistory_4 : List UInt8 := dkwX3_layHistory_4 ++ dktX3_layHistory_5
def dkwX3_layHistory_3 : List UInt8 := [180, 0, 93, 21, 5, 46, 158, 0, 5, 3, 172, 132, 5, 255, 167, 255, 199, 21, 4, 16, 6, 159, 0, 5]
abbrev dktX3_layHistory_3 : List UInt8 := dkwX3_layHistory_3 ++ dktX3_layHistory_4
def dkwX3_layHistory_2 : List UInt8 := [108, 62, 21, 4, 42, 180, 0, 93, 21, 5, 46, 96, 54, 4, 21, 5, 42, 180, 1, 51, 161, 0, 15, 42]
abbrev dktX3_layHistory_2 : List UInt8 := dkwX3_layHistory_2 ++ dktX3_layHistory_3
def dkwX3_layHistory_1 : List UInt8 := [54, 4, 8, 54, 5, 21, 5, 155, 0, 58, 42, 180, 0, 93, 21, 5, 29, 16, 10, 112, 79, 29, 16, 10]
abbrev dktX3_layHistory_1 : List UInt8 := dkwX3_layHistory_1 ++ dktX3_layHistory_2
def dkwX3_layHistory_0 : List UInt8 := [42, 180, 1, 51, 153, 0, 15, 27, 133, 9, 20, 1, 253, 184, 0, 230, 154, 0, 5, 3, 172, 27, 62, 3]
abbrev dktX3_layHistory_0 : List UInt8 := dkwX3_layHistory_0 ++ dktX3_layHistory_1
theorem dksX3_layHistory_0 : cX3_layHistory.data.toList.drop 0 = dktX3_layHistory_0 := by decide +kernel
theorem dksX3_layHistory_1 : cX3_layHistory.data.toList.drop 24 = dktX3_layHistory_1 := dk_seg dksX3_layHistory_0 24 rfl rfl
theorem dksX3_layHistory_2 : cX3_layHistory.data.toList.drop 48 = dktX3_layHistory_2 := dk_seg dksX3_layHistory_1 24 rfl rfl
theorem dksX3_layHistory_3 : cX3_layHistory.data.toList.drop 72 = dktX3_layHistory_3 := dk_seg dksX3_layHistory_2 24 rfl rfl
theorem dksX3_layHistory_4 : cX3_layHistory.data.toList.drop 96 = dktX3_layHistory_4 := dk_seg dksX3_layHistory_3 24 rfl rfl
theorem dksX3_layHistory_5 : cX3_layHistory.data.toList.drop 118 = dktX3_layHistory_5 := dk_seg dksX3_layHistory_4 22 rfl rfl
theorem dX3_layHistory_0 : decode cX3_layHistory 0 = .ok (.aload_n 0, 1) := dk_42 (dk_at dksX3_layHistory_0 0 rfl rfl)
theorem dX3_layHistory_1 : decode cX3_layHistory 1 = .ok (.getfield 307, 3) := dk_180 1 51 (dk_at dksX3_layHistory_0 1 rfl rfl)
theorem dX3_layHistory_4 : decode cX3_layHistory 4 = .ok (.ifCond .eq 15, 3) := dk_153 0 15 (dk_at dksX3_layHistory_0 4 rfl rfl)
theorem dX3_layHistory_7 : decode cX3_layHistory 7 = .ok (.iload_n 1, 1) := dk_27 (dk_at dksX3_layHistory_0 7 rfl rfl)
theorem dX3_layHistory_8 : decode cX3_layHistory 8 = .ok (.i2l, 1) := dk_133 (dk_at dksX3_layHistory_0 8 rfl rfl)
theorem dX3_layHistory_9 : decode cX3_layHistory 9 = .ok (.lconst 0, 1) := dk_9 (dk_at dksX3_layHistory_0 9 rfl rfl)
theorem dX3_layHistory_10 : decode cX3_layHistory 10 = .ok (.ldc2_w 509, 3) := dk_20 1 253 (dk_at dksX3_layHistory_0 10 rfl rfl)
theorem dX3_layHistory_13 : decode cX3_layHistory 13 = .ok (.invokestatic 230, 3) := dk_184 0 230 (dk_at dksX3_layHistory_0 13 rfl rfl)
theorem dX3_layHistory_16 : decode cX3_layHistory 16 = .ok (.ifCond .ne 5, 3) := dk_154 0 5 (dk_at dksX3_layHistory_0 16 rfl rfl)
theorem dX3_layHistory_19 : decode cX3_layHistory 19 = .ok (.iconst 0, 1) := dk_3 (dk_at dksX3_layHistory_0 19 rfl rfl)
theorem dX3_layHistory_20 : decode cX3_layHistory 20 = .ok (.ireturn, 1) := dk_172 (dk_at dksX3_layHistory_0 20 rfl rfl)
theorem dX3_layHistory_21 : decode cX3_layHistory 21 = .ok (.iload_n 1, 1) := dk_27 (dk_at dksX3_layHistory_0 21 rfl rfl)
theorem dX3_layHistory_22 : decode cX3_layHistory 22 = .ok (.istore_n 3, 1) := dk_62 (dk_at dksX3_layHistory_0 22 rfl rfl)
theorem dX3_layHistory_23 : decode cX3_layHistory 23 = .ok (.iconst 0, 1) := dk_3 (dk_at dksX3_layHistory_0 23 rfl rfl)
theorem dX3_layHistory_24 : decode cX3_layHistory 24 = .ok (.istore 4, 2) := dk_54 4 (dk_at dksX3_layHistory_1 0 rfl rfl)
theorem dX3_layHistory_26 : decode cX3_layHistory 26 = .ok (.iconst 5, 1) := dk_8 (dk_at dksX3_layHistory_1 2 rfl rfl)
theorem dX3_layHistory_27 : decode cX3_layHistory 27 = .ok (.istore 5, 2) := dk_54 5 (dk_at dksX3_layHistory_1 3 rfl rfl)
theorem dX3_layHistory_29 : decode cX3_layHistory 29 = .ok (.iload 5, 2) := dk_21 5 (dk_at dksX3_layHistory_1 5 rfl rfl)
theorem dX3_layHistory_31 : decode cX3_layHistory 31 = .ok (.ifCond .lt 58, 3) := dk_155 0 58 (dk_at dksX3_layHistory_1 7 rfl rfl)
theorem dX3_layHistory_34 : decode cX3_layHistory 34 = .ok (.aload_n 0, 1) := dk_42 (dk_at dksX3_layHistory_1 10 rfl rfl)
theorem dX3_layHistory_35 : decode cX3_layHistory 35 = .ok (.getfield 93, 3) := dk_180 0 93 (dk_at dksX3_layHistory_1 11 rfl rfl)
theorem dX3_layHistory_38 : decode cX3_layHistory 38 = .ok (.iload 5, 2) := dk_21 5 (dk_at dksX3_layHistory_1 14 rfl rfl)
theorem dX3_layHistory_40 : decode cX3_layHistory 40 = .ok (.iload_n 3, 1) := dk_29 (dk_at dksX3_layHistory_1 16 rfl rfl)
theorem dX3_layHistory_41 : decode cX3_layHistory 41 = .ok (.bipush 10, 2) := dk_16 10 (dk_at dksX3_layHistory_1 17 rfl rfl)
theorem dX3_layHistory_43 : decode cX3_layHistory 43 = .ok (.irem, 1) := dk_112 (dk_at dksX3_layHistory_1 19 rfl rfl)
theorem dX3_layHistory_44 : decode cX3_layHistory 44 = .ok (.iastore, 1) := dk_79 (dk_at dksX3_layHistory_1 20 rfl rfl)
theorem dX3_layHistory_45 : decode cX3_layHistory 45 = .ok (.iload_n 3, 1) := dk_29 (dk_at dksX3_layHistory_1 21 rfl rfl)
theorem dX3_layHistory_46 : decode cX3_layHistory 46 = .ok (.bipush 10, 2) := dk_16 10 (dk_at dksX3_layHistory_1 22 rfl rfl)
theorem dX3_layHistory_48 : decode cX3_layHistory 48 = .ok (.idiv, 1) := dk_108 (dk_at dksX3_layHistory_2 0 rfl rfl)
theorem dX3_layHistory_49 : decode cX3_layHistory 49 = .ok (.istore_n 3, 1) := dk_62 (dk_at dksX3_layHistory_2 1 rfl rfl)
theorem dX3_layHistory_50 : decode cX3_layHistory 50 = .ok (.iload 4, 2) := dk_21 4 (dk_at dksX3_layHistory_2 2 rfl rfl)
theorem dX3_layHistory_52 : decode cX3_layHistory 52 = .ok (.aload_n 0, 1) := dk_42 (dk_at dksX3_layHistory_2 4 rfl rfl)
theorem dX3_layHistory_53 : decode cX3_layHistory 53 = .ok (.getfield 93, 3) := dk_180 0 93 (dk_at dksX3_layHistory_2 5 rfl rfl)
theorem dX3_layHistory_56 : decode cX3_layHistory 56 = .ok (.iload 5, 2) := dk_21 5 (dk_at dksX3_layHistory_2 8 rfl rfl)
theorem dX3_layHistory_58 : decode cX3_layHistory 58 = .ok (.iaload, 1) := dk_46 (dk_at dksX3_layHistory_2 10 rfl rfl)
theorem dX3_layHistory_59 : decode cX3_layHistory 59 = .ok (.iadd, 1) := dk_96 (dk_at dksX3_layHistory_2 11 rfl rfl)
theorem dX3_layHistory_60 : decode cX3_layHistory 60 = .ok (.istore 4, 2) := dk_54 4 (dk_at dksX3_layHistory_2 12 rfl rfl)
theorem dX3_layHistory_62 : decode cX3_layHistory 62 = .ok (.iload 5, 2) := dk_21 5 (dk_at dksX3_layHistory_2 14 rfl rfl)
theorem dX3_layHistory_64 : decode cX3_layHistory 64 = .ok (.aload_n 0, 1) := dk_42 (dk_at dksX3_layHistory_2 16 rfl rfl)
theorem dX3_layHistory_65 : decode cX3_layHistory 65 = .ok (.getfield 307, 3) := dk_180 1 51 (dk_at dksX3_layHistory_2 17 rfl rfl)
theorem dX3_layHistory_68 : decode cX3_layHistory 68 = .ok (.if_icmp .lt 15, 3) := dk_161 0 15 (dk_at dksX3_layHistory_2 20 rfl rfl)
theorem dX3_layHistory_71 : decode cX3_layHistory 71 = .ok (.aload_n 0, 1) := dk_42 (dk_at dksX3_layHistory_2 23 rfl rfl)
theorem dX3_layHistory_72 : decode cX3_layHistory 72 = .ok (.getfield 93, 3) := dk_180 0 93 (dk_at dksX3_layHistory_3 0 rfl rfl)
theorem dX3_layHistory_75 : decode cX3_layHistory 75 = .ok (.iload 5, 2) := dk_21 5 (dk_at dksX3_layHistory_3 3 rfl rfl)
theorem dX3_layHistory_77 : decode cX3_layHistory 77 = .ok (.iaload, 1) := dk_46 (dk_at dksX3_layHistory_3 5 rfl rfl)
theorem dX3_layHistory_78 : decode cX3_layHistory 78 = .ok (.ifCond .le 5, 3) := dk_158 0 5 (dk_at dksX3_layHistory_3 6 rfl rfl)
theorem dX3_layHistory_81 : decode cX3_layHistory 81 = .ok (.iconst 0, 1) := dk_3 (dk_at dksX3_layHistory_3 9 rfl rfl)
theorem dX3_layHistory_82 : decode cX3_layHistory 82 = .ok (.ireturn, 1) := dk_172 (dk_at dksX3_layHistory_3 10 rfl rfl)
theorem dX3_layHistory_83 : decode cX3_layHistory 83 = .ok (.iinc 5 (-1), 3) := dk_132 5 255 (dk_at dksX3_layHistory_3 11 rfl rfl)
theorem dX3_layHistory_86 : decode cX3_layHistory 86 = .ok (.goto (-57), 3) := dk_167 255 199 (dk_at dksX3_layHistory_3 14 rfl rfl)
theorem dX3_layHistory_89 : decode cX3_layHistory 89 = .ok (.iload 4, 2) := dk_21 4 (dk_at dksX3_layHistory_3 17 rfl rfl)
theorem dX3_layHistory_91 : decode cX3_layHistory 91 = .ok (.bipush 6, 2) := dk_16 6 (dk_at dksX3_layHistory_3 19 rfl rfl)
theorem dX3_layHistory_93 : decode cX3_layHistory 93 = .ok (.if_icmp .eq 5, 3) := dk_159 0 5 (dk_at dksX3_layHistory_3 21 rfl rfl)
theorem dX3_layHistory_96 : decode cX3_layHistory 96 = .ok (.iconst 0, 1) := dk_3 (dk_at dksX3_layHistory_4 0 rfl rfl)
theorem dX3_layHistory_97 : decode cX3_layHistory 97 = .ok (.ireturn, 1) := dk_172 (dk_at dksX3_layHistory_4 1 rfl rfl)
theorem dX3_layHistory_98 : decode cX3_layHistory 98 = .ok (.aload_n 0, 1) := dk_42 (dk_at dksX3_layHistory_4 2 rfl rfl)
theorem dX3_layHistory_99 : decode cX3_layHistory 99 = .ok (.iconst 0, 1) := dk_3 (dk_at dksX3_layHistory_4 3 rfl rfl)
theorem dX3_layHistory_100 : decode cX3_layHistory 100 = .ok (.putfield 493, 3) := dk_181 1 237 (dk_at dksX3_layHistory_4 4 rfl rfl)
theorem dX3_layHistory_103 : decode cX3_layHistory 103 = .ok (.aload_n 0, 1) := dk_42 (dk_at dksX3_layHistory_4 7 rfl rfl)
theorem dX3_layHistory_104 : decode cX3_layHistory 104 = .ok (.iconst (-1), 1) := dk_2 (dk_at dksX3_layHistory_4 8 rfl rfl)
theorem dX3_layHistory_105 : decode cX3_layHistory 105 = .ok (.putfield 496, 3) := dk_181 1 240 (dk_at dksX3_layHistory_4 9 rfl rfl)
theorem dX3_layHistory_108 : decode cX3_layHistory 108 = .ok (.aload_n 0, 1) := dk_42 (dk_at dksX3_layHistory_4 12 rfl rfl)
theorem dX3_layHistory_109 : decode cX3_layHistory 109 = .ok (.bipush 63, 2) := dk_16 63 (dk_at dksX3_layHistory_4 13 rfl rfl)
theorem dX3_layHistory_111 : decode cX3_layHistory 111 = .ok (.putfield 499, 3) := dk_181 1 243 (dk_at dksX3_layHistory_4 15 rfl rfl)
theorem dX3_layHistory_114 : decode cX3_layHistory 114 = .ok (.aload_n 0, 1) := dk_42 (dk_at dksX3_layHistory_4 18 rfl rfl)
theorem dX3_layHistory_115 : decode cX3_layHistory 115 = .ok (.iconst 0, 1) := dk_3 (dk_at dksX3_layHistory_4 19 rfl rfl)
theorem dX3_layHistory_116 : decode cX3_layHistory 116 = .ok (.iconst 0, 1) := dk_3 (dk_at dksX3_layHistory_4 20 rfl rfl)
theorem dX3_layHistory_117 : decode cX3_layHistory 117 = .ok (.iload_n 2, 1) := dk_28 (dk_at dksX3_layHistory_4 21 rfl rfl)
theorem dX3_layHistory_118 : decode cX3_layHistory 118 = .ok (.invokevirtual 505, 3) := dk_182 1 249 (dk_at dksX3_layHistory_5 0 rfl rfl)
theorem dX3_layHistory_121 : decode cX3_layHistory 121 = .ok (.iconst 1, 1) := dk_4 (dk_at dksX3_layHistory_5 3 rfl rfl)
theorem dX3_layHistory_122 : decode cX3_layHistory 122 = .ok (.ireturn, 1) := dk_172 (dk_at dksX3_layHistory_5 4 rfl rfl)
abbrev cX3_goHistory : ByteArray := prog_14_method_107_code
def yX3_goHistory : MethodName := ⟨RX3, "goHistory", "(III)V"⟩
def dkwX3_goHistory_7 : List UInt8 := [182, 1, 249, 42, 180, 0, 93, 21, 4, 92, 46, 4, 96, 79, 132, 4, 1, 167, 255, 176, 177]
abbrev dktX3_goHistory_7 : List UInt8 := dkwX3_goHistory_7 ++ []
def dkwX3_goHistory_6 : List UInt8 := [46, 4, 100, 79, 42, 180, 0, 96, 27, 21, 4, 79, 42, 27, 4, 96, 16, 10, 28, 104, 21, 4, 96, 29]
abbrev dktX3_goHistory_6 : List UInt8 := dkwX3_goHistory_6 ++ dktX3_goHistory_7
def dkwX3_goHistory_5 : List UInt8 := [46, 153, 0, 61, 42, 27, 21, 4, 182, 1, 246, 154, 0, 6, 167, 0, 48, 42, 180, 0, 93, 21, 4, 92]
abbrev dktX3_goHistory_5 : List UInt8 := dkwX3_goHistory_5 ++ dktX3_goHistory_6
def dkwX3_goHistory_4 : List UInt8 := [4, 96, 181, 1, 237, 177, 3, 54, 4, 21, 4, 42, 180, 1, 51, 162, 0, 77, 42, 180, 0, 93, 21, 4]
abbrev dktX3_goHistory_4 : List UInt8 := dkwX3_goHistory_4 ++ dktX3_goHistory_5
def dkwX3_goHistory_3 : List UInt8 := [180, 1, 243, 4, 21, 4, 120, 2, 130, 126, 181, 1, 243, 132, 4, 1, 167, 255, 190, 42, 89, 180, 1, 237]
abbrev dktX3_goHistory_3 : List UInt8 := dkwX3_goHistory_3 ++ dktX3_goHistory_4
def dkwX3_goHistory_2 : List UInt8 := [46, 79, 167, 0, 35, 42, 180, 0, 99, 21, 4, 46, 42, 180, 0, 96, 21, 4, 46, 159, 0, 18, 42, 89]
abbrev dktX3_goHistory_2 : List UInt8 := dkwX3_goHistory_2 ++ dktX3_goHistory_3
def dkwX3_goHistory_1 : List UInt8 := [16, 6, 162, 0, 65, 42, 180, 1, 237, 154, 0, 20, 42, 180, 0, 99, 21, 4, 42, 180, 0, 96, 21, 4]
abbrev dktX3_goHistory_1 : List UInt8 := dkwX3_goHistory_1 ++ dktX3_goHistory_2
def dkwX3_goHistory_0 : List UInt8 := [27, 16, 6, 160, 0, 99, 42, 180, 1, 237, 29, 160, 0, 8, 42, 28, 181, 1, 240, 3, 54, 4, 21, 4]
abbrev dktX3_goHistory_0 : List UInt8 := dkwX3_goHistory_0 ++ dktX3_goHistory_1
theorem dksX3_goHistory_0 : cX3_goHistory.data.toList.drop 0 = dktX3_goHistory_0 := by decide +kernel
theorem dksX3_goHistory_1 : cX3_goHistory.data.toList.drop 24 = dktX3_goHistory_1 := dk_seg dksX3_goHistory_0 24 rfl rfl
theorem dksX3_goHistory_2 : cX3_goHistory.data.toList.drop 48 = dktX3_goHistory_2 := dk_seg dksX3_goHistory_1 24 rfl rfl
theorem dksX3_goHistory_3 : cX3_goHistory.data.toList.drop 72 = dktX3_goHistory_3 := dk_seg dksX3_goHistory_2 24 rfl rfl
theorem dksX3_goHistory_4 : cX3_goHistory.data.toList.drop 96 = dktX3_goHistory_4 := dk_seg dksX3_goHistory_3 24 rfl rfl
theorem dksX3_goHistory_5 : cX3_goHistory.data.toList.drop 120 = dktX3_goHistory_5 := dk_seg dksX3_goHistory_4 24 rfl rfl
theorem dksX3_goHistory_6 : cX3_goHistory.data.toList.drop 144 = dktX3_goHistory_6 := dk_seg dksX3_goHistory_5 24 rfl rfl
theorem dksX3_goHistory_7 : cX3_goHistory.data.toList.drop 168 = dktX3_goHistory_7 := dk_seg dksX3_goHistory_6 24 rfl rfl
theorem dX3_goHistory_0 : decode cX3_goHistory 0 = .ok (.iload_n 1, 1) := dk_27 (dk_at dksX3_goHistory_0 0 rfl rfl)
theorem dX3_goHistory_1 : decode cX3_goHistory 1 = .ok (.bipush 6, 2) := dk_16 6 (dk_at dksX3_goHistory_0 1 rfl rfl)
theorem dX3_goHistory_3 : decode cX3_goHistory 3 = .ok (.if_icmp .ne 99, 3) := dk_160 0 99 (dk_at dksX3_goHistory_0 3 rfl rfl)
theorem dX3_goHistory_6 : decode cX3_goHistory 6 = .ok (.aload_n 0, 1) := dk_42 (dk_at dksX3_goHistory_0 6 rfl rfl)
theorem dX3_goHistory_7 : decode cX3_goHistory 7 = .ok (.getfield 493, 3) := dk_180 1 237 (dk_at dksX3_goHistory_0 7 rfl rfl)
theorem dX3_goHistory_10 : decode cX3_goHistory 10 = .ok (.iload_n 3, 1) := dk_29 (dk_at dksX3_goHistory_0 10 rfl rfl)
theorem dX3_goHistory_11 : decode cX3_goHistory 11 = .ok (.if_icmp .ne 8, 3) := dk_160 0 8 (dk_at dksX3_goHistory_0 11 rfl rfl)
theorem dX3_goHistory_14 : decode cX3_goHistory 14 = .ok (.aload_n 0, 1) := dk_42 (dk_at dksX3_goHistory_0 14 rfl rfl)
theorem dX3_goHistory_15 : decode cX3_goHistory 15 = .ok (.iload_n 2, 1) := dk_28 (dk_at dksX3_goHistory_0 15 rfl rfl)
theorem dX3_goHistory_16 : decode cX3_goHistory 16 = .ok (.putfield 496, 3) := dk_181 1 240 (dk_at dksX3_goHistory_0 16 rfl rfl)
theorem dX3_goHistory_19 : decode cX3_goHistory 19 = .ok (.iconst 0, 1) := dk_3 (dk_at dksX3_goHistory_0 19 rfl rfl)
theorem dX3_goHistory_20 : decode cX3_goHistory 20 = .ok (.istore 4, 2) := dk_54 4 (dk_at dksX3_goHistory_0 20 rfl rfl)
theorem dX3_goHistory_22 : decode cX3_goHistory 22 = .ok (.iload 4, 2) := dk_21 4 (dk_at dksX3_goHistory_0 22 rfl rfl)
theorem dX3_goHistory_24 : decode cX3_goHistory 24 = .ok (.bipush 6, 2) := dk_16 6 (dk_at dksX3_goHistory_1 0 rfl rfl)
theorem dX3_goHistory_26 : decode cX3_goHistory 26 = .ok (.if_icmp .ge 65, 3) := dk_162 0 65 (dk_at dksX3_goHistory_1 2 rfl rfl)
theorem dX3_goHistory_29 : decode cX3_goHistory 29 = .ok (.aload_n 0, 1) := dk_42 (dk_at dksX3_goHistory_1 5 rfl rfl)
theorem dX3_goHistory_30 : decode cX3_goHistory 30 = .ok (.getfield 493, 3) := dk_180 1 237 (dk_at dksX3_goHistory_1 6 rfl rfl)
theorem dX3_goHistory_33 : decode cX3_goHistory 33 = .ok (.ifCond .ne 20, 3) := dk_154 0 20 (dk_at dksX3_goHistory_1 9 rfl rfl)
theorem dX3_goHistory_36 : decode cX3_goHistory 36 = .ok (.aload_n 0, 1) := dk_42 (dk_at dksX3_goHistory_1 12 rfl rfl)
theorem dX3_goHistory_37 : decode cX3_goHistory 37 = .ok (.getfield 99, 3) := dk_180 0 99 (dk_at dksX3_goHistory_1 13 rfl rfl)
theorem dX3_goHistory_40 : decode cX3_goHistory 40 = .ok (.iload 4, 2) := dk_21 4 (dk_at dksX3_goHistory_1 16 rfl rfl)
theorem dX3_goHistory_42 : decode cX3_goHistory 42 = .ok (.aload_n 0, 1) := dk_42 (dk_at dksX3_goHistory_1 18 rfl rfl)
theorem dX3_goHistory_43 : decode cX3_goHistory 43 = .ok (.getfield 96, 3) := dk_180 0 96 (dk_at dksX3_goHistory_1 19 rfl rfl)
theorem dX3_goHistory_46 : decode cX3_goHistory 46 = .ok (.iload 4, 2) := dk_21 4 (dk_at dksX3_goHistory_1 22 rfl rfl)
theorem dX3_goHistory_48 : decode cX3_goHistory 48 = .ok (.iaload, 1) := dk_46 (dk_at dksX3_goHistory_2 0 rfl rfl)
theorem dX3_goHistory_49 : decode cX3_goHistory 49 = .ok (.iastore, 1) := dk_79 (dk_at dksX3_goHistory_2 1 rfl rfl)
theorem dX3_goHistory_50 : decode cX3_goHistory 50 = .ok (.goto 35, 3) := dk_167 0 35 (dk_at dksX3_goHistory_2 2 rfl rfl)
theorem dX3_goHistory_53 : decode cX3_goHistory 53 = .ok (.aload_n 0, 1) := dk_42 (dk_at dksX3_goHistory_2 5 rfl rfl)
theorem dX3_goHistory_54 : decode cX3_goHistory 54 = .ok (.getfield 99, 3) := dk_180 0 99 (dk_at dksX3_goHistory_2 6 rfl rfl)
theorem dX3_goHistory_57 : decode cX3_goHistory 57 = .ok (.iload 4, 2) := dk_21 4 (dk_at dksX3_goHistory_2 9 rfl rfl)
theorem dX3_goHistory_59 : decode cX3_goHistory 59 = .ok (.iaload, 1) := dk_46 (dk_at dksX3_goHistory_2 11 rfl rfl)
theorem dX3_goHistory_60 : decode cX3_goHistory 60 = .ok (.aload_n 0, 1) := dk_42 (dk_at dksX3_goHistory_2 12 rfl rfl)
theorem dX3_goHistory_61 : decode cX3_goHistory 61 = .ok (.getfield 96, 3) := dk_180 0 96 (dk_at dksX3_goHistory_2 13 rfl rfl)
theorem dX3_goHistory_64 : decode cX3_goHistory 64 = .ok (.iload 4, 2) := dk_21 4 (dk_at dksX3_goHistory_2 16 rfl rfl)
theorem dX3_goHistory_66 : decode cX3_goHistory 66 = .ok (.iaload, 1) := dk_46 (dk_at dksX3_goHistory_2 18 rfl rfl)
theorem dX3_goHistory_67 : decode cX3_goHistory 67 = .ok (.if_icmp .eq 18, 3) := dk_159 0 18 (dk_at dksX3_goHistory_2 19 rfl rfl)
theorem dX3_goHistory_70 : decode cX3_goHistory 70 = .ok (.aload_n 0, 1) := dk_42 (dk_at dksX3_goHistory_2 22 rfl rfl)
theorem dX3_goHistory_71 : decode cX3_goHistory 71 = .ok (.dup, 1) := dk_89 (dk_at dksX3_goHistory_2 23 rfl rfl)
theorem dX3_goHistory_72 : decode cX3_goHistory 72 = .ok (.getfield 499, 3) := dk_180 1 243 (dk_at dksX3_goHistory_3 0 rfl rfl)
theorem dX3_goHistory_75 : decode cX3_goHistory 75 = .ok (.iconst 1, 1) := dk_4 (dk_at dksX3_goHistory_3 3 rfl rfl)
theorem dX3_goHistory_76 : decode cX3_goHistory 76 = .ok (.iload 4, 2) := dk_21 4 (dk_at dksX3_goHistory_3 4 rfl rfl)
theorem dX3_goHistory_78 : decode cX3_goHistory 78 = .ok (.ishl, 1) := dk_120 (dk_at dksX3_goHistory_3 6 rfl rfl)
theorem dX3_goHistory_79 : decode cX3_goHistory 79 = .ok (.iconst (-1), 1) := dk_2 (dk_at dksX3_goHistory_3 7 rfl rfl)
theorem dX3_goHistory_80 : decode cX3_goHistory 80 = .ok (.ixor, 1) := dk_130 (dk_at dksX3_goHistory_3 8 rfl rfl)
theorem dX3_goHistory_81 : decode cX3_goHistory 81 = .ok (.iand, 1) := dk_126 (dk_at dksX3_goHistory_3 9 rfl rfl)
theorem dX3_goHistory_82 : decode cX3_goHistory 82 = .ok (.putfield 499, 3) := dk_181 1 243 (dk_at dksX3_goHistory_3 10 rfl rfl)
theorem dX3_goHistory_85 : decode cX3_goHistory 85 = .ok (.iinc 4 1, 3) := dk_132 4 1 (dk_at dksX3_goHistory_3 13 rfl rfl)
theorem dX3_goHistory_88 : decode cX3_goHistory 88 = .ok (.goto (-66), 3) := dk_167 255 190 (dk_at dksX3_goHistory_3 16 rfl rfl)
theorem dX3_goHistory_91 : decode cX3_goHistory 91 = .ok (.aload_n 0, 1) := dk_42 (dk_at dksX3_goHistory_3 19 rfl rfl)
theorem dX3_goHistory_92 : decode cX3_goHistory 92 = .ok (.dup, 1) := dk_89 (dk_at dksX3_goHistory_3 20 rfl rfl)
theorem dX3_goHistory_93 : decode cX3_goHistory 93 = .ok (.getfield 493, 3) := dk_180 1 237 (dk_at dksX3_goHistory_3 21 rfl rfl)
theorem dX3_goHistory_96 : decode cX3_goHistory 96 = .ok (.iconst 1, 1) := dk_4 (dk_at dksX3_goHistory_4 0 rfl rfl)
theorem dX3_goHistory_97 : decode cX3_goHistory 97 = .ok (.iadd, 1) := dk_96 (dk_at dksX3_goHistory_4 1 rfl rfl)
theorem dX3_goHistory_98 : decode cX3_goHistory 98 = .ok (.putfield 493, 3) := dk_181 1 237 (dk_at dksX3_goHistory_4 2 rfl rfl)
theorem dX3_goHistory_101 : decode cX3_goHistory 101 = .ok (.return_, 1) := dk_177 (dk_at dksX3_goHistory_4 5 rfl rfl)
theorem dX3_goHistory_102 : decode cX3_goHistory 102 = .ok (.iconst 0, 1) := dk_3 (dk_at dksX3_goHistory_4 6 rfl rfl)
theorem dX3_goHistory_103 : decode cX3_goHistory 103 = .ok (.istore 4, 2) := dk_54 4 (dk_at dksX3_goHistory_4 7 rfl rfl)
theorem dX3_goHistory_105 : decode cX3_goHistory 105 = .ok (.iload 4, 2) := dk_21 4 (dk_at dksX3_goHistory_4 9 rfl rfl)
theorem dX3_goHistory_107 : decode cX3_goHistory 107 = .ok (.aload_n 0, 1) := dk_42 (dk_at dksX3_goHistory_4 11 rfl rfl)
theorem dX3_goHistory_108 : decode cX3_goHistory 108 = .ok (.getfield 307, 3) := dk_180 1 51 (dk_at dksX3_goHistory_4 12 rfl rfl)
theorem dX3_goHistory_111 : decode cX3_goHistory 111 = .ok (.if_icmp .ge 77, 3) := dk_162 0 77 (dk_at dksX3_goHistory_4 15 rfl rfl)
theorem dX3_goHistory_114 : decode cX3_goHistory 114 = .ok (.aload_n 0, 1) := dk_42 (dk_at dksX3_goHistory_4 18 rfl rfl)
theorem dX3_goHistory_115 : decode cX3_goHistory 115 = .ok (.getfield 93, 3) := dk_180 0 93 (dk_at dksX3_goHistory_4 19 rfl rfl)
theorem dX3_goHistory_118 : decode cX3_goHistory 118 = .ok (.iload 4, 2) := dk_21 4 (dk_at dksX3_goHistory_4 22 rfl rfl)
theorem dX3_goHistory_120 : decode cX3_goHistory 120 = .ok (.iaload, 1) := dk_46 (dk_at dksX3_goHistory_5 0 rfl rfl)
theorem dX3_goHistory_121 : decode cX3_goHistory 121 = .ok (.ifCond .eq 61, 3) := dk_153 0 61 (dk_at dksX3_goHistory_5 1 rfl rfl)
theorem dX3_goHistory_124 : decode cX3_goHistory 124 = .ok (.aload_n 0, 1) := dk_42 (dk_at dksX3_goHistory_5 4 rfl rfl)
theorem dX3_goHistory_125 : decode cX3_goHistory 125 = .ok (.iload_n 1, 1) := dk_27 (dk_at dksX3_goHistory_5 5 rfl rfl)
theorem dX3_goHistory_126 : decode cX3_goHistory 126 = .ok (.iload 4, 2) := dk_21 4 (dk_at dksX3_goHistory_5 6 rfl rfl)
theorem dX3_goHistory_128 : decode cX3_goHistory 128 = .ok (.invokevirtual 502, 3) := dk_182 1 246 (dk_at dksX3_goHistory_5 8 rfl rfl)
theorem dX3_goHistory_131 : decode cX3_goHistory 131 = .ok (.ifCond .ne 6, 3) := dk_154 0 6 (dk_at dksX3_goHistory_5 11 rfl rfl)
theorem dX3_goHistory_134 : decode cX3_goHistory 134 = .ok (.goto 48, 3) := dk_167 0 48 (dk_at dksX3_goHistory_5 14 rfl rfl)
theorem dX3_goHistory_137 : decode cX3_goHistory 137 = .ok (.aload_n 0, 1) := dk_42 (dk_at dksX3_goHistory_5 17 rfl rfl)
theorem dX3_goHistory_138 : decode cX3_goHistory 138 = .ok (.getfield 93, 3) := dk_180 0 93 (dk_at dksX3_goHistory_5 18 rfl rfl)
theorem dX3_goHistory_141 : decode cX3_goHistory 141 = .ok (.iload 4, 2) := dk_21 4 (dk_at dksX3_goHistory_5 21 rfl rfl)
theorem dX3_goHistory_143 : decode cX3_goHistory 143 = .ok (.dup2, 1) := dk_92 (dk_at dksX3_goHistory_5 23 rfl rfl)
theorem dX3_goHistory_144 : decode cX3_goHistory 144 = .ok (.iaload, 1) := dk_46 (dk_at dksX3_goHistory_6 0 rfl rfl)
theorem dX3_goHistory_145 : decode cX3_goHistory 145 = .ok (.iconst 1, 1) := dk_4 (dk_at dksX3_goHistory_6 1 rfl rfl)
theorem dX3_goHistory_146 : decode cX3_goHistory 146 = .ok (.isub, 1) := dk_100 (dk_at dksX3_goHistory_6 2 rfl rfl)
theorem dX3_goHistory_147 : decode cX3_goHistory 147 = .ok (.iastore, 1) := dk_79 (dk_at dksX3_goHistory_6 3 rfl rfl)
theorem dX3_goHistory_148 : decode cX3_goHistory 148 = .ok (.aload_n 0, 1) := dk_42 (dk_at dksX3_goHistory_6 4 rfl rfl)
theorem dX3_goHistory_149 : decode cX3_goHistory 149 = .ok (.getfield 96, 3) := dk_180 0 96 (dk_at dksX3_goHistory_6 5 rfl rfl)
theorem dX3_goHistory_152 : decode cX3_goHistory 152 = .ok (.iload_n 1, 1) := dk_27 (dk_at dksX3_goHistory_6 8 rfl rfl)
theorem dX3_goHistory_153 : decode cX3_goHistory 153 = .ok (.iload 4, 2) := dk_21 4 (dk_at dksX3_goHistory_6 9 rfl rfl)
theorem dX3_goHistory_155 : decode cX3_goHistory 155 = .ok (.iastore, 1) := dk_79 (dk_at dksX3_goHistory_6 11 rfl rfl)
theorem dX3_goHistory_156 : decode cX3_goHistory 156 = .ok (.aload_n 0, 1) := dk_42 (dk_at dksX3_goHistory_6 12 rfl rfl)
theorem dX3_goHistory_157 : decode cX3_goHistory 157 = .ok (.iload_n 1, 1) := dk_27 (dk_at dksX3_goHistory_6 13 rfl rfl)
theorem dX3_goHistory_158 : decode cX3_goHistory 158 = .ok (.iconst 1, 1) := dk_4 (dk_at dksX3_goHistory_6 14 rfl rfl)
theorem dX3_goHistory_159 : decode cX3_goHistory 159 = .ok (.iadd, 1) := dk_96 (dk_at dksX3_goHistory_6 15 rfl rfl)
theorem dX3_goHistory_160 : decode cX3_goHistory 160 = .ok (.bipush 10, 2) := dk_16 10 (dk_at dksX3_goHistory_6 16 rfl rfl)
theorem dX3_goHistory_162 : decode cX3_goHistory 162 = .ok (.iload_n 2, 1) := dk_28 (dk_at dksX3_goHistory_6 18 rfl rfl)
theorem dX3_goHistory_163 : decode cX3_goHistory 163 = .ok (.imul, 1) := dk_104 (dk_at dksX3_goHistory_6 19 rfl rfl)
theorem dX3_goHistory_164 : decode cX3_goHistory 164 = .ok (.iload 4, 2) := dk_21 4 (dk_at dksX3_goHistory_6 20 rfl rfl)
theorem dX3_goHistory_166 : decode cX3_goHistory 166 = .ok (.iadd, 1) := dk_96 (dk_at dksX3_goHistory_6 22 rfl rfl)
theorem dX3_goHistory_167 : decode cX3_goHistory 167 = .ok (.iload_n 3, 1) := dk_29 (dk_at dksX3_goHistory_6 23 rfl rfl)
theorem dX3_goHistory_168 : decode cX3_goHistory 168 = .ok (.invokevirtual 505, 3) := dk_182 1 249 (dk_at dksX3_goHistory_7 0 rfl rfl)
theorem dX3_goHistory_171 : decode cX3_goHistory 171 = .ok (.aload_n 0, 1) := dk_42 (dk_at dksX3_goHistory_7 3 rfl rfl)
theorem dX3_goHistory_172 : decode cX3_goHistory 172 = .ok (.getfield 93, 3) := dk_180 0 93 (dk_at dksX3_goHistory_7 4 rfl rfl)
theorem dX3_goHistory_175 : decode cX3_goHistory 175 = .ok (.iload 4, 2) := dk_21 4 (dk_at dksX3_goHistory_7 7 rfl rfl)
theorem dX3_goHistory_177 : decode cX3_goHistory 177 = .ok (.dup2, 1) := dk_92 (dk_at dksX3_goHistory_7 9 rfl rfl)
theorem dX3_goHistory_178 : decode cX3_goHistory 178 = .ok (.iaload, 1) := dk_46 (dk_at dksX3_goHistory_7 10 rfl rfl)
theorem dX3_goHistory_179 : decode cX3_goHistory 179 = .ok (.iconst 1, 1) := dk_4 (dk_at dksX3_goHistory_7 11 rfl rfl)
theorem dX3_goHistory_180 : decode cX3_goHistory 180 = .ok (.iadd, 1) := dk_96 (dk_at dksX3_goHistory_7 12 rfl rfl)
theorem dX3_goHistory_181 : decode cX3_goHistory 181 = .ok (.iastore, 1) := dk_79 (dk_at dksX3_goHistory_7 13 rfl rfl)
theorem dX3_goHistory_182 : decode cX3_goHistory 182 = .ok (.iinc 4 1, 3) := dk_132 4 1 (dk_at dksX3_goHistory_7 14 rfl rfl)
theorem dX3_goHistory_185 : decode cX3_goHistory 185 = .ok (.goto (-80), 3) := dk_167 255 176 (dk_at dksX3_goHistory_7 17 rfl rfl)
theorem dX3_goHistory_188 : decode cX3_goHistory 188 = .ok (.return_, 1) := dk_177 (dk_at dksX3_goHistory_7 20 rfl rfl)
abbrev cX3_mayBe : ByteArray := prog_14_method_106_code
def yX3_mayBe : MethodName := ⟨RX3, "mayBe", "(II)Z"⟩
def dkwX3_mayBe_2 : List UInt8 := [132, 3, 1, 167, 255, 209, 4, 172]
abbrev dktX3_mayBe_2 : List UInt8 := dkwX3_mayBe_2 ++ []
def dkwX3_mayBe_1 : List UInt8 := [29, 46, 28, 160, 0, 7, 4, 167, 0, 4, 3, 42, 180, 0, 102, 29, 51, 159, 0, 5, 3, 172]
abbrev dktX3_mayBe_1 : List UInt8 := dkwX3_mayBe_1 ++ dktX3_mayBe_2
def dkwX3_mayBe_0 : List UInt8 := [3, 62, 29, 42, 180, 1, 57, 162, 0, 45, 42, 180, 0, 87, 29, 46, 27, 160, 0, 29, 42, 180, 0, 90]
abbrev dktX3_mayBe_0 : List UInt8 := dkwX3_mayBe_0 ++ dktX3_mayBe_1
theorem dksX3_mayBe_0 : cX3_mayBe.data.toList.drop 0 = dktX3_mayBe_0 := by decide +kernel
theorem dksX3_mayBe_1 : cX3_mayBe.data.toList.drop 24 = dktX3_mayBe_1 := dk_seg dksX3_mayBe_0 24 rfl rfl
theorem dksX3_mayBe_2 : cX3_mayBe.data.toList.drop 46 = dktX3_mayBe_2 := dk_seg dksX3_mayBe_1 22 rfl rfl
theorem dX3_mayBe_0 : decode cX3_mayBe 0 = .ok (.iconst 0, 1) := dk_3 (dk_at dksX3_mayBe_0 0 rfl rfl)
theorem dX3_mayBe_1 : decode cX3_mayBe 1 = .ok (.istore_n 3, 1) := dk_62 (dk_at dksX3_mayBe_0 1 rfl rfl)
theorem dX3_mayBe_2 : decode cX3_mayBe 2 = .ok (.iload_n 3, 1) := dk_29 (dk_at dksX3_mayBe_0 2 rfl rfl)
theorem dX3_mayBe_3 : decode cX3_mayBe 3 = .ok (.aload_n 0, 1) := dk_42 (dk_at dksX3_mayBe_0 3 rfl rfl)
theorem dX3_mayBe_4 : decode cX3_mayBe 4 = .ok (.getfield 313, 3) := dk_180 1 57 (dk_at dksX3_mayBe_0 4 rfl rfl)
theorem dX3_mayBe_7 : decode cX3_mayBe 7 = .ok (.if_icmp .ge 45, 3) := dk_162 0 45 (dk_at dksX3_mayBe_0 7 rfl rfl)
theorem dX3_mayBe_10 : decode cX3_mayBe 10 = .ok (.aload_n 0, 1) := dk_42 (dk_at dksX3_mayBe_0 10 rfl rfl)
theorem dX3_mayBe_11 : decode cX3_mayBe 11 = .ok (.getfield 87, 3) := dk_180 0 87 (dk_at dksX3_mayBe_0 11 rfl rfl)
theorem dX3_mayBe_14 : decode cX3_mayBe 14 = .ok (.iload_n 3, 1) := dk_29 (dk_at dksX3_mayBe_0 14 rfl rfl)
theorem dX3_mayBe_15 : decode cX3_mayBe 15 = .ok (.iaload, 1) := dk_46 (dk_at dksX3_mayBe_0 15 rfl rfl)
theorem dX3_mayBe_16 : decode cX3_mayBe 16 = .ok (.iload_n 1, 1) := dk_27 (dk_at dksX3_mayBe_0 16 rfl rfl)
theorem dX3_mayBe_17 : decode cX3_mayBe 17 = .ok (.if_icmp .ne 29, 3) := dk_160 0 29 (dk_at dksX3_mayBe_0 17 rfl rfl)
theorem dX3_mayBe_20 : decode cX3_mayBe 20 = .ok (.aload_n 0, 1) := dk_42 (dk_at dksX3_mayBe_0 20 rfl rfl)
theorem dX3_mayBe_21 : decode cX3_mayBe 21 = .ok (.getfield 90, 3) := dk_180 0 90 (dk_at dksX3_mayBe_0 21 rfl rfl)
theorem dX3_mayBe_24 : decode cX3_mayBe 24 = .ok (.iload_n 3, 1) := dk_29 (dk_at dksX3_mayBe_1 0 rfl rfl)
theorem dX3_mayBe_25 : decode cX3_mayBe 25 = .ok (.iaload, 1) := dk_46 (dk_at dksX3_mayBe_1 1 rfl rfl)
theorem dX3_mayBe_26 : decode cX3_mayBe 26 = .ok (.iload_n 2, 1) := dk_28 (dk_at dksX3_mayBe_1 2 rfl rfl)
theorem dX3_mayBe_27 : decode cX3_mayBe 27 = .ok (.if_icmp .ne 7, 3) := dk_160 0 7 (dk_at dksX3_mayBe_1 3 rfl rfl)
theorem dX3_mayBe_30 : decode cX3_mayBe 30 = .ok (.iconst 1, 1) := dk_4 (dk_at dksX3_mayBe_1 6 rfl rfl)
theorem dX3_mayBe_31 : decode cX3_mayBe 31 = .ok (.goto 4, 3) := dk_167 0 4 (dk_at dksX3_mayBe_1 7 rfl rfl)
theorem dX3_mayBe_34 : decode cX3_mayBe 34 = .ok (.iconst 0, 1) := dk_3 (dk_at dksX3_mayBe_1 10 rfl rfl)
theorem dX3_mayBe_35 : decode cX3_mayBe 35 = .ok (.aload_n 0, 1) := dk_42 (dk_at dksX3_mayBe_1 11 rfl rfl)
theorem dX3_mayBe_36 : decode cX3_mayBe 36 = .ok (.getfield 102, 3) := dk_180 0 102 (dk_at dksX3_mayBe_1 12 rfl rfl)
theorem dX3_mayBe_39 : decode cX3_mayBe 39 = .ok (.iload_n 3, 1) := dk_29 (dk_at dksX3_mayBe_1 15 rfl rfl)
theorem dX3_mayBe_40 : decode cX3_mayBe 40 = .ok (.baload, 1) := dk_51 (dk_at dksX3_mayBe_1 16 rfl rfl)
theorem dX3_mayBe_41 : decode cX3_mayBe 41 = .ok (.if_icmp .eq 5, 3) := dk_159 0 5 (dk_at dksX3_mayBe_1 17 rfl rfl)
theorem dX3_mayBe_44 : decode cX3_mayBe 44 = .ok (.iconst 0, 1) := dk_3 (dk_at dksX3_mayBe_1 20 rfl rfl)
theorem dX3_mayBe_45 : decode cX3_mayBe 45 = .ok (.ireturn, 1) := dk_172 (dk_at dksX3_mayBe_1 21 rfl rfl)
theorem dX3_mayBe_46 : decode cX3_mayBe 46 = .ok (.iinc 3 1, 3) := dk_132 3 1 (dk_at dksX3_mayBe_2 0 rfl rfl)
theorem dX3_mayBe_49 : decode cX3_mayBe 49 = .ok (.goto (-47), 3) := dk_167 255 209 (dk_at dksX3_mayBe_2 3 rfl rfl)
theorem dX3_mayBe_52 : decode cX3_mayBe 52 = .ok (.iconst 1, 1) := dk_4 (dk_at dksX3_mayBe_2 6 rfl rfl)
theorem dX3_mayBe_53 : decode cX3_mayBe 53 = .ok (.ireturn, 1) := dk_172 (dk_at dksX3_mayBe_2 7 rfl rfl)
abbrev cX3_share : ByteArray := prog_14_method_110_code
def yX3_share : MethodName := ⟨RX3, "share", "(I)I"⟩
def dkwX3_share_1 : List UInt8 := [180, 1, 243, 167, 0, 4, 2, 172]
abbrev dktX3_share_1 : List UInt8 := dkwX3_share_1 ++ []
def dkwX3_share_0 : List UInt8 := [42, 3, 181, 0, 109, 42, 27, 2, 182, 1, 255, 153, 0, 17, 42, 180, 1, 237, 158, 0, 10, 42]
abbrev dktX3_share_0 : List UInt8 := dkwX3_share_0 ++ dktX3_share_1
theorem dksX3_share_0 : cX3_share.data.toList.drop 0 = dktX3_share_0 := by decide +kernel
theorem dksX3_share_1 : cX3_share.data.toList.drop 22 = dktX3_share_1 := dk_seg dksX3_share_0 22 rfl rfl
theorem dX3_share_0 : decode cX3_share 0 = .ok (.aload_n 0, 1) := dk_42 (dk_at dksX3_share_0 0 rfl rfl)
theorem dX3_share_1 : decode cX3_share 1 = .ok (.iconst 0, 1) := dk_3 (dk_at dksX3_share_0 1 rfl rfl)
theorem dX3_share_2 : decode cX3_share 2 = .ok (.putfield 109, 3) := dk_181 0 109 (dk_at dksX3_share_0 2 rfl rfl)
theorem dX3_share_5 : decode cX3_share 5 = .ok (.aload_n 0, 1) := dk_42 (dk_at dksX3_share_0 5 rfl rfl)
theorem dX3_share_6 : decode cX3_share 6 = .ok (.iload_n 1, 1) := dk_27 (dk_at dksX3_share_0 6 rfl rfl)
theorem dX3_share_7 : decode cX3_share 7 = .ok (.iconst (-1), 1) := dk_2 (dk_at dksX3_share_0 7 rfl rfl)
theorem dX3_share_8 : decode cX3_share 8 = .ok (.invokevirtual 511, 3) := dk_182 1 255 (dk_at dksX3_share_0 8 rfl rfl)
theorem dX3_share_11 : decode cX3_share 11 = .ok (.ifCond .eq 17, 3) := dk_153 0 17 (dk_at dksX3_share_0 11 rfl rfl)
theorem dX3_share_14 : decode cX3_share 14 = .ok (.aload_n 0, 1) := dk_42 (dk_at dksX3_share_0 14 rfl rfl)
theorem dX3_share_15 : decode cX3_share 15 = .ok (.getfield 493, 3) := dk_180 1 237 (dk_at dksX3_share_0 15 rfl rfl)
theorem dX3_share_18 : decode cX3_share 18 = .ok (.ifCond .le 10, 3) := dk_158 0 10 (dk_at dksX3_share_0 18 rfl rfl)
theorem dX3_share_21 : decode cX3_share 21 = .ok (.aload_n 0, 1) := dk_42 (dk_at dksX3_share_0 21 rfl rfl)
theorem dX3_share_22 : decode cX3_share 22 = .ok (.getfield 499, 3) := dk_180 1 243 (dk_at dksX3_share_1 0 rfl rfl)
theorem dX3_share_25 : decode cX3_share 25 = .ok (.goto 4, 3) := dk_167 0 4 (dk_at dksX3_share_1 3 rfl rfl)
theorem dX3_share_28 : decode cX3_share 28 = .ok (.iconst (-1), 1) := dk_2 (dk_at dksX3_share_1 6 rfl rfl)
theorem dX3_share_29 : decode cX3_share 29 = .ok (.ireturn, 1) := dk_172 (dk_at dksX3_share_1 7 rfl rfl)
abbrev cX3_lot : ByteArray := prog_14_method_111_code
def yX3_lot : MethodName := ⟨RX3, "lot", "(I)I"⟩
def dkwX3_lot_5 : List UInt8 := [132, 4, 1, 167, 255, 167, 27, 154, 0, 7, 28, 167, 0, 4, 29, 172]
abbrev dktX3_lot_5 : List UInt8 := dkwX3_lot_5 ++ []
def dkwX3_lot_4 : List UInt8 := [182, 1, 94, 184, 1, 69, 184, 1, 69, 96, 61, 132, 6, 1, 167, 255, 204, 132, 5, 1, 167, 255, 188]
abbrev dktX3_lot_4 : List UInt8 := dkwX3_lot_4 ++ dktX3_lot_5
def dkwX3_lot_3 : List UInt8 := [21, 4, 182, 1, 94, 42, 42, 180, 0, 58, 21, 5, 182, 1, 94, 42, 42, 180, 0, 58, 21, 6]
abbrev dktX3_lot_3 : List UInt8 := dkwX3_lot_3 ++ dktX3_lot_4
def dkwX3_lot_2 : List UInt8 := [21, 4, 162, 0, 67, 3, 54, 6, 21, 6, 21, 5, 162, 0, 51, 132, 3, 1, 28, 42, 42, 180, 0, 58]
abbrev dktX3_lot_2 : List UInt8 := dkwX3_lot_2 ++ dktX3_lot_3
def dkwX3_lot_1 : List UInt8 := [3, 61, 3, 62, 3, 54, 4, 21, 4, 42, 180, 0, 58, 16, 40, 46, 162, 0, 83, 3, 54, 5, 21, 5]
abbrev dktX3_lot_1 : List UInt8 := dkwX3_lot_1 ++ dktX3_lot_2
def dkwX3_lot_0 : List UInt8 := [42, 3, 181, 0, 109, 42, 180, 1, 51, 153, 0, 13, 27, 133, 9, 10, 184, 0, 230, 154, 0, 5, 2, 172]
abbrev dktX3_lot_0 : List UInt8 := dkwX3_lot_0 ++ dktX3_lot_1
theorem dksX3_lot_0 : cX3_lot.data.toList.drop 0 = dktX3_lot_0 := by decide +kernel
theorem dksX3_lot_1 : cX3_lot.data.toList.drop 24 = dktX3_lot_1 := dk_seg dksX3_lot_0 24 rfl rfl
theorem dksX3_lot_2 : cX3_lot.data.toList.drop 48 = dktX3_lot_2 := dk_seg dksX3_lot_1 24 rfl rfl
theorem dksX3_lot_3 : cX3_lot.data.toList.drop 72 = dktX3_lot_3 := dk_seg dksX3_lot_2 24 rfl rfl
theorem dksX3_lot_4 : cX3_lot.data.toList.drop 94 = dktX3_lot_4 := dk_seg dksX3_lot_3 22 rfl rfl
theorem dksX3_lot_5 : cX3_lot.data.toList.drop 117 = dktX3_lot_5 := dk_seg dksX3_lot_4 23 rfl rfl
theorem dX3_lot_0 : decode cX3_lot 0 = .ok (.aload_n 0, 1) := dk_42 (dk_at dksX3_lot_0 0 rfl rfl)
theorem dX3_lot_1 : decode cX3_lot 1 = .ok (.iconst 0, 1) := dk_3 (dk_at dksX3_lot_0 1 rfl rfl)
theorem dX3_lot_2 : decode cX3_lot 2 = .ok (.putfield 109, 3) := dk_181 0 109 (dk_at dksX3_lot_0 2 rfl rfl)
theorem dX3_lot_5 : decode cX3_lot 5 = .ok (.aload_n 0, 1) := dk_42 (dk_at dksX3_lot_0 5 rfl rfl)
theorem dX3_lot_6 : decode cX3_lot 6 = .ok (.getfield 307, 3) := dk_180 1 51 (dk_at dksX3_lot_0 6 rfl rfl)
theorem dX3_lot_9 : decode cX3_lot 9 = .ok (.ifCond .eq 13, 3) := dk_153 0 13 (dk_at dksX3_lot_0 9 rfl rfl)
theorem dX3_lot_12 : decode cX3_lot 12 = .ok (.iload_n 1, 1) := dk_27 (dk_at dksX3_lot_0 12 rfl rfl)
theorem dX3_lot_13 : decode cX3_lot 13 = .ok (.i2l, 1) := dk_133 (dk_at dksX3_lot_0 13 rfl rfl)
theorem dX3_lot_14 : decode cX3_lot 14 = .ok (.lconst 0, 1) := dk_9 (dk_at dksX3_lot_0 14 rfl rfl)
theorem dX3_lot_15 : decode cX3_lot 15 = .ok (.lconst 1, 1) := dk_10 (dk_at dksX3_lot_0 15 rfl rfl)
theorem dX3_lot_16 : decode cX3_lot 16 = .ok (.invokestatic 230, 3) := dk_184 0 230 (dk_at dksX3_lot_0 16 rfl rfl)
theorem dX3_lot_19 : decode cX3_lot 19 = .ok (.ifCond .ne 5, 3) := dk_154 0 5 (dk_at dksX3_lot_0 19 rfl rfl)
theorem dX3_lot_22 : decode cX3_lot 22 = .ok (.iconst (-1), 1) := dk_2 (dk_at dksX3_lot_0 22 rfl rfl)
theorem dX3_lot_23 : decode cX3_lot 23 = .ok (.ireturn, 1) := dk_172 (dk_at dksX3_lot_0 23 rfl rfl)
theorem dX3_lot_24 : decode cX3_lot 24 = .ok (.iconst 0, 1) := dk_3 (dk_at dksX3_lot_1 0 rfl rfl)
theorem dX3_lot_25 : decode cX3_lot 25 = .ok (.istore_n 2, 1) := dk_61 (dk_at dksX3_lot_1 1 rfl rfl)
theorem dX3_lot_26 : decode cX3_lot 26 = .ok (.iconst 0, 1) := dk_3 (dk_at dksX3_lot_1 2 rfl rfl)
theorem dX3_lot_27 : decode cX3_lot 27 = .ok (.istore_n 3, 1) := dk_62 (dk_at dksX3_lot_1 3 rfl rfl)
theorem dX3_lot_28 : decode cX3_lot 28 = .ok (.iconst 0, 1) := dk_3 (dk_at dksX3_lot_1 4 rfl rfl)
theorem dX3_lot_29 : decode cX3_lot 29 = .ok (.istore 4, 2) := dk_54 4 (dk_at dksX3_lot_1 5 rfl rfl)
theorem dX3_lot_31 : decode cX3_lot 31 = .ok (.iload 4, 2) := dk_21 4 (dk_at dksX3_lot_1 7 rfl rfl)
theorem dX3_lot_33 : decode cX3_lot 33 = .ok (.aload_n 0, 1) := dk_42 (dk_at dksX3_lot_1 9 rfl rfl)
theorem dX3_lot_34 : decode cX3_lot 34 = .ok (.getfield 58, 3) := dk_180 0 58 (dk_at dksX3_lot_1 10 rfl rfl)
theorem dX3_lot_37 : decode cX3_lot 37 = .ok (.bipush 40, 2) := dk_16 40 (dk_at dksX3_lot_1 13 rfl rfl)
theorem dX3_lot_39 : decode cX3_lot 39 = .ok (.iaload, 1) := dk_46 (dk_at dksX3_lot_1 15 rfl rfl)
theorem dX3_lot_40 : decode cX3_lot 40 = .ok (.if_icmp .ge 83, 3) := dk_162 0 83 (dk_at dksX3_lot_1 16 rfl rfl)
theorem dX3_lot_43 : decode cX3_lot 43 = .ok (.iconst 0, 1) := dk_3 (dk_at dksX3_lot_1 19 rfl rfl)
theorem dX3_lot_44 : decode cX3_lot 44 = .ok (.istore 5, 2) := dk_54 5 (dk_at dksX3_lot_1 20 rfl rfl)
theorem dX3_lot_46 : decode cX3_lot 46 = .ok (.iload 5, 2) := dk_21 5 (dk_at dksX3_lot_1 22 rfl rfl)
theorem dX3_lot_48 : decode cX3_lot 48 = .ok (.iload 4, 2) := dk_21 4 (dk_at dksX3_lot_2 0 rfl rfl)
theorem dX3_lot_50 : decode cX3_lot 50 = .ok (.if_icmp .ge 67, 3) := dk_162 0 67 (dk_at dksX3_lot_2 2 rfl rfl)
theorem dX3_lot_53 : decode cX3_lot 53 = .ok (.iconst 0, 1) := dk_3 (dk_at dksX3_lot_2 5 rfl rfl)
theorem dX3_lot_54 : decode cX3_lot 54 = .ok (.istore 6, 2) := dk_54 6 (dk_at dksX3_lot_2 6 rfl rfl)
theorem dX3_lot_56 : decode cX3_lot 56 = .ok (.iload 6, 2) := dk_21 6 (dk_at dksX3_lot_2 8 rfl rfl)
theorem dX3_lot_58 : decode cX3_lot 58 = .ok (.iload 5, 2) := dk_21 5 (dk_at dksX3_lot_2 10 rfl rfl)
theorem dX3_lot_60 : decode cX3_lot 60 = .ok (.if_icmp .ge 51, 3) := dk_162 0 51 (dk_at dksX3_lot_2 12 rfl rfl)
theorem dX3_lot_63 : decode cX3_lot 63 = .ok (.iinc 3 1, 3) := dk_132 3 1 (dk_at dksX3_lot_2 15 rfl rfl)
theorem dX3_lot_66 : decode cX3_lot 66 = .ok (.iload_n 2, 1) := dk_28 (dk_at dksX3_lot_2 18 rfl rfl)
theorem dX3_lot_67 : decode cX3_lot 67 = .ok (.aload_n 0, 1) := dk_42 (dk_at dksX3_lot_2 19 rfl rfl)
theorem dX3_lot_68 : decode cX3_lot 68 = .ok (.aload_n 0, 1) := dk_42 (dk_at dksX3_lot_2 20 rfl rfl)
theorem dX3_lot_69 : decode cX3_lot 69 = .ok (.getfield 58, 3) := dk_180 0 58 (dk_at dksX3_lot_2 21 rfl rfl)
theorem dX3_lot_72 : decode cX3_lot 72 = .ok (.iload 4, 2) := dk_21 4 (dk_at dksX3_lot_3 0 rfl rfl)
theorem dX3_lot_74 : decode cX3_lot 74 = .ok (.invokevirtual 350, 3) := dk_182 1 94 (dk_at dksX3_lot_3 2 rfl rfl)
theorem dX3_lot_77 : decode cX3_lot 77 = .ok (.aload_n 0, 1) := dk_42 (dk_at dksX3_lot_3 5 rfl rfl)
theorem dX3_lot_78 : decode cX3_lot 78 = .ok (.aload_n 0, 1) := dk_42 (dk_at dksX3_lot_3 6 rfl rfl)
theorem dX3_lot_79 : decode cX3_lot 79 = .ok (.getfield 58, 3) := dk_180 0 58 (dk_at dksX3_lot_3 7 rfl rfl)
theorem dX3_lot_82 : decode cX3_lot 82 = .ok (.iload 5, 2) := dk_21 5 (dk_at dksX3_lot_3 10 rfl rfl)
theorem dX3_lot_84 : decode cX3_lot 84 = .ok (.invokevirtual 350, 3) := dk_182 1 94 (dk_at dksX3_lot_3 12 rfl rfl)
theorem dX3_lot_87 : decode cX3_lot 87 = .ok (.aload_n 0, 1) := dk_42 (dk_at dksX3_lot_3 15 rfl rfl)
theorem dX3_lot_88 : decode cX3_lot 88 = .ok (.aload_n 0, 1) := dk_42 (dk_at dksX3_lot_3 16 rfl rfl)
theorem dX3_lot_89 : decode cX3_lot 89 = .ok (.getfield 58, 3) := dk_180 0 58 (dk_at dksX3_lot_3 17 rfl rfl)
theorem dX3_lot_92 : decode cX3_lot 92 = .ok (.iload 6, 2) := dk_21 6 (dk_at dksX3_lot_3 20 rfl rfl)
theorem dX3_lot_94 : decode cX3_lot 94 = .ok (.invokevirtual 350, 3) := dk_182 1 94 (dk_at dksX3_lot_4 0 rfl rfl)
theorem dX3_lot_97 : decode cX3_lot 97 = .ok (.invokestatic 325, 3) := dk_184 1 69 (dk_at dksX3_lot_4 3 rfl rfl)
theorem dX3_lot_100 : decode cX3_lot 100 = .ok (.invokestatic 325, 3) := dk_184 1 69 (dk_at dksX3_lot_4 6 rfl rfl)
theorem dX3_lot_103 : decode cX3_lot 103 = .ok (.iadd, 1) := dk_96 (dk_at dksX3_lot_4 9 rfl rfl)
theorem dX3_lot_104 : decode cX3_lot 104 = .ok (.istore_n 2, 1) := dk_61 (dk_at dksX3_lot_4 10 rfl rfl)
theorem dX3_lot_105 : decode cX3_lot 105 = .ok (.iinc 6 1, 3) := dk_132 6 1 (dk_at dksX3_lot_4 11 rfl rfl)
theorem dX3_lot_108 : decode cX3_lot 108 = .ok (.goto (-52), 3) := dk_167 255 204 (dk_at dksX3_lot_4 14 rfl rfl)
theorem dX3_lot_111 : decode cX3_lot 111 = .ok (.iinc 5 1, 3) := dk_132 5 1 (dk_at dksX3_lot_4 17 rfl rfl)
theorem dX3_lot_114 : decode cX3_lot 114 = .ok (.goto (-68), 3) := dk_167 255 188 (dk_at dksX3_lot_4 20 rfl rfl)
theorem dX3_lot_117 : decode cX3_lot 117 = .ok (.iinc 4 1, 3) := dk_132 4 1 (dk_at dksX3_lot_5 0 rfl rfl)
theorem dX3_lot_120 : decode cX3_lot 120 = .ok (.goto (-89), 3) := dk_167 255 167 (dk_at dksX3_lot_5 3 rfl rfl)
theorem dX3_lot_123 : decode cX3_lot 123 = .ok (.iload_n 1, 1) := dk_27 (dk_at dksX3_lot_5 6 rfl rfl)
theorem dX3_lot_124 : decode cX3_lot 124 = .ok (.ifCond .ne 7, 3) := dk_154 0 7 (dk_at dksX3_lot_5 7 rfl rfl)
theorem dX3_lot_127 : decode cX3_lot 127 = .ok (.iload_n 2, 1) := dk_28 (dk_at dksX3_lot_5 10 rfl rfl)
theorem dX3_lot_128 : decode cX3_lot 128 = .ok (.goto 4, 3) := dk_167 0 4 (dk_at dksX3_lot_5 11 rfl rfl)
theorem dX3_lot_131 : decode cX3_lot 131 = .ok (.iload_n 3, 1) := dk_29 (dk_at dksX3_lot_5 14 rfl rfl)
theorem dX3_lot_132 : decode cX3_lot 132 = .ok (.ireturn, 1) := dk_172 (dk_at dksX3_lot_5 15 rfl rfl)
abbrev cX3_labels : ByteArray := prog_14_method_113_code
def yX3_labels : MethodName := ⟨RX3, "labels", "(II)I"⟩
def dkwX3_labels_1 : List UInt8 := [9, 10, 184, 0, 230, 153, 0, 12, 42, 27, 28, 182, 2, 5, 167, 0, 6, 19, 1, 176, 172]
abbrev dktX3_labels_1 : List UInt8 := dkwX3_labels_1 ++ []
def dkwX3_labels_0 : List UInt8 := [42, 3, 181, 0, 109, 42, 180, 1, 51, 158, 0, 32, 27, 133, 9, 10, 184, 0, 230, 153, 0, 22, 28, 133]
abbrev dktX3_labels_0 : List UInt8 := dkwX3_labels_0 ++ dktX3_labels_1
theorem dksX3_labels_0 : cX3_labels.data.toList.drop 0 = dktX3_labels_0 := by decide +kernel
theorem dksX3_labels_1 : cX3_labels.data.toList.drop 24 = dktX3_labels_1 := dk_seg dksX3_labels_0 24 rfl rfl
theorem dX3_labels_0 : decode cX3_labels 0 = .ok (.aload_n 0, 1) := dk_42 (dk_at dksX3_labels_0 0 rfl rfl)
theorem dX3_labels_1 : decode cX3_labels 1 = .ok (.iconst 0, 1) := dk_3 (dk_at dksX3_labels_0 1 rfl rfl)
theorem dX3_labels_2 : decode cX3_labels 2 = .ok (.putfield 109, 3) := dk_181 0 109 (dk_at dksX3_labels_0 2 rfl rfl)
theorem dX3_labels_5 : decode cX3_labels 5 = .ok (.aload_n 0, 1) := dk_42 (dk_at dksX3_labels_0 5 rfl rfl)
theorem dX3_labels_6 : decode cX3_labels 6 = .ok (.getfield 307, 3) := dk_180 1 51 (dk_at dksX3_labels_0 6 rfl rfl)
theorem dX3_labels_9 : decode cX3_labels 9 = .ok (.ifCond .le 32, 3) := dk_158 0 32 (dk_at dksX3_labels_0 9 rfl rfl)
theorem dX3_labels_12 : decode cX3_labels 12 = .ok (.iload_n 1, 1) := dk_27 (dk_at dksX3_labels_0 12 rfl rfl)
theorem dX3_labels_13 : decode cX3_labels 13 = .ok (.i2l, 1) := dk_133 (dk_at dksX3_labels_0 13 rfl rfl)
theorem dX3_labels_14 : decode cX3_labels 14 = .ok (.lconst 0, 1) := dk_9 (dk_at dksX3_labels_0 14 rfl rfl)
theorem dX3_labels_15 : decode cX3_labels 15 = .ok (.lconst 1, 1) := dk_10 (dk_at dksX3_labels_0 15 rfl rfl)
theorem dX3_labels_16 : decode cX3_labels 16 = .ok (.invokestatic 230, 3) := dk_184 0 230 (dk_at dksX3_labels_0 16 rfl rfl)
theorem dX3_labels_19 : decode cX3_labels 19 = .ok (.ifCond .eq 22, 3) := dk_153 0 22 (dk_at dksX3_labels_0 19 rfl rfl)
theorem dX3_labels_22 : decode cX3_labels 22 = .ok (.iload_n 2, 1) := dk_28 (dk_at dksX3_labels_0 22 rfl rfl)
theorem dX3_labels_23 : decode cX3_labels 23 = .ok (.i2l, 1) := dk_133 (dk_at dksX3_labels_0 23 rfl rfl)
theorem dX3_labels_24 : decode cX3_labels 24 = .ok (.lconst 0, 1) := dk_9 (dk_at dksX3_labels_1 0 rfl rfl)
theorem dX3_labels_25 : decode cX3_labels 25 = .ok (.lconst 1, 1) := dk_10 (dk_at dksX3_labels_1 1 rfl rfl)
theorem dX3_labels_26 : decode cX3_labels 26 = .ok (.invokestatic 230, 3) := dk_184 0 230 (dk_at dksX3_labels_1 2 rfl rfl)
theorem dX3_labels_29 : decode cX3_labels 29 = .ok (.ifCond .eq 12, 3) := dk_153 0 12 (dk_at dksX3_labels_1 5 rfl rfl)
theorem dX3_labels_32 : decode cX3_labels 32 = .ok (.aload_n 0, 1) := dk_42 (dk_at dksX3_labels_1 8 rfl rfl)
theorem dX3_labels_33 : decode cX3_labels 33 = .ok (.iload_n 1, 1) := dk_27 (dk_at dksX3_labels_1 9 rfl rfl)
theorem dX3_labels_34 : decode cX3_labels 34 = .ok (.iload_n 2, 1) := dk_28 (dk_at dksX3_labels_1 10 rfl rfl)
theorem dX3_labels_35 : decode cX3_labels 35 = .ok (.invokevirtual 517, 3) := dk_182 2 5 (dk_at dksX3_labels_1 11 rfl rfl)
theorem dX3_labels_38 : decode cX3_labels 38 = .ok (.goto 6, 3) := dk_167 0 6 (dk_at dksX3_labels_1 14 rfl rfl)
theorem dX3_labels_41 : decode cX3_labels 41 = .ok (.ldc_w 432, 3) := dk_19 1 176 (dk_at dksX3_labels_1 17 rfl rfl)
theorem dX3_labels_44 : decode cX3_labels 44 = .ok (.ireturn, 1) := dk_172 (dk_at dksX3_labels_1 20 rfl rfl)
abbrev cX3_labelsOf : ByteArray := prog_14_method_112_code
def yX3_labelsOf : MethodName := ⟨RX3, "labelsOf", "(II)I"⟩
def dkwX3_labelsOf_0 : List UInt8 := [27, 28, 96, 158, 0, 15, 5, 42, 182, 2, 2, 184, 1, 201, 104, 167, 0, 4, 3, 6, 27, 104, 100, 172]
abbrev dktX3_labelsOf_0 : List UInt8 := dkwX3_labelsOf_0 ++ []
theorem dksX3_labelsOf_0 : cX3_labelsOf.data.toList.drop 0 = dktX3_labelsOf_0 := by decide +kernel
theorem dX3_labelsOf_0 : decode cX3_labelsOf 0 = .ok (.iload_n 1, 1) := dk_27 (dk_at dksX3_labelsOf_0 0 rfl rfl)
theorem dX3_labelsOf_1 : decode cX3_labelsOf 1 = .ok (.iload_n 2, 1) := dk_28 (dk_at dksX3_labelsOf_0 1 rfl rfl)
theorem dX3_labelsOf_2 : decode cX3_labelsOf 2 = .ok (.iadd, 1) := dk_96 (dk_at dksX3_labelsOf_0 2 rfl rfl)
theorem dX3_labelsOf_3 : decode cX3_labelsOf 3 = .ok (.ifCond .le 15, 3) := dk_158 0 15 (dk_at dksX3_labelsOf_0 3 rfl rfl)
theorem dX3_labelsOf_6 : decode cX3_labelsOf 6 = .ok (.iconst 2, 1) := dk_5 (dk_at dksX3_labelsOf_0 6 rfl rfl)
theorem dX3_labelsOf_7 : decode cX3_labelsOf 7 = .ok (.aload_n 0, 1) := dk_42 (dk_at dksX3_labelsOf_0 7 rfl rfl)
theorem dX3_labelsOf_8 : decode cX3_labelsOf 8 = .ok (.invokevirtual 514, 3) := dk_182 2 2 (dk_at dksX3_labelsOf_0 8 rfl rfl)
theorem dX3_labelsOf_11 : decode cX3_labelsOf 11 = .ok (.invokestatic 457, 3) := dk_184 1 201 (dk_at dksX3_labelsOf_0 11 rfl rfl)
theorem dX3_labelsOf_14 : decode cX3_labelsOf 14 = .ok (.imul, 1) := dk_104 (dk_at dksX3_labelsOf_0 14 rfl rfl)
theorem dX3_labelsOf_15 : decode cX3_labelsOf 15 = .ok (.goto 4, 3) := dk_167 0 4 (dk_at dksX3_labelsOf_0 15 rfl rfl)
theorem dX3_labelsOf_18 : decode cX3_labelsOf 18 = .ok (.iconst 0, 1) := dk_3 (dk_at dksX3_labelsOf_0 18 rfl rfl)
theorem dX3_labelsOf_19 : decode cX3_labelsOf 19 = .ok (.iconst 3, 1) := dk_6 (dk_at dksX3_labelsOf_0 19 rfl rfl)
theorem dX3_labelsOf_20 : decode cX3_labelsOf 20 = .ok (.iload_n 1, 1) := dk_27 (dk_at dksX3_labelsOf_0 20 rfl rfl)
theorem dX3_labelsOf_21 : decode cX3_labelsOf 21 = .ok (.imul, 1) := dk_104 (dk_at dksX3_labelsOf_0 21 rfl rfl)
theorem dX3_labelsOf_22 : decode cX3_labelsOf 22 = .ok (.isub, 1) := dk_100 (dk_at dksX3_labelsOf_0 22 rfl rfl)
theorem dX3_labelsOf_23 : decode cX3_labelsOf 23 = .ok (.ireturn, 1) := dk_172 (dk_at dksX3_labelsOf_0 23 rfl rfl)
abbrev cX3_rests : ByteArray := prog_14_method_114_code
def yX3_rests : MethodName := ⟨RX3, "rests", "(I)I"⟩
def dkwX3_rests_4 : List UInt8 := [172, 132, 2, 1, 132, 3, 1, 167, 255, 176, 27, 2, 160, 0, 7, 28, 167, 0, 4, 2, 172]
abbrev dktX3_rests_4 : List UInt8 := dkwX3_rests_4 ++ []
def dkwX3_rests_3 : List UInt8 := [21, 4, 182, 2, 5, 164, 0, 6, 167, 0, 20, 28, 27, 160, 0, 12, 16, 10, 21, 4, 104, 21, 5, 96]
abbrev dktX3_rests_3 : List UInt8 := dkwX3_rests_3 ++ dktX3_rests_4
def dkwX3_rests_2 : List UInt8 := [42, 21, 4, 21, 5, 182, 2, 5, 163, 0, 44, 42, 4, 21, 5, 100, 21, 4, 182, 2, 5, 42, 21, 5]
abbrev dktX3_rests_2 : List UInt8 := dkwX3_rests_2 ++ dktX3_rests_3
def dkwX3_rests_1 : List UInt8 := [7, 162, 0, 81, 29, 5, 108, 54, 4, 29, 5, 112, 54, 5, 42, 4, 21, 4, 100, 21, 5, 182, 2, 5]
abbrev dktX3_rests_1 : List UInt8 := dkwX3_rests_1 ++ dktX3_rests_2
def dkwX3_rests_0 : List UInt8 := [42, 3, 181, 0, 109, 42, 180, 1, 51, 153, 0, 8, 27, 2, 162, 0, 5, 2, 172, 3, 61, 3, 62, 29]
abbrev dktX3_rests_0 : List UInt8 := dkwX3_rests_0 ++ dktX3_rests_1
theorem dksX3_rests_0 : cX3_rests.data.toList.drop 0 = dktX3_rests_0 := by decide +kernel
theorem dksX3_rests_1 : cX3_rests.data.toList.drop 24 = dktX3_rests_1 := dk_seg dksX3_rests_0 24 rfl rfl
theorem dksX3_rests_2 : cX3_rests.data.toList.drop 48 = dktX3_rests_2 := dk_seg dksX3_rests_1 24 rfl rfl
theorem dksX3_rests_3 : cX3_rests.data.toList.drop 72 = dktX3_rests_3 := dk_seg dksX3_rests_2 24 rfl rfl
theorem dksX3_rests_4 : cX3_rests.data.toList.drop 96 = dktX3_rests_4 := dk_seg dksX3_rests_3 24 rfl rfl
theorem dX3_rests_0 : decode cX3_rests 0 = .ok (.aload_n 0, 1) := dk_42 (dk_at dksX3_rests_0 0 rfl rfl)
theorem dX3_rests_1 : decode cX3_rests 1 = .ok (.iconst 0, 1) := dk_3 (dk_at dksX3_rests_0 1 rfl rfl)
theorem dX3_rests_2 : decode cX3_rests 2 = .ok (.putfield 109, 3) := dk_181 0 109 (dk_at dksX3_rests_0 2 rfl rfl)
theorem dX3_rests_5 : decode cX3_rests 5 = .ok (.aload_n 0, 1) := dk_42 (dk_at dksX3_rests_0 5 rfl rfl)
theorem dX3_rests_6 : decode cX3_rests 6 = .ok (.getfield 307, 3) := dk_180 1 51 (dk_at dksX3_rests_0 6 rfl rfl)
theorem dX3_rests_9 : decode cX3_rests 9 = .ok (.ifCond .eq 8, 3) := dk_153 0 8 (dk_at dksX3_rests_0 9 rfl rfl)
theorem dX3_rests_12 : decode cX3_rests 12 = .ok (.iload_n 1, 1) := dk_27 (dk_at dksX3_rests_0 12 rfl rfl)
theorem dX3_rests_13 : decode cX3_rests 13 = .ok (.iconst (-1), 1) := dk_2 (dk_at dksX3_rests_0 13 rfl rfl)
theorem dX3_rests_14 : decode cX3_rests 14 = .ok (.if_icmp .ge 5, 3) := dk_162 0 5 (dk_at dksX3_rests_0 14 rfl rfl)
theorem dX3_rests_17 : decode cX3_rests 17 = .ok (.iconst (-1), 1) := dk_2 (dk_at dksX3_rests_0 17 rfl rfl)
theorem dX3_rests_18 : decode cX3_rests 18 = .ok (.ireturn, 1) := dk_172 (dk_at dksX3_rests_0 18 rfl rfl)
theorem dX3_rests_19 : decode cX3_rests 19 = .ok (.iconst 0, 1) := dk_3 (dk_at dksX3_rests_0 19 rfl rfl)
theorem dX3_rests_20 : decode cX3_rests 20 = .ok (.istore_n 2, 1) := dk_61 (dk_at dksX3_rests_0 20 rfl rfl)
theorem dX3_rests_21 : decode cX3_rests 21 = .ok (.iconst 0, 1) := dk_3 (dk_at dksX3_rests_0 21 rfl rfl)
theorem dX3_rests_22 : decode cX3_rests 22 = .ok (.istore_n 3, 1) := dk_62 (dk_at dksX3_rests_0 22 rfl rfl)
theorem dX3_rests_23 : decode cX3_rests 23 = .ok (.iload_n 3, 1) := dk_29 (dk_at dksX3_rests_0 23 rfl rfl)
theorem dX3_rests_24 : decode cX3_rests 24 = .ok (.iconst 4, 1) := dk_7 (dk_at dksX3_rests_1 0 rfl rfl)
theorem dX3_rests_25 : decode cX3_rests 25 = .ok (.if_icmp .ge 81, 3) := dk_162 0 81 (dk_at dksX3_rests_1 1 rfl rfl)
theorem dX3_rests_28 : decode cX3_rests 28 = .ok (.iload_n 3, 1) := dk_29 (dk_at dksX3_rests_1 4 rfl rfl)
theorem dX3_rests_29 : decode cX3_rests 29 = .ok (.iconst 2, 1) := dk_5 (dk_at dksX3_rests_1 5 rfl rfl)
theorem dX3_rests_30 : decode cX3_rests 30 = .ok (.idiv, 1) := dk_108 (dk_at dksX3_rests_1 6 rfl rfl)
theorem dX3_rests_31 : decode cX3_rests 31 = .ok (.istore 4, 2) := dk_54 4 (dk_at dksX3_rests_1 7 rfl rfl)
theorem dX3_rests_33 : decode cX3_rests 33 = .ok (.iload_n 3, 1) := dk_29 (dk_at dksX3_rests_1 9 rfl rfl)
theorem dX3_rests_34 : decode cX3_rests 34 = .ok (.iconst 2, 1) := dk_5 (dk_at dksX3_rests_1 10 rfl rfl)
theorem dX3_rests_35 : decode cX3_rests 35 = .ok (.irem, 1) := dk_112 (dk_at dksX3_rests_1 11 rfl rfl)
theorem dX3_rests_36 : decode cX3_rests 36 = .ok (.istore 5, 2) := dk_54 5 (dk_at dksX3_rests_1 12 rfl rfl)
theorem dX3_rests_38 : decode cX3_rests 38 = .ok (.aload_n 0, 1) := dk_42 (dk_at dksX3_rests_1 14 rfl rfl)
theorem dX3_rests_39 : decode cX3_rests 39 = .ok (.iconst 1, 1) := dk_4 (dk_at dksX3_rests_1 15 rfl rfl)
theorem dX3_rests_40 : decode cX3_rests 40 = .ok (.iload 4, 2) := dk_21 4 (dk_at dksX3_rests_1 16 rfl rfl)
theorem dX3_rests_42 : decode cX3_rests 42 = .ok (.isub, 1) := dk_100 (dk_at dksX3_rests_1 18 rfl rfl)
theorem dX3_rests_43 : decode cX3_rests 43 = .ok (.iload 5, 2) := dk_21 5 (dk_at dksX3_rests_1 19 rfl rfl)
theorem dX3_rests_45 : decode cX3_rests 45 = .ok (.invokevirtual 517, 3) := dk_182 2 5 (dk_at dksX3_rests_1 21 rfl rfl)
theorem dX3_rests_48 : decode cX3_rests 48 = .ok (.aload_n 0, 1) := dk_42 (dk_at dksX3_rests_2 0 rfl rfl)
theorem dX3_rests_49 : decode cX3_rests 49 = .ok (.iload 4, 2) := dk_21 4 (dk_at dksX3_rests_2 1 rfl rfl)
theorem dX3_rests_51 : decode cX3_rests 51 = .ok (.iload 5, 2) := dk_21 5 (dk_at dksX3_rests_2 3 rfl rfl)
theorem dX3_rests_53 : decode cX3_rests 53 = .ok (.invokevirtual 517, 3) := dk_182 2 5 (dk_at dksX3_rests_2 5 rfl rfl)
theorem dX3_rests_56 : decode cX3_rests 56 = .ok (.if_icmp .gt 44, 3) := dk_163 0 44 (dk_at dksX3_rests_2 8 rfl rfl)
theorem dX3_rests_59 : decode cX3_rests 59 = .ok (.aload_n 0, 1) := dk_42 (dk_at dksX3_rests_2 11 rfl rfl)
theorem dX3_rests_60 : decode cX3_rests 60 = .ok (.iconst 1, 1) := dk_4 (dk_at dksX3_rests_2 12 rfl rfl)
theorem dX3_rests_61 : decode cX3_rests 61 = .ok (.iload 5, 2) := dk_21 5 (dk_at dksX3_rests_2 13 rfl rfl)
theorem dX3_rests_63 : decode cX3_rests 63 = .ok (.isub, 1) := dk_100 (dk_at dksX3_rests_2 15 rfl rfl)
theorem dX3_rests_64 : decode cX3_rests 64 = .ok (.iload 4, 2) := dk_21 4 (dk_at dksX3_rests_2 16 rfl rfl)
theorem dX3_rests_66 : decode cX3_rests 66 = .ok (.invokevirtual 517, 3) := dk_182 2 5 (dk_at dksX3_rests_2 18 rfl rfl)
theorem dX3_rests_69 : decode cX3_rests 69 = .ok (.aload_n 0, 1) := dk_42 (dk_at dksX3_rests_2 21 rfl rfl)
theorem dX3_rests_70 : decode cX3_rests 70 = .ok (.iload 5, 2) := dk_21 5 (dk_at dksX3_rests_2 22 rfl rfl)
theorem dX3_rests_72 : decode cX3_rests 72 = .ok (.iload 4, 2) := dk_21 4 (dk_at dksX3_rests_3 0 rfl rfl)
theorem dX3_rests_74 : decode cX3_rests 74 = .ok (.invokevirtual 517, 3) := dk_182 2 5 (dk_at dksX3_rests_3 2 rfl rfl)
theorem dX3_rests_77 : decode cX3_rests 77 = .ok (.if_icmp .le 6, 3) := dk_164 0 6 (dk_at dksX3_rests_3 5 rfl rfl)
theorem dX3_rests_80 : decode cX3_rests 80 = .ok (.goto 20, 3) := dk_167 0 20 (dk_at dksX3_rests_3 8 rfl rfl)
theorem dX3_rests_83 : decode cX3_rests 83 = .ok (.iload_n 2, 1) := dk_28 (dk_at dksX3_rests_3 11 rfl rfl)
theorem dX3_rests_84 : decode cX3_rests 84 = .ok (.iload_n 1, 1) := dk_27 (dk_at dksX3_rests_3 12 rfl rfl)
theorem dX3_rests_85 : decode cX3_rests 85 = .ok (.if_icmp .ne 12, 3) := dk_160 0 12 (dk_at dksX3_rests_3 13 rfl rfl)
theorem dX3_rests_88 : decode cX3_rests 88 = .ok (.bipush 10, 2) := dk_16 10 (dk_at dksX3_rests_3 16 rfl rfl)
theorem dX3_rests_90 : decode cX3_rests 90 = .ok (.iload 4, 2) := dk_21 4 (dk_at dksX3_rests_3 18 rfl rfl)
theorem dX3_rests_92 : decode cX3_rests 92 = .ok (.imul, 1) := dk_104 (dk_at dksX3_rests_3 20 rfl rfl)
theorem dX3_rests_93 : decode cX3_rests 93 = .ok (.iload 5, 2) := dk_21 5 (dk_at dksX3_rests_3 21 rfl rfl)
theorem dX3_rests_95 : decode cX3_rests 95 = .ok (.iadd, 1) := dk_96 (dk_at dksX3_rests_3 23 rfl rfl)
theorem dX3_rests_96 : decode cX3_rests 96 = .ok (.ireturn, 1) := dk_172 (dk_at dksX3_rests_4 0 rfl rfl)
theorem dX3_rests_97 : decode cX3_rests 97 = .ok (.iinc 2 1, 3) := dk_132 2 1 (dk_at dksX3_rests_4 1 rfl rfl)
theorem dX3_rests_100 : decode cX3_rests 100 = .ok (.iinc 3 1, 3) := dk_132 3 1 (dk_at dksX3_rests_4 4 rfl rfl)
theorem dX3_rests_103 : decode cX3_rests 103 = .ok (.goto (-80), 3) := dk_167 255 176 (dk_at dksX3_rests_4 7 rfl rfl)
theorem dX3_rests_106 : decode cX3_rests 106 = .ok (.iload_n 1, 1) := dk_27 (dk_at dksX3_rests_4 10 rfl rfl)
theorem dX3_rests_107 : decode cX3_rests 107 = .ok (.iconst (-1), 1) := dk_2 (dk_at dksX3_rests_4 11 rfl rfl)
theorem dX3_rests_108 : decode cX3_rests 108 = .ok (.if_icmp .ne 7, 3) := dk_160 0 7 (dk_at dksX3_rests_4 12 rfl rfl)
theorem dX3_rests_111 : decode cX3_rests 111 = .ok (.iload_n 2, 1) := dk_28 (dk_at dksX3_rests_4 15 rfl rfl)
theorem dX3_rests_112 : decode cX3_rests 112 = .ok (.goto 4, 3) := dk_167 0 4 (dk_at dksX3_rests_4 16 rfl rfl)
theorem dX3_rests_115 : decode cX3_rests 115 = .ok (.iconst (-1), 1) := dk_2 (dk_at dksX3_rests_4 19 rfl rfl)
theorem dX3_rests_116 : decode cX3_rests 116 = .ok (.ireturn, 1) := dk_172 (dk_at dksX3_rests_4 20 rfl rfl)
abbrev cX3_most : ByteArray := prog_14_method_115_code
def yX3_most : MethodName := ⟨RX3, "most", "(I)I"⟩
def dkwX3_most_5 : List UInt8 := [61, 132, 3, 1, 167, 255, 172, 28, 172]
abbrev dktX3_most_5 : List UInt8 := dkwX3_most_5 ++ []
def dkwX3_most_4 : List UInt8 := [42, 180, 0, 58, 28, 182, 1, 94, 164, 0, 7, 4, 167, 0, 4, 3, 54, 4, 21, 4, 153, 0, 5, 29]
abbrev dktX3_most_4 : List UInt8 := dkwX3_most_4 ++ dktX3_most_5
def dkwX3_most_3 : List UInt8 := [5, 96, 46, 164, 0, 7, 4, 167, 0, 33, 3, 167, 0, 29, 42, 42, 180, 0, 58, 29, 182, 1, 94, 42]
abbrev dktX3_most_3 : List UInt8 := dkwX3_most_3 ++ dktX3_most_4
def dkwX3_most_2 : List UInt8 := [162, 0, 79, 27, 154, 0, 34, 42, 180, 0, 58, 8, 29, 104, 5, 96, 46, 42, 180, 0, 58, 8, 28, 104]
abbrev dktX3_most_2 : List UInt8 := dkwX3_most_2 ++ dktX3_most_3
def dkwX3_most_1 : List UInt8 := [180, 0, 58, 16, 40, 46, 154, 0, 5, 2, 172, 3, 61, 4, 62, 29, 42, 180, 0, 58, 16, 40, 46]
abbrev dktX3_most_1 : List UInt8 := dkwX3_most_1 ++ dktX3_most_2
def dkwX3_most_0 : List UInt8 := [42, 3, 181, 0, 109, 42, 180, 1, 51, 153, 0, 23, 27, 133, 9, 10, 184, 0, 230, 153, 0, 13, 42]
abbrev dktX3_most_0 : List UInt8 := dkwX3_most_0 ++ dktX3_most_1
theorem dksX3_most_0 : cX3_most.data.toList.drop 0 = dktX3_most_0 := by decide +kernel
theorem dksX3_most_1 : cX3_most.data.toList.drop 23 = dktX3_most_1 := dk_seg dksX3_most_0 23 rfl rfl
theorem dksX3_most_2 : cX3_most.data.toList.drop 46 = dktX3_most_2 := dk_seg dksX3_most_1 23 rfl rfl
theorem dksX3_most_3 : cX3_most.data.toList.drop 70 = dktX3_most_3 := dk_seg dksX3_most_2 24 rfl rfl
theorem dksX3_most_4 : cX3_most.data.toList.drop 94 = dktX3_most_4 := dk_seg dksX3_most_3 24 rfl rfl
theorem dksX3_most_5 : cX3_most.data.toList.drop 118 = dktX3_most_5 := dk_seg dksX3_most_4 24 rfl rfl
theorem dX3_most_0 : decode cX3_most 0 = .ok (.aload_n 0, 1) := dk_42 (dk_at dksX3_most_0 0 rfl rfl)
theorem dX3_most_1 : decode cX3_most 1 = .ok (.iconst 0, 1) := dk_3 (dk_at dksX3_most_0 1 rfl rfl)
theorem dX3_most_2 : decode cX3_most 2 = .ok (.putfield 109, 3) := dk_181 0 109 (dk_at dksX3_most_0 2 rfl rfl)
theorem dX3_most_5 : decode cX3_most 5 = .ok (.aload_n 0, 1) := dk_42 (dk_at dksX3_most_0 5 rfl rfl)
theorem dX3_most_6 : decode cX3_most 6 = .ok (.getfield 307, 3) := dk_180 1 51 (dk_at dksX3_most_0 6 rfl rfl)
theorem dX3_most_9 : decode cX3_most 9 = .ok (.ifCond .eq 23, 3) := dk_153 0 23 (dk_at dksX3_most_0 9 rfl rfl)
theorem dX3_most_12 : decode cX3_most 12 = .ok (.iload_n 1, 1) := dk_27 (dk_at dksX3_most_0 12 rfl rfl)
theorem dX3_most_13 : decode cX3_most 13 = .ok (.i2l, 1) := dk_133 (dk_at dksX3_most_0 13 rfl rfl)
theorem dX3_most_14 : decode cX3_most 14 = .ok (.lconst 0, 1) := dk_9 (dk_at dksX3_most_0 14 rfl rfl)
theorem dX3_most_15 : decode cX3_most 15 = .ok (.lconst 1, 1) := dk_10 (dk_at dksX3_most_0 15 rfl rfl)
theorem dX3_most_16 : decode cX3_most 16 = .ok (.invokestatic 230, 3) := dk_184 0 230 (dk_at dksX3_most_0 16 rfl rfl)
theorem dX3_most_19 : decode cX3_most 19 = .ok (.ifCond .eq 13, 3) := dk_153 0 13 (dk_at dksX3_most_0 19 rfl rfl)
theorem dX3_most_22 : decode cX3_most 22 = .ok (.aload_n 0, 1) := dk_42 (dk_at dksX3_most_0 22 rfl rfl)
theorem dX3_most_23 : decode cX3_most 23 = .ok (.getfield 58, 3) := dk_180 0 58 (dk_at dksX3_most_1 0 rfl rfl)
theorem dX3_most_26 : decode cX3_most 26 = .ok (.bipush 40, 2) := dk_16 40 (dk_at dksX3_most_1 3 rfl rfl)
theorem dX3_most_28 : decode cX3_most 28 = .ok (.iaload, 1) := dk_46 (dk_at dksX3_most_1 5 rfl rfl)
theorem dX3_most_29 : decode cX3_most 29 = .ok (.ifCond .ne 5, 3) := dk_154 0 5 (dk_at dksX3_most_1 6 rfl rfl)
theorem dX3_most_32 : decode cX3_most 32 = .ok (.iconst (-1), 1) := dk_2 (dk_at dksX3_most_1 9 rfl rfl)
theorem dX3_most_33 : decode cX3_most 33 = .ok (.ireturn, 1) := dk_172 (dk_at dksX3_most_1 10 rfl rfl)
theorem dX3_most_34 : decode cX3_most 34 = .ok (.iconst 0, 1) := dk_3 (dk_at dksX3_most_1 11 rfl rfl)
theorem dX3_most_35 : decode cX3_most 35 = .ok (.istore_n 2, 1) := dk_61 (dk_at dksX3_most_1 12 rfl rfl)
theorem dX3_most_36 : decode cX3_most 36 = .ok (.iconst 1, 1) := dk_4 (dk_at dksX3_most_1 13 rfl rfl)
theorem dX3_most_37 : decode cX3_most 37 = .ok (.istore_n 3, 1) := dk_62 (dk_at dksX3_most_1 14 rfl rfl)
theorem dX3_most_38 : decode cX3_most 38 = .ok (.iload_n 3, 1) := dk_29 (dk_at dksX3_most_1 15 rfl rfl)
theorem dX3_most_39 : decode cX3_most 39 = .ok (.aload_n 0, 1) := dk_42 (dk_at dksX3_most_1 16 rfl rfl)
theorem dX3_most_40 : decode cX3_most 40 = .ok (.getfield 58, 3) := dk_180 0 58 (dk_at dksX3_most_1 17 rfl rfl)
theorem dX3_most_43 : decode cX3_most 43 = .ok (.bipush 40, 2) := dk_16 40 (dk_at dksX3_most_1 20 rfl rfl)
theorem dX3_most_45 : decode cX3_most 45 = .ok (.iaload, 1) := dk_46 (dk_at dksX3_most_1 22 rfl rfl)
theorem dX3_most_46 : decode cX3_most 46 = .ok (.if_icmp .ge 79, 3) := dk_162 0 79 (dk_at dksX3_most_2 0 rfl rfl)
theorem dX3_most_49 : decode cX3_most 49 = .ok (.iload_n 1, 1) := dk_27 (dk_at dksX3_most_2 3 rfl rfl)
theorem dX3_most_50 : decode cX3_most 50 = .ok (.ifCond .ne 34, 3) := dk_154 0 34 (dk_at dksX3_most_2 4 rfl rfl)
theorem dX3_most_53 : decode cX3_most 53 = .ok (.aload_n 0, 1) := dk_42 (dk_at dksX3_most_2 7 rfl rfl)
theorem dX3_most_54 : decode cX3_most 54 = .ok (.getfield 58, 3) := dk_180 0 58 (dk_at dksX3_most_2 8 rfl rfl)
theorem dX3_most_57 : decode cX3_most 57 = .ok (.iconst 5, 1) := dk_8 (dk_at dksX3_most_2 11 rfl rfl)
theorem dX3_most_58 : decode cX3_most 58 = .ok (.iload_n 3, 1) := dk_29 (dk_at dksX3_most_2 12 rfl rfl)
theorem dX3_most_59 : decode cX3_most 59 = .ok (.imul, 1) := dk_104 (dk_at dksX3_most_2 13 rfl rfl)
theorem dX3_most_60 : decode cX3_most 60 = .ok (.iconst 2, 1) := dk_5 (dk_at dksX3_most_2 14 rfl rfl)
theorem dX3_most_61 : decode cX3_most 61 = .ok (.iadd, 1) := dk_96 (dk_at dksX3_most_2 15 rfl rfl)
theorem dX3_most_62 : decode cX3_most 62 = .ok (.iaload, 1) := dk_46 (dk_at dksX3_most_2 16 rfl rfl)
theorem dX3_most_63 : decode cX3_most 63 = .ok (.aload_n 0, 1) := dk_42 (dk_at dksX3_most_2 17 rfl rfl)
theorem dX3_most_64 : decode cX3_most 64 = .ok (.getfield 58, 3) := dk_180 0 58 (dk_at dksX3_most_2 18 rfl rfl)
theorem dX3_most_67 : decode cX3_most 67 = .ok (.iconst 5, 1) := dk_8 (dk_at dksX3_most_2 21 rfl rfl)
theorem dX3_most_68 : decode cX3_most 68 = .ok (.iload_n 2, 1) := dk_28 (dk_at dksX3_most_2 22 rfl rfl)
theorem dX3_most_69 : decode cX3_most 69 = .ok (.imul, 1) := dk_104 (dk_at dksX3_most_2 23 rfl rfl)
theorem dX3_most_70 : decode cX3_most 70 = .ok (.iconst 2, 1) := dk_5 (dk_at dksX3_most_3 0 rfl rfl)
theorem dX3_most_71 : decode cX3_most 71 = .ok (.iadd, 1) := dk_96 (dk_at dksX3_most_3 1 rfl rfl)
theorem dX3_most_72 : decode cX3_most 72 = .ok (.iaload, 1) := dk_46 (dk_at dksX3_most_3 2 rfl rfl)
theorem dX3_most_73 : decode cX3_most 73 = .ok (.if_icmp .le 7, 3) := dk_164 0 7 (dk_at dksX3_most_3 3 rfl rfl)
theorem dX3_most_76 : decode cX3_most 76 = .ok (.iconst 1, 1) := dk_4 (dk_at dksX3_most_3 6 rfl rfl)
theorem dX3_most_77 : decode cX3_most 77 = .ok (.goto 33, 3) := dk_167 0 33 (dk_at dksX3_most_3 7 rfl rfl)
theorem dX3_most_80 : decode cX3_most 80 = .ok (.iconst 0, 1) := dk_3 (dk_at dksX3_most_3 10 rfl rfl)
theorem dX3_most_81 : decode cX3_most 81 = .ok (.goto 29, 3) := dk_167 0 29 (dk_at dksX3_most_3 11 rfl rfl)
theorem dX3_most_84 : decode cX3_most 84 = .ok (.aload_n 0, 1) := dk_42 (dk_at dksX3_most_3 14 rfl rfl)
theorem dX3_most_85 : decode cX3_most 85 = .ok (.aload_n 0, 1) := dk_42 (dk_at dksX3_most_3 15 rfl rfl)
theorem dX3_most_86 : decode cX3_most 86 = .ok (.getfield 58, 3) := dk_180 0 58 (dk_at dksX3_most_3 16 rfl rfl)
theorem dX3_most_89 : decode cX3_most 89 = .ok (.iload_n 3, 1) := dk_29 (dk_at dksX3_most_3 19 rfl rfl)
theorem dX3_most_90 : decode cX3_most 90 = .ok (.invokevirtual 350, 3) := dk_182 1 94 (dk_at dksX3_most_3 20 rfl rfl)
theorem dX3_most_93 : decode cX3_most 93 = .ok (.aload_n 0, 1) := dk_42 (dk_at dksX3_most_3 23 rfl rfl)
theorem dX3_most_94 : decode cX3_most 94 = .ok (.aload_n 0, 1) := dk_42 (dk_at dksX3_most_4 0 rfl rfl)
theorem dX3_most_95 : decode cX3_most 95 = .ok (.getfield 58, 3) := dk_180 0 58 (dk_at dksX3_most_4 1 rfl rfl)
theorem dX3_most_98 : decode cX3_most 98 = .ok (.iload_n 2, 1) := dk_28 (dk_at dksX3_most_4 4 rfl rfl)
theorem dX3_most_99 : decode cX3_most 99 = .ok (.invokevirtual 350, 3) := dk_182 1 94 (dk_at dksX3_most_4 5 rfl rfl)
theorem dX3_most_102 : decode cX3_most 102 = .ok (.if_icmp .le 7, 3) := dk_164 0 7 (dk_at dksX3_most_4 8 rfl rfl)
theorem dX3_most_105 : decode cX3_most 105 = .ok (.iconst 1, 1) := dk_4 (dk_at dksX3_most_4 11 rfl rfl)
theorem dX3_most_106 : decode cX3_most 106 = .ok (.goto 4, 3) := dk_167 0 4 (dk_at dksX3_most_4 12 rfl rfl)
theorem dX3_most_109 : decode cX3_most 109 = .ok (.iconst 0, 1) := dk_3 (dk_at dksX3_most_4 15 rfl rfl)
theorem dX3_most_110 : decode cX3_most 110 = .ok (.istore 4, 2) := dk_54 4 (dk_at dksX3_most_4 16 rfl rfl)
theorem dX3_most_112 : decode cX3_most 112 = .ok (.iload 4, 2) := dk_21 4 (dk_at dksX3_most_4 18 rfl rfl)
theorem dX3_most_114 : decode cX3_most 114 = .ok (.ifCond .eq 5, 3) := dk_153 0 5 (dk_at dksX3_most_4 20 rfl rfl)
theorem dX3_most_117 : decode cX3_most 117 = .ok (.iload_n 3, 1) := dk_29 (dk_at dksX3_most_4 23 rfl rfl)
theorem dX3_most_118 : decode cX3_most 118 = .ok (.istore_n 2, 1) := dk_61 (dk_at dksX3_most_5 0 rfl rfl)
theorem dX3_most_119 : decode cX3_most 119 = .ok (.iinc 3 1, 3) := dk_132 3 1 (dk_at dksX3_most_5 1 rfl rfl)
theorem dX3_most_122 : decode cX3_most 122 = .ok (.goto (-84), 3) := dk_167 255 172 (dk_at dksX3_most_5 4 rfl rfl)
theorem dX3_most_125 : decode cX3_most 125 = .ok (.iload_n 2, 1) := dk_28 (dk_at dksX3_most_5 7 rfl rfl)
theorem dX3_most_126 : decode cX3_most 126 = .ok (.ireturn, 1) := dk_172 (dk_at dksX3_most_5 8 rfl rfl)
abbrev cX3_spoilt : ByteArray := prog_14_method_116_code
def yX3_spoilt : MethodName := ⟨RX3, "spoilt", "()I"⟩
def dkwX3_spoilt_2 : List UInt8 := [167, 0, 4, 3, 128, 60, 132, 2, 1, 167, 255, 220, 27, 172]
abbrev dktX3_spoilt_2 : List UInt8 := dkwX3_spoilt_2 ++ []
def dkwX3_spoilt_1 : List UInt8 := [16, 40, 46, 162, 0, 31, 27, 42, 42, 180, 0, 58, 28, 182, 1, 94, 154, 0, 9, 4, 28, 120]
abbrev dktX3_spoilt_1 : List UInt8 := dkwX3_spoilt_1 ++ dktX3_spoilt_2
def dkwX3_spoilt_0 : List UInt8 := [42, 3, 181, 0, 109, 42, 180, 1, 51, 154, 0, 5, 2, 172, 3, 60, 3, 61, 28, 42, 180, 0, 58]
abbrev dktX3_spoilt_0 : List UInt8 := dkwX3_spoilt_0 ++ dktX3_spoilt_1
theorem dksX3_spoilt_0 : cX3_spoilt.data.toList.drop 0 = dktX3_spoilt_0 := by decide +kernel
theorem dksX3_spoilt_1 : cX3_spoilt.data.toList.drop 23 = dktX3_spoilt_1 := dk_seg dksX3_spoilt_0 23 rfl rfl
theorem dksX3_spoilt_2 : cX3_spoilt.data.toList.drop 45 = dktX3_spoilt_2 := dk_seg dksX3_spoilt_1 22 rfl rfl
theorem dX3_spoilt_0 : decode cX3_spoilt 0 = .ok (.aload_n 0, 1) := dk_42 (dk_at dksX3_spoilt_0 0 rfl rfl)
theorem dX3_spoilt_1 : decode cX3_spoilt 1 = .ok (.iconst 0, 1) := dk_3 (dk_at dksX3_spoilt_0 1 rfl rfl)
theorem dX3_spoilt_2 : decode cX3_spoilt 2 = .ok (.putfield 109, 3) := dk_181 0 109 (dk_at dksX3_spoilt_0 2 rfl rfl)
theorem dX3_spoilt_5 : decode cX3_spoilt 5 = .ok (.aload_n 0, 1) := dk_42 (dk_at dksX3_spoilt_0 5 rfl rfl)
theorem dX3_spoilt_6 : decode cX3_spoilt 6 = .ok (.getfield 307, 3) := dk_180 1 51 (dk_at dksX3_spoilt_0 6 rfl rfl)
theorem dX3_spoilt_9 : decode cX3_spoilt 9 = .ok (.ifCond .ne 5, 3) := dk_154 0 5 (dk_at dksX3_spoilt_0 9 rfl rfl)
theorem dX3_spoilt_12 : decode cX3_spoilt 12 = .ok (.iconst (-1), 1) := dk_2 (dk_at dksX3_spoilt_0 12 rfl rfl)
theorem dX3_spoilt_13 : decode cX3_spoilt 13 = .ok (.ireturn, 1) := dk_172 (dk_at dksX3_spoilt_0 13 rfl rfl)
theorem dX3_spoilt_14 : decode cX3_spoilt 14 = .ok (.iconst 0, 1) := dk_3 (dk_at dksX3_spoilt_0 14 rfl rfl)
theorem dX3_spoilt_15 : decode cX3_spoilt 15 = .ok (.istore_n 1, 1) := dk_60 (dk_at dksX3_spoilt_0 15 rfl rfl)
theorem dX3_spoilt_16 : decode cX3_spoilt 16 = .ok (.iconst 0, 1) := dk_3 (dk_at dksX3_spoilt_0 16 rfl rfl)
theorem dX3_spoilt_17 : decode cX3_spoilt 17 = .ok (.istore_n 2, 1) := dk_61 (dk_at dksX3_spoilt_0 17 rfl rfl)
theorem dX3_spoilt_18 : decode cX3_spoilt 18 = .ok (.iload_n 2, 1) := dk_28 (dk_at dksX3_spoilt_0 18 rfl rfl)
theorem dX3_spoilt_19 : decode cX3_spoilt 19 = .ok (.aload_n 0, 1) := dk_42 (dk_at dksX3_spoilt_0 19 rfl rfl)
theorem dX3_spoilt_20 : decode cX3_spoilt 20 = .ok (.getfield 58, 3) := dk_180 0 58 (dk_at dksX3_spoilt_0 20 rfl rfl)
theorem dX3_spoilt_23 : decode cX3_spoilt 23 = .ok (.bipush 40, 2) := dk_16 40 (dk_at dksX3_spoilt_1 0 rfl rfl)
theorem dX3_spoilt_25 : decode cX3_spoilt 25 = .ok (.iaload, 1) := dk_46 (dk_at dksX3_spoilt_1 2 rfl rfl)
theorem dX3_spoilt_26 : decode cX3_spoilt 26 = .ok (.if_icmp .ge 31, 3) := dk_162 0 31 (dk_at dksX3_spoilt_1 3 rfl rfl)
theorem dX3_spoilt_29 : decode cX3_spoilt 29 = .ok (.iload_n 1, 1) := dk_27 (dk_at dksX3_spoilt_1 6 rfl rfl)
theorem dX3_spoilt_30 : decode cX3_spoilt 30 = .ok (.aload_n 0, 1) := dk_42 (dk_at dksX3_spoilt_1 7 rfl rfl)
theorem dX3_spoilt_31 : decode cX3_spoilt 31 = .ok (.aload_n 0, 1) := dk_42 (dk_at dksX3_spoilt_1 8 rfl rfl)
theorem dX3_spoilt_32 : decode cX3_spoilt 32 = .ok (.getfield 58, 3) := dk_180 0 58 (dk_at dksX3_spoilt_1 9 rfl rfl)
theorem dX3_spoilt_35 : decode cX3_spoilt 35 = .ok (.iload_n 2, 1) := dk_28 (dk_at dksX3_spoilt_1 12 rfl rfl)
theorem dX3_spoilt_36 : decode cX3_spoilt 36 = .ok (.invokevirtual 350, 3) := dk_182 1 94 (dk_at dksX3_spoilt_1 13 rfl rfl)
theorem dX3_spoilt_39 : decode cX3_spoilt 39 = .ok (.ifCond .ne 9, 3) := dk_154 0 9 (dk_at dksX3_spoilt_1 16 rfl rfl)
theorem dX3_spoilt_42 : decode cX3_spoilt 42 = .ok (.iconst 1, 1) := dk_4 (dk_at dksX3_spoilt_1 19 rfl rfl)
theorem dX3_spoilt_43 : decode cX3_spoilt 43 = .ok (.iload_n 2, 1) := dk_28 (dk_at dksX3_spoilt_1 20 rfl rfl)
theorem dX3_spoilt_44 : decode cX3_spoilt 44 = .ok (.ishl, 1) := dk_120 (dk_at dksX3_spoilt_1 21 rfl rfl)
theorem dX3_spoilt_45 : decode cX3_spoilt 45 = .ok (.goto 4, 3) := dk_167 0 4 (dk_at dksX3_spoilt_2 0 rfl rfl)
theorem dX3_spoilt_48 : decode cX3_spoilt 48 = .ok (.iconst 0, 1) := dk_3 (dk_at dksX3_spoilt_2 3 rfl rfl)
theorem dX3_spoilt_49 : decode cX3_spoilt 49 = .ok (.ior, 1) := dk_128 (dk_at dksX3_spoilt_2 4 rfl rfl)
theorem dX3_spoilt_50 : decode cX3_spoilt 50 = .ok (.istore_n 1, 1) := dk_60 (dk_at dksX3_spoilt_2 5 rfl rfl)
theorem dX3_spoilt_51 : decode cX3_spoilt 51 = .ok (.iinc 2 1, 3) := dk_132 2 1 (dk_at dksX3_spoilt_2 6 rfl rfl)
theorem dX3_spoilt_54 : decode cX3_spoilt 54 = .ok (.goto (-36), 3) := dk_167 255 220 (dk_at dksX3_spoilt_2 9 rfl rfl)
theorem dX3_spoilt_57 : decode cX3_spoilt 57 = .ok (.iload_n 1, 1) := dk_27 (dk_at dksX3_spoilt_2 12 rfl rfl)
theorem dX3_spoilt_58 : decode cX3_spoilt 58 = .ok (.ireturn, 1) := dk_172 (dk_at dksX3_spoilt_2 13 rfl rfl)
abbrev cX3_buried : ByteArray := prog_14_method_117_code
def yX3_buried : MethodName := ⟨RX3, "buried", "(I)I"⟩
def dkwX3_buried_2 : List UInt8 := [172]
abbrev dktX3_buried_2 : List UInt8 := dkwX3_buried_2 ++ []
def dkwX3_buried_1 : List UInt8 := [27, 162, 0, 22, 28, 42, 180, 0, 58, 8, 29, 104, 4, 96, 46, 96, 61, 132, 3, 1, 167, 255, 235, 28]
abbrev dktX3_buried_1 : List UInt8 := dkwX3_buried_1 ++ dktX3_buried_2
def dkwX3_buried_0 : List UInt8 := [42, 3, 181, 0, 109, 42, 42, 180, 0, 58, 27, 182, 1, 105, 154, 0, 5, 2, 172, 3, 61, 3, 62, 29]
abbrev dktX3_buried_0 : List UInt8 := dkwX3_buried_0 ++ dktX3_buried_1
theorem dksX3_buried_0 : cX3_buried.data.toList.drop 0 = dktX3_buried_0 := by decide +kernel
theorem dksX3_buried_1 : cX3_buried.data.toList.drop 24 = dktX3_buried_1 := dk_seg dksX3_buried_0 24 rfl rfl
theorem dksX3_buried_2 : cX3_buried.data.toList.drop 48 = dktX3_buried_2 := dk_seg dksX3_buried_1 24 rfl rfl
theorem dX3_buried_0 : decode cX3_buried 0 = .ok (.aload_n 0, 1) := dk_42 (dk_at dksX3_buried_0 0 rfl rfl)
theorem dX3_buried_1 : decode cX3_buried 1 = .ok (.iconst 0, 1) := dk_3 (dk_at dksX3_buried_0 1 rfl rfl)
theorem dX3_buried_2 : decode cX3_buried 2 = .ok (.putfield 109, 3) := dk_181 0 109 (dk_at dksX3_buried_0 2 rfl rfl)
theorem dX3_buried_5 : decode cX3_buried 5 = .ok (.aload_n 0, 1) := dk_42 (dk_at dksX3_buried_0 5 rfl rfl)
theorem dX3_buried_6 : decode cX3_buried 6 = .ok (.aload_n 0, 1) := dk_42 (dk_at dksX3_buried_0 6 rfl rfl)
theorem dX3_buried_7 : decode cX3_buried 7 = .ok (.getfield 58, 3) := dk_180 0 58 (dk_at dksX3_buried_0 7 rfl rfl)
theorem dX3_buried_10 : decode cX3_buried 10 = .ok (.iload_n 1, 1) := dk_27 (dk_at dksX3_buried_0 10 rfl rfl)
theorem dX3_buried_11 : decode cX3_buried 11 = .ok (.invokevirtual 361, 3) := dk_182 1 105 (dk_at dksX3_buried_0 11 rfl rfl)
theorem dX3_buried_14 : decode cX3_buried 14 = .ok (.ifCond .ne 5, 3) := dk_154 0 5 (dk_at dksX3_buried_0 14 rfl rfl)
theorem dX3_buried_17 : decode cX3_buried 17 = .ok (.iconst (-1), 1) := dk_2 (dk_at dksX3_buried_0 17 rfl rfl)
theorem dX3_buried_18 : decode cX3_buried 18 = .ok (.ireturn, 1) := dk_172 (dk_at dksX3_buried_0 18 rfl rfl)
theorem dX3_buried_19 : decode cX3_buried 19 = .ok (.iconst 0, 1) := dk_3 (dk_at dksX3_buried_0 19 rfl rfl)
theorem dX3_buried_20 : decode cX3_buried 20 = .ok (.istore_n 2, 1) := dk_61 (dk_at dksX3_buried_0 20 rfl rfl)
theorem dX3_buried_21 : decode cX3_buried 21 = .ok (.iconst 0, 1) := dk_3 (dk_at dksX3_buried_0 21 rfl rfl)
theorem dX3_buried_22 : decode cX3_buried 22 = .ok (.istore_n 3, 1) := dk_62 (dk_at dksX3_buried_0 22 rfl rfl)
theorem dX3_buried_23 : decode cX3_buried 23 = .ok (.iload_n 3, 1) := dk_29 (dk_at dksX3_buried_0 23 rfl rfl)
theorem dX3_buried_24 : decode cX3_buried 24 = .ok (.iload_n 1, 1) := dk_27 (dk_at dksX3_buried_1 0 rfl rfl)
theorem dX3_buried_25 : decode cX3_buried 25 = .ok (.if_icmp .ge 22, 3) := dk_162 0 22 (dk_at dksX3_buried_1 1 rfl rfl)
theorem dX3_buried_28 : decode cX3_buried 28 = .ok (.iload_n 2, 1) := dk_28 (dk_at dksX3_buried_1 4 rfl rfl)
theorem dX3_buried_29 : decode cX3_buried 29 = .ok (.aload_n 0, 1) := dk_42 (dk_at dksX3_buried_1 5 rfl rfl)
theorem dX3_buried_30 : decode cX3_buried 30 = .ok (.getfield 58, 3) := dk_180 0 58 (dk_at dksX3_buried_1 6 rfl rfl)
theorem dX3_buried_33 : decode cX3_buried 33 = .ok (.iconst 5, 1) := dk_8 (dk_at dksX3_buried_1 9 rfl rfl)
theorem dX3_buried_34 : decode cX3_buried 34 = .ok (.iload_n 3, 1) := dk_29 (dk_at dksX3_buried_1 10 rfl rfl)
theorem dX3_buried_35 : decode cX3_buried 35 = .ok (.imul, 1) := dk_104 (dk_at dksX3_buried_1 11 rfl rfl)
theorem dX3_buried_36 : decode cX3_buried 36 = .ok (.iconst 1, 1) := dk_4 (dk_at dksX3_buried_1 12 rfl rfl)
theorem dX3_buried_37 : decode cX3_buried 37 = .ok (.iadd, 1) := dk_96 (dk_at dksX3_buried_1 13 rfl rfl)
theorem dX3_buried_38 : decode cX3_buried 38 = .ok (.iaload, 1) := dk_46 (dk_at dksX3_buried_1 14 rfl rfl)
theorem dX3_buried_39 : decode cX3_buried 39 = .ok (.iadd, 1) := dk_96 (dk_at dksX3_buried_1 15 rfl rfl)
theorem dX3_buried_40 : decode cX3_buried 40 = .ok (.istore_n 2, 1) := dk_61 (dk_at dksX3_buried_1 16 rfl rfl)
theorem dX3_buried_41 : decode cX3_buried 41 = .ok (.iinc 3 1, 3) := dk_132 3 1 (dk_at dksX3_buried_1 17 rfl rfl)
theorem dX3_buried_44 : decode cX3_buried 44 = .ok (.goto (-21), 3) := dk_167 255 235 (dk_at dksX3_buried_1 20 rfl rfl)
theorem dX3_buried_47 : decode cX3_buried 47 = .ok (.iload_n 2, 1) := dk_28 (dk_at dksX3_buried_1 23 rfl rfl)
theorem dX3_buried_48 : decode cX3_buried 48 = .ok (.ireturn, 1) := dk_172 (dk_at dksX3_buried_2 0 rfl rfl)
abbrev cX3_goes : ByteArray := prog_14_method_118_code
def yX3_goes : MethodName := ⟨RX3, "goes", "(I)I"⟩
def dkwX3_goes_2 : List UInt8 := [132, 3, 1, 167, 255, 226, 28, 172]
abbrev dktX3_goes_2 : List UInt8 := dkwX3_goes_2 ++ []
def dkwX3_goes_1 : List UInt8 := [162, 0, 28, 28, 42, 29, 27, 182, 1, 193, 153, 0, 9, 4, 29, 120, 167, 0, 4, 3, 128, 61]
abbrev dktX3_goes_1 : List UInt8 := dkwX3_goes_1 ++ dktX3_goes_2
def dkwX3_goes_0 : List UInt8 := [42, 3, 181, 0, 109, 42, 27, 182, 1, 100, 154, 0, 5, 2, 172, 3, 61, 3, 62, 29, 42, 180, 1, 51]
abbrev dktX3_goes_0 : List UInt8 := dkwX3_goes_0 ++ dktX3_goes_1
theorem dksX3_goes_0 : cX3_goes.data.toList.drop 0 = dktX3_goes_0 := by decide +kernel
theorem dksX3_goes_1 : cX3_goes.data.toList.drop 24 = dktX3_goes_1 := dk_seg dksX3_goes_0 24 rfl rfl
theorem dksX3_goes_2 : cX3_goes.data.toList.drop 46 = dktX3_goes_2 := dk_seg dksX3_goes_1 22 rfl rfl
theorem dX3_goes_0 : decode cX3_goes 0 = .ok (.aload_n 0, 1) := dk_42 (dk_at dksX3_goes_0 0 rfl rfl)
theorem dX3_goes_1 : decode cX3_goes 1 = .ok (.iconst 0, 1) := dk_3 (dk_at dksX3_goes_0 1 rfl rfl)
theorem dX3_goes_2 : decode cX3_goes 2 = .ok (.putfield 109, 3) := dk_181 0 109 (dk_at dksX3_goes_0 2 rfl rfl)
theorem dX3_goes_5 : decode cX3_goes 5 = .ok (.aload_n 0, 1) := dk_42 (dk_at dksX3_goes_0 5 rfl rfl)
theorem dX3_goes_6 : decode cX3_goes 6 = .ok (.iload_n 1, 1) := dk_27 (dk_at dksX3_goes_0 6 rfl rfl)
theorem dX3_goes_7 : decode cX3_goes 7 = .ok (.invokevirtual 356, 3) := dk_182 1 100 (dk_at dksX3_goes_0 7 rfl rfl)
theorem dX3_goes_10 : decode cX3_goes 10 = .ok (.ifCond .ne 5, 3) := dk_154 0 5 (dk_at dksX3_goes_0 10 rfl rfl)
theorem dX3_goes_13 : decode cX3_goes 13 = .ok (.iconst (-1), 1) := dk_2 (dk_at dksX3_goes_0 13 rfl rfl)
theorem dX3_goes_14 : decode cX3_goes 14 = .ok (.ireturn, 1) := dk_172 (dk_at dksX3_goes_0 14 rfl rfl)
theorem dX3_goes_15 : decode cX3_goes 15 = .ok (.iconst 0, 1) := dk_3 (dk_at dksX3_goes_0 15 rfl rfl)
theorem dX3_goes_16 : decode cX3_goes 16 = .ok (.istore_n 2, 1) := dk_61 (dk_at dksX3_goes_0 16 rfl rfl)
theorem dX3_goes_17 : decode cX3_goes 17 = .ok (.iconst 0, 1) := dk_3 (dk_at dksX3_goes_0 17 rfl rfl)
theorem dX3_goes_18 : decode cX3_goes 18 = .ok (.istore_n 3, 1) := dk_62 (dk_at dksX3_goes_0 18 rfl rfl)
theorem dX3_goes_19 : decode cX3_goes 19 = .ok (.iload_n 3, 1) := dk_29 (dk_at dksX3_goes_0 19 rfl rfl)
theorem dX3_goes_20 : decode cX3_goes 20 = .ok (.aload_n 0, 1) := dk_42 (dk_at dksX3_goes_0 20 rfl rfl)
theorem dX3_goes_21 : decode cX3_goes 21 = .ok (.getfield 307, 3) := dk_180 1 51 (dk_at dksX3_goes_0 21 rfl rfl)
theorem dX3_goes_24 : decode cX3_goes 24 = .ok (.if_icmp .ge 28, 3) := dk_162 0 28 (dk_at dksX3_goes_1 0 rfl rfl)
theorem dX3_goes_27 : decode cX3_goes 27 = .ok (.iload_n 2, 1) := dk_28 (dk_at dksX3_goes_1 3 rfl rfl)
theorem dX3_goes_28 : decode cX3_goes 28 = .ok (.aload_n 0, 1) := dk_42 (dk_at dksX3_goes_1 4 rfl rfl)
theorem dX3_goes_29 : decode cX3_goes 29 = .ok (.iload_n 3, 1) := dk_29 (dk_at dksX3_goes_1 5 rfl rfl)
theorem dX3_goes_30 : decode cX3_goes 30 = .ok (.iload_n 1, 1) := dk_27 (dk_at dksX3_goes_1 6 rfl rfl)
theorem dX3_goes_31 : decode cX3_goes 31 = .ok (.invokevirtual 449, 3) := dk_182 1 193 (dk_at dksX3_goes_1 7 rfl rfl)
theorem dX3_goes_34 : decode cX3_goes 34 = .ok (.ifCond .eq 9, 3) := dk_153 0 9 (dk_at dksX3_goes_1 10 rfl rfl)
theorem dX3_goes_37 : decode cX3_goes 37 = .ok (.iconst 1, 1) := dk_4 (dk_at dksX3_goes_1 13 rfl rfl)
theorem dX3_goes_38 : decode cX3_goes 38 = .ok (.iload_n 3, 1) := dk_29 (dk_at dksX3_goes_1 14 rfl rfl)
theorem dX3_goes_39 : decode cX3_goes 39 = .ok (.ishl, 1) := dk_120 (dk_at dksX3_goes_1 15 rfl rfl)
theorem dX3_goes_40 : decode cX3_goes 40 = .ok (.goto 4, 3) := dk_167 0 4 (dk_at dksX3_goes_1 16 rfl rfl)
theorem dX3_goes_43 : decode cX3_goes 43 = .ok (.iconst 0, 1) := dk_3 (dk_at dksX3_goes_1 19 rfl rfl)
theorem dX3_goes_44 : decode cX3_goes 44 = .ok (.ior, 1) := dk_128 (dk_at dksX3_goes_1 20 rfl rfl)
theorem dX3_goes_45 : decode cX3_goes 45 = .ok (.istore_n 2, 1) := dk_61 (dk_at dksX3_goes_1 21 rfl rfl)
theorem dX3_goes_46 : decode cX3_goes 46 = .ok (.iinc 3 1, 3) := dk_132 3 1 (dk_at dksX3_goes_2 0 rfl rfl)
theorem dX3_goes_49 : decode cX3_goes 49 = .ok (.goto (-30), 3) := dk_167 255 226 (dk_at dksX3_goes_2 3 rfl rfl)
theorem dX3_goes_52 : decode cX3_goes 52 = .ok (.iload_n 2, 1) := dk_28 (dk_at dksX3_goes_2 6 rfl rfl)
theorem dX3_goes_53 : decode cX3_goes 53 = .ok (.ireturn, 1) := dk_172 (dk_at dksX3_goes_2 7 rfl rfl)
abbrev cX3_soonest : ByteArray := prog_14_method_119_code
def yX3_soonest : MethodName := ⟨RX3, "soonest", "(I)I"⟩
def dkwX3_soonest_2 : List UInt8 := [154, 0, 5, 28, 172, 132, 2, 1, 167, 255, 221, 2, 172]
abbrev dktX3_soonest_2 : List UInt8 := dkwX3_soonest_2 ++ []
def dkwX3_soonest_1 : List UInt8 := [163, 0, 35, 42, 42, 180, 0, 58, 27, 42, 180, 0, 58, 16, 40, 46, 4, 100, 27, 100, 28, 182, 1, 90]
abbrev dktX3_soonest_1 : List UInt8 := dkwX3_soonest_1 ++ dktX3_soonest_2
def dkwX3_soonest_0 : List UInt8 := [42, 3, 181, 0, 109, 42, 42, 180, 0, 58, 27, 182, 1, 105, 154, 0, 5, 2, 172, 3, 61, 28, 16, 99]
abbrev dktX3_soonest_0 : List UInt8 := dkwX3_soonest_0 ++ dktX3_soonest_1
theorem dksX3_soonest_0 : cX3_soonest.data.toList.drop 0 = dktX3_soonest_0 := by decide +kernel
theorem dksX3_soonest_1 : cX3_soonest.data.toList.drop 24 = dktX3_soonest_1 := dk_seg dksX3_soonest_0 24 rfl rfl
theorem dksX3_soonest_2 : cX3_soonest.data.toList.drop 48 = dktX3_soonest_2 := dk_seg dksX3_soonest_1 24 rfl rfl
theorem dX3_soonest_0 : decode cX3_soonest 0 = .ok (.aload_n 0, 1) := dk_42 (dk_at dksX3_soonest_0 0 rfl rfl)
theorem dX3_soonest_1 : decode cX3_soonest 1 = .ok (.iconst 0, 1) := dk_3 (dk_at dksX3_soonest_0 1 rfl rfl)
theorem dX3_soonest_2 : decode cX3_soonest 2 = .ok (.putfield 109, 3) := dk_181 0 109 (dk_at dksX3_soonest_0 2 rfl rfl)
theorem dX3_soonest_5 : decode cX3_soonest 5 = .ok (.aload_n 0, 1) := dk_42 (dk_at dksX3_soonest_0 5 rfl rfl)
theorem dX3_soonest_6 : decode cX3_soonest 6 = .ok (.aload_n 0, 1) := dk_42 (dk_at dksX3_soonest_0 6 rfl rfl)
theorem dX3_soonest_7 : decode cX3_soonest 7 = .ok (.getfield 58, 3) := dk_180 0 58 (dk_at dksX3_soonest_0 7 rfl rfl)
theorem dX3_soonest_10 : decode cX3_soonest 10 = .ok (.iload_n 1, 1) := dk_27 (dk_at dksX3_soonest_0 10 rfl rfl)
theorem dX3_soonest_11 : decode cX3_soonest 11 = .ok (.invokevirtual 361, 3) := dk_182 1 105 (dk_at dksX3_soonest_0 11 rfl rfl)
theorem dX3_soonest_14 : decode cX3_soonest 14 = .ok (.ifCond .ne 5, 3) := dk_154 0 5 (dk_at dksX3_soonest_0 14 rfl rfl)
theorem dX3_soonest_17 : decode cX3_soonest 17 = .ok (.iconst (-1), 1) := dk_2 (dk_at dksX3_soonest_0 17 rfl rfl)
theorem dX3_soonest_18 : decode cX3_soonest 18 = .ok (.ireturn, 1) := dk_172 (dk_at dksX3_soonest_0 18 rfl rfl)
theorem dX3_soonest_19 : decode cX3_soonest 19 = .ok (.iconst 0, 1) := dk_3 (dk_at dksX3_soonest_0 19 rfl rfl)
theorem dX3_soonest_20 : decode cX3_soonest 20 = .ok (.istore_n 2, 1) := dk_61 (dk_at dksX3_soonest_0 20 rfl rfl)
theorem dX3_soonest_21 : decode cX3_soonest 21 = .ok (.iload_n 2, 1) := dk_28 (dk_at dksX3_soonest_0 21 rfl rfl)
theorem dX3_soonest_22 : decode cX3_soonest 22 = .ok (.bipush 99, 2) := dk_16 99 (dk_at dksX3_soonest_0 22 rfl rfl)
theorem dX3_soonest_24 : decode cX3_soonest 24 = .ok (.if_icmp .gt 35, 3) := dk_163 0 35 (dk_at dksX3_soonest_1 0 rfl rfl)
theorem dX3_soonest_27 : decode cX3_soonest 27 = .ok (.aload_n 0, 1) := dk_42 (dk_at dksX3_soonest_1 3 rfl rfl)
theorem dX3_soonest_28 : decode cX3_soonest 28 = .ok (.aload_n 0, 1) := dk_42 (dk_at dksX3_soonest_1 4 rfl rfl)
theorem dX3_soonest_29 : decode cX3_soonest 29 = .ok (.getfield 58, 3) := dk_180 0 58 (dk_at dksX3_soonest_1 5 rfl rfl)
theorem dX3_soonest_32 : decode cX3_soonest 32 = .ok (.iload_n 1, 1) := dk_27 (dk_at dksX3_soonest_1 8 rfl rfl)
theorem dX3_soonest_33 : decode cX3_soonest 33 = .ok (.aload_n 0, 1) := dk_42 (dk_at dksX3_soonest_1 9 rfl rfl)
theorem dX3_soonest_34 : decode cX3_soonest 34 = .ok (.getfield 58, 3) := dk_180 0 58 (dk_at dksX3_soonest_1 10 rfl rfl)
theorem dX3_soonest_37 : decode cX3_soonest 37 = .ok (.bipush 40, 2) := dk_16 40 (dk_at dksX3_soonest_1 13 rfl rfl)
theorem dX3_soonest_39 : decode cX3_soonest 39 = .ok (.iaload, 1) := dk_46 (dk_at dksX3_soonest_1 15 rfl rfl)
theorem dX3_soonest_40 : decode cX3_soonest 40 = .ok (.iconst 1, 1) := dk_4 (dk_at dksX3_soonest_1 16 rfl rfl)
theorem dX3_soonest_41 : decode cX3_soonest 41 = .ok (.isub, 1) := dk_100 (dk_at dksX3_soonest_1 17 rfl rfl)
theorem dX3_soonest_42 : decode cX3_soonest 42 = .ok (.iload_n 1, 1) := dk_27 (dk_at dksX3_soonest_1 18 rfl rfl)
theorem dX3_soonest_43 : decode cX3_soonest 43 = .ok (.isub, 1) := dk_100 (dk_at dksX3_soonest_1 19 rfl rfl)
theorem dX3_soonest_44 : decode cX3_soonest 44 = .ok (.iload_n 2, 1) := dk_28 (dk_at dksX3_soonest_1 20 rfl rfl)
theorem dX3_soonest_45 : decode cX3_soonest 45 = .ok (.invokevirtual 346, 3) := dk_182 1 90 (dk_at dksX3_soonest_1 21 rfl rfl)
theorem dX3_soonest_48 : decode cX3_soonest 48 = .ok (.ifCond .ne 5, 3) := dk_154 0 5 (dk_at dksX3_soonest_2 0 rfl rfl)
theorem dX3_soonest_51 : decode cX3_soonest 51 = .ok (.iload_n 2, 1) := dk_28 (dk_at dksX3_soonest_2 3 rfl rfl)
theorem dX3_soonest_52 : decode cX3_soonest 52 = .ok (.ireturn, 1) := dk_172 (dk_at dksX3_soonest_2 4 rfl rfl)
theorem dX3_soonest_53 : decode cX3_soonest 53 = .ok (.iinc 2 1, 3) := dk_132 2 1 (dk_at dksX3_soonest_2 5 rfl rfl)
theorem dX3_soonest_56 : decode cX3_soonest 56 = .ok (.goto (-35), 3) := dk_167 255 221 (dk_at dksX3_soonest_2 8 rfl rfl)
theorem dX3_soonest_59 : decode cX3_soonest 59 = .ok (.iconst (-1), 1) := dk_2 (dk_at dksX3_soonest_2 11 rfl rfl)
theorem dX3_soonest_60 : decode cX3_soonest 60 = .ok (.ireturn, 1) := dk_172 (dk_at dksX3_soonest_2 12 rfl rfl)
abbrev cX3_monthly : ByteArray := prog_14_method_120_code
def yX3_monthly : MethodName := ⟨RX3, "monthly", "(I)I"⟩
def dkwX3_monthly_3 : List UInt8 := [172]
abbrev dktX3_monthly_3 : List UInt8 := dkwX3_monthly_3 ++ []
def dkwX3_monthly_2 : List UInt8 := [42, 180, 0, 58, 16, 40, 46, 4, 100, 29, 100, 27, 182, 1, 90, 96, 61, 132, 3, 1, 167, 255, 218, 28]
abbrev dktX3_monthly_2 : List UInt8 := dkwX3_monthly_2 ++ dktX3_monthly_3
def dkwX3_monthly_1 : List UInt8 := [2, 172, 3, 61, 3, 62, 29, 42, 180, 0, 58, 16, 40, 46, 162, 0, 33, 28, 42, 42, 180, 0, 58, 29]
abbrev dktX3_monthly_1 : List UInt8 := dkwX3_monthly_1 ++ dktX3_monthly_2
def dkwX3_monthly_0 : List UInt8 := [42, 3, 181, 0, 109, 42, 180, 1, 51, 153, 0, 15, 27, 133, 9, 20, 2, 8, 184, 0, 230, 154, 0, 5]
abbrev dktX3_monthly_0 : List UInt8 := dkwX3_monthly_0 ++ dktX3_monthly_1
theorem dksX3_monthly_0 : cX3_monthly.data.toList.drop 0 = dktX3_monthly_0 := by decide +kernel
theorem dksX3_monthly_1 : cX3_monthly.data.toList.drop 24 = dktX3_monthly_1 := dk_seg dksX3_monthly_0 24 rfl rfl
theorem dksX3_monthly_2 : cX3_monthly.data.toList.drop 48 = dktX3_monthly_2 := dk_seg dksX3_monthly_1 24 rfl rfl
theorem dksX3_monthly_3 : cX3_monthly.data.toList.drop 72 = dktX3_monthly_3 := dk_seg dksX3_monthly_2 24 rfl rfl
theorem dX3_monthly_0 : decode cX3_monthly 0 = .ok (.aload_n 0, 1) := dk_42 (dk_at dksX3_monthly_0 0 rfl rfl)
theorem dX3_monthly_1 : decode cX3_monthly 1 = .ok (.iconst 0, 1) := dk_3 (dk_at dksX3_monthly_0 1 rfl rfl)
theorem dX3_monthly_2 : decode cX3_monthly 2 = .ok (.putfield 109, 3) := dk_181 0 109 (dk_at dksX3_monthly_0 2 rfl rfl)
theorem dX3_monthly_5 : decode cX3_monthly 5 = .ok (.aload_n 0, 1) := dk_42 (dk_at dksX3_monthly_0 5 rfl rfl)
theorem dX3_monthly_6 : decode cX3_monthly 6 = .ok (.getfield 307, 3) := dk_180 1 51 (dk_at dksX3_monthly_0 6 rfl rfl)
theorem dX3_monthly_9 : decode cX3_monthly 9 = .ok (.ifCond .eq 15, 3) := dk_153 0 15 (dk_at dksX3_monthly_0 9 rfl rfl)
theorem dX3_monthly_12 : decode cX3_monthly 12 = .ok (.iload_n 1, 1) := dk_27 (dk_at dksX3_monthly_0 12 rfl rfl)
theorem dX3_monthly_13 : decode cX3_monthly 13 = .ok (.i2l, 1) := dk_133 (dk_at dksX3_monthly_0 13 rfl rfl)
theorem dX3_monthly_14 : decode cX3_monthly 14 = .ok (.lconst 0, 1) := dk_9 (dk_at dksX3_monthly_0 14 rfl rfl)
theorem dX3_monthly_15 : decode cX3_monthly 15 = .ok (.ldc2_w 520, 3) := dk_20 2 8 (dk_at dksX3_monthly_0 15 rfl rfl)
theorem dX3_monthly_18 : decode cX3_monthly 18 = .ok (.invokestatic 230, 3) := dk_184 0 230 (dk_at dksX3_monthly_0 18 rfl rfl)
theorem dX3_monthly_21 : decode cX3_monthly 21 = .ok (.ifCond .ne 5, 3) := dk_154 0 5 (dk_at dksX3_monthly_0 21 rfl rfl)
theorem dX3_monthly_24 : decode cX3_monthly 24 = .ok (.iconst (-1), 1) := dk_2 (dk_at dksX3_monthly_1 0 rfl rfl)
theorem dX3_monthly_25 : decode cX3_monthly 25 = .ok (.ireturn, 1) := dk_172 (dk_at dksX3_monthly_1 1 rfl rfl)
theorem dX3_monthly_26 : decode cX3_monthly 26 = .ok (.iconst 0, 1) := dk_3 (dk_at dksX3_monthly_1 2 rfl rfl)
theorem dX3_monthly_27 : decode cX3_monthly 27 = .ok (.istore_n 2, 1) := dk_61 (dk_at dksX3_monthly_1 3 rfl rfl)
theorem dX3_monthly_28 : decode cX3_monthly 28 = .ok (.iconst 0, 1) := dk_3 (dk_at dksX3_monthly_1 4 rfl rfl)
theorem dX3_monthly_29 : decode cX3_monthly 29 = .ok (.istore_n 3, 1) := dk_62 (dk_at dksX3_monthly_1 5 rfl rfl)
theorem dX3_monthly_30 : decode cX3_monthly 30 = .ok (.iload_n 3, 1) := dk_29 (dk_at dksX3_monthly_1 6 rfl rfl)
theorem dX3_monthly_31 : decode cX3_monthly 31 = .ok (.aload_n 0, 1) := dk_42 (dk_at dksX3_monthly_1 7 rfl rfl)
theorem dX3_monthly_32 : decode cX3_monthly 32 = .ok (.getfield 58, 3) := dk_180 0 58 (dk_at dksX3_monthly_1 8 rfl rfl)
theorem dX3_monthly_35 : decode cX3_monthly 35 = .ok (.bipush 40, 2) := dk_16 40 (dk_at dksX3_monthly_1 11 rfl rfl)
theorem dX3_monthly_37 : decode cX3_monthly 37 = .ok (.iaload, 1) := dk_46 (dk_at dksX3_monthly_1 13 rfl rfl)
theorem dX3_monthly_38 : decode cX3_monthly 38 = .ok (.if_icmp .ge 33, 3) := dk_162 0 33 (dk_at dksX3_monthly_1 14 rfl rfl)
theorem dX3_monthly_41 : decode cX3_monthly 41 = .ok (.iload_n 2, 1) := dk_28 (dk_at dksX3_monthly_1 17 rfl rfl)
theorem dX3_monthly_42 : decode cX3_monthly 42 = .ok (.aload_n 0, 1) := dk_42 (dk_at dksX3_monthly_1 18 rfl rfl)
theorem dX3_monthly_43 : decode cX3_monthly 43 = .ok (.aload_n 0, 1) := dk_42 (dk_at dksX3_monthly_1 19 rfl rfl)
theorem dX3_monthly_44 : decode cX3_monthly 44 = .ok (.getfield 58, 3) := dk_180 0 58 (dk_at dksX3_monthly_1 20 rfl rfl)
theorem dX3_monthly_47 : decode cX3_monthly 47 = .ok (.iload_n 3, 1) := dk_29 (dk_at dksX3_monthly_1 23 rfl rfl)
theorem dX3_monthly_48 : decode cX3_monthly 48 = .ok (.aload_n 0, 1) := dk_42 (dk_at dksX3_monthly_2 0 rfl rfl)
theorem dX3_monthly_49 : decode cX3_monthly 49 = .ok (.getfield 58, 3) := dk_180 0 58 (dk_at dksX3_monthly_2 1 rfl rfl)
theorem dX3_monthly_52 : decode cX3_monthly 52 = .ok (.bipush 40, 2) := dk_16 40 (dk_at dksX3_monthly_2 4 rfl rfl)
theorem dX3_monthly_54 : decode cX3_monthly 54 = .ok (.iaload, 1) := dk_46 (dk_at dksX3_monthly_2 6 rfl rfl)
theorem dX3_monthly_55 : decode cX3_monthly 55 = .ok (.iconst 1, 1) := dk_4 (dk_at dksX3_monthly_2 7 rfl rfl)
theorem dX3_monthly_56 : decode cX3_monthly 56 = .ok (.isub, 1) := dk_100 (dk_at dksX3_monthly_2 8 rfl rfl)
theorem dX3_monthly_57 : decode cX3_monthly 57 = .ok (.iload_n 3, 1) := dk_29 (dk_at dksX3_monthly_2 9 rfl rfl)
theorem dX3_monthly_58 : decode cX3_monthly 58 = .ok (.isub, 1) := dk_100 (dk_at dksX3_monthly_2 10 rfl rfl)
theorem dX3_monthly_59 : decode cX3_monthly 59 = .ok (.iload_n 1, 1) := dk_27 (dk_at dksX3_monthly_2 11 rfl rfl)
theorem dX3_monthly_60 : decode cX3_monthly 60 = .ok (.invokevirtual 346, 3) := dk_182 1 90 (dk_at dksX3_monthly_2 12 rfl rfl)
theorem dX3_monthly_63 : decode cX3_monthly 63 = .ok (.iadd, 1) := dk_96 (dk_at dksX3_monthly_2 15 rfl rfl)
theorem dX3_monthly_64 : decode cX3_monthly 64 = .ok (.istore_n 2, 1) := dk_61 (dk_at dksX3_monthly_2 16 rfl rfl)
theorem dX3_monthly_65 : decode cX3_monthly 65 = .ok (.iinc 3 1, 3) := dk_132 3 1 (dk_at dksX3_monthly_2 17 rfl rfl)
theorem dX3_monthly_68 : decode cX3_monthly 68 = .ok (.goto (-38), 3) := dk_167 255 218 (dk_at dksX3_monthly_2 20 rfl rfl)
theorem dX3_monthly_71 : decode cX3_monthly 71 = .ok (.iload_n 2, 1) := dk_28 (dk_at dksX3_monthly_2 23 rfl rfl)
theorem dX3_monthly_72 : decode cX3_monthly 72 = .ok (.ireturn, 1) := dk_172 (dk_at dksX3_monthly_3 0 rfl rfl)
abbrev cX3_make : ByteArray := prog_14_method_121_code
def yX3_make : MethodName := ⟨RX3, "make", "(II)I"⟩
def dkwX3_make_2 : List UInt8 := [163, 0, 9, 28, 29, 108, 167, 0, 4, 2, 172]
abbrev dktX3_make_2 : List UInt8 := dkwX3_make_2 ++ []
def dkwX3_make_1 : List UInt8 := [154, 0, 5, 2, 172, 42, 27, 4, 182, 1, 66, 62, 28, 29, 112, 154, 0, 17, 28, 29, 108, 16, 9]
abbrev dktX3_make_1 : List UInt8 := dkwX3_make_1 ++ dktX3_make_2
def dkwX3_make_0 : List UInt8 := [42, 3, 181, 0, 109, 42, 27, 182, 1, 100, 153, 0, 15, 28, 133, 10, 20, 2, 10, 184, 0, 230]
abbrev dktX3_make_0 : List UInt8 := dkwX3_make_0 ++ dktX3_make_1
theorem dksX3_make_0 : cX3_make.data.toList.drop 0 = dktX3_make_0 := by decide +kernel
theorem dksX3_make_1 : cX3_make.data.toList.drop 22 = dktX3_make_1 := dk_seg dksX3_make_0 22 rfl rfl
theorem dksX3_make_2 : cX3_make.data.toList.drop 45 = dktX3_make_2 := dk_seg dksX3_make_1 23 rfl rfl
theorem dX3_make_0 : decode cX3_make 0 = .ok (.aload_n 0, 1) := dk_42 (dk_at dksX3_make_0 0 rfl rfl)
theorem dX3_make_1 : decode cX3_make 1 = .ok (.iconst 0, 1) := dk_3 (dk_at dksX3_make_0 1 rfl rfl)
theorem dX3_make_2 : decode cX3_make 2 = .ok (.putfield 109, 3) := dk_181 0 109 (dk_at dksX3_make_0 2 rfl rfl)
theorem dX3_make_5 : decode cX3_make 5 = .ok (.aload_n 0, 1) := dk_42 (dk_at dksX3_make_0 5 rfl rfl)
theorem dX3_make_6 : decode cX3_make 6 = .ok (.iload_n 1, 1) := dk_27 (dk_at dksX3_make_0 6 rfl rfl)
theorem dX3_make_7 : decode cX3_make 7 = .ok (.invokevirtual 356, 3) := dk_182 1 100 (dk_at dksX3_make_0 7 rfl rfl)
theorem dX3_make_10 : decode cX3_make 10 = .ok (.ifCond .eq 15, 3) := dk_153 0 15 (dk_at dksX3_make_0 10 rfl rfl)
theorem dX3_make_13 : decode cX3_make 13 = .ok (.iload_n 2, 1) := dk_28 (dk_at dksX3_make_0 13 rfl rfl)
theorem dX3_make_14 : decode cX3_make 14 = .ok (.i2l, 1) := dk_133 (dk_at dksX3_make_0 14 rfl rfl)
theorem dX3_make_15 : decode cX3_make 15 = .ok (.lconst 1, 1) := dk_10 (dk_at dksX3_make_0 15 rfl rfl)
theorem dX3_make_16 : decode cX3_make 16 = .ok (.ldc2_w 522, 3) := dk_20 2 10 (dk_at dksX3_make_0 16 rfl rfl)
theorem dX3_make_19 : decode cX3_make 19 = .ok (.invokestatic 230, 3) := dk_184 0 230 (dk_at dksX3_make_0 19 rfl rfl)
theorem dX3_make_22 : decode cX3_make 22 = .ok (.ifCond .ne 5, 3) := dk_154 0 5 (dk_at dksX3_make_1 0 rfl rfl)
theorem dX3_make_25 : decode cX3_make 25 = .ok (.iconst (-1), 1) := dk_2 (dk_at dksX3_make_1 3 rfl rfl)
theorem dX3_make_26 : decode cX3_make 26 = .ok (.ireturn, 1) := dk_172 (dk_at dksX3_make_1 4 rfl rfl)
theorem dX3_make_27 : decode cX3_make 27 = .ok (.aload_n 0, 1) := dk_42 (dk_at dksX3_make_1 5 rfl rfl)
theorem dX3_make_28 : decode cX3_make 28 = .ok (.iload_n 1, 1) := dk_27 (dk_at dksX3_make_1 6 rfl rfl)
theorem dX3_make_29 : decode cX3_make 29 = .ok (.iconst 1, 1) := dk_4 (dk_at dksX3_make_1 7 rfl rfl)
theorem dX3_make_30 : decode cX3_make 30 = .ok (.invokevirtual 322, 3) := dk_182 1 66 (dk_at dksX3_make_1 8 rfl rfl)
theorem dX3_make_33 : decode cX3_make 33 = .ok (.istore_n 3, 1) := dk_62 (dk_at dksX3_make_1 11 rfl rfl)
theorem dX3_make_34 : decode cX3_make 34 = .ok (.iload_n 2, 1) := dk_28 (dk_at dksX3_make_1 12 rfl rfl)
theorem dX3_make_35 : decode cX3_make 35 = .ok (.iload_n 3, 1) := dk_29 (dk_at dksX3_make_1 13 rfl rfl)
theorem dX3_make_36 : decode cX3_make 36 = .ok (.irem, 1) := dk_112 (dk_at dksX3_make_1 14 rfl rfl)
theorem dX3_make_37 : decode cX3_make 37 = .ok (.ifCond .ne 17, 3) := dk_154 0 17 (dk_at dksX3_make_1 15 rfl rfl)
theorem dX3_make_40 : decode cX3_make 40 = .ok (.iload_n 2, 1) := dk_28 (dk_at dksX3_make_1 18 rfl rfl)
theorem dX3_make_41 : decode cX3_make 41 = .ok (.iload_n 3, 1) := dk_29 (dk_at dksX3_make_1 19 rfl rfl)
theorem dX3_make_42 : decode cX3_make 42 = .ok (.idiv, 1) := dk_108 (dk_at dksX3_make_1 20 rfl rfl)
theorem dX3_make_43 : decode cX3_make 43 = .ok (.bipush 9, 2) := dk_16 9 (dk_at dksX3_make_1 21 rfl rfl)
theorem dX3_make_45 : decode cX3_make 45 = .ok (.if_icmp .gt 9, 3) := dk_163 0 9 (dk_at dksX3_make_2 0 rfl rfl)
theorem dX3_make_48 : decode cX3_make 48 = .ok (.iload_n 2, 1) := dk_28 (dk_at dksX3_make_2 3 rfl rfl)
theorem dX3_make_49 : decode cX3_make 49 = .ok (.iload_n 3, 1) := dk_29 (dk_at dksX3_make_2 4 rfl rfl)
theorem dX3_make_50 : decode cX3_make 50 = .ok (.idiv, 1) := dk_108 (dk_at dksX3_make_2 5 rfl rfl)
theorem dX3_make_51 : decode cX3_make 51 = .ok (.goto 4, 3) := dk_167 0 4 (dk_at dksX3_make_2 6 rfl rfl)
theorem dX3_make_54 : decode cX3_make 54 = .ok (.iconst (-1), 1) := dk_2 (dk_at dksX3_make_2 9 rfl rfl)
theorem dX3_make_55 : decode cX3_make 55 = .ok (.ireturn, 1) := dk_172 (dk_at dksX3_make_2 10 rfl rfl)
abbrev cX3_image : ByteArray := prog_14_method_122_code
def yX3_image : MethodName := ⟨RX3, "image", "()I"⟩
def dkwX3_image_1 : List UInt8 := [184, 1, 177, 42, 4, 181, 1, 63, 42, 180, 0, 58, 16, 41, 46, 172]
abbrev dktX3_image_1 : List UInt8 := dkwX3_image_1 ++ []
def dkwX3_image_0 : List UInt8 := [42, 3, 181, 0, 109, 42, 180, 1, 51, 154, 0, 5, 2, 172, 42, 180, 0, 58, 42, 180, 0, 106]
abbrev dktX3_image_0 : List UInt8 := dkwX3_image_0 ++ dktX3_image_1
theorem dksX3_image_0 : cX3_image.data.toList.drop 0 = dktX3_image_0 := by decide +kernel
theorem dksX3_image_1 : cX3_image.data.toList.drop 22 = dktX3_image_1 := dk_seg dksX3_image_0 22 rfl rfl
theorem dX3_image_0 : decode cX3_image 0 = .ok (.aload_n 0, 1) := dk_42 (dk_at dksX3_image_0 0 rfl rfl)
theorem dX3_image_1 : decode cX3_image 1 = .ok (.iconst 0, 1) := dk_3 (dk_at dksX3_image_0 1 rfl rfl)
theorem dX3_image_2 : decode cX3_image 2 = .ok (.putfield 109, 3) := dk_181 0 109 (dk_at dksX3_image_0 2 rfl rfl)
theorem dX3_image_5 : decode cX3_image 5 = .ok (.aload_n 0, 1) := dk_42 (dk_at dksX3_image_0 5 rfl rfl)
theorem dX3_image_6 : decode cX3_image 6 = .ok (.getfield 307, 3) := dk_180 1 51 (dk_at dksX3_image_0 6 rfl rfl)
theorem dX3_image_9 : decode cX3_image 9 = .ok (.ifCond .ne 5, 3) := dk_154 0 5 (dk_at dksX3_image_0 9 rfl rfl)
theorem dX3_image_12 : decode cX3_image 12 = .ok (.iconst (-1), 1) := dk_2 (dk_at dksX3_image_0 12 rfl rfl)
theorem dX3_image_13 : decode cX3_image 13 = .ok (.ireturn, 1) := dk_172 (dk_at dksX3_image_0 13 rfl rfl)
theorem dX3_image_14 : decode cX3_image 14 = .ok (.aload_n 0, 1) := dk_42 (dk_at dksX3_image_0 14 rfl rfl)
theorem dX3_image_15 : decode cX3_image 15 = .ok (.getfield 58, 3) := dk_180 0 58 (dk_at dksX3_image_0 15 rfl rfl)
theorem dX3_image_18 : decode cX3_image 18 = .ok (.aload_n 0, 1) := dk_42 (dk_at dksX3_image_0 18 rfl rfl)
theorem dX3_image_19 : decode cX3_image 19 = .ok (.getfield 106, 3) := dk_180 0 106 (dk_at dksX3_image_0 19 rfl rfl)
theorem dX3_image_22 : decode cX3_image 22 = .ok (.invokestatic 433, 3) := dk_184 1 177 (dk_at dksX3_image_1 0 rfl rfl)
theorem dX3_image_25 : decode cX3_image 25 = .ok (.aload_n 0, 1) := dk_42 (dk_at dksX3_image_1 3 rfl rfl)
theorem dX3_image_26 : decode cX3_image 26 = .ok (.iconst 1, 1) := dk_4 (dk_at dksX3_image_1 4 rfl rfl)
theorem dX3_image_27 : decode cX3_image 27 = .ok (.putfield 319, 3) := dk_181 1 63 (dk_at dksX3_image_1 5 rfl rfl)
theorem dX3_image_30 : decode cX3_image 30 = .ok (.aload_n 0, 1) := dk_42 (dk_at dksX3_image_1 8 rfl rfl)
theorem dX3_image_31 : decode cX3_image 31 = .ok (.getfield 58, 3) := dk_180 0 58 (dk_at dksX3_image_1 9 rfl rfl)
theorem dX3_image_34 : decode cX3_image 34 = .ok (.bipush 41, 2) := dk_16 41 (dk_at dksX3_image_1 12 rfl rfl)
theorem dX3_image_36 : decode cX3_image 36 = .ok (.iaload, 1) := dk_46 (dk_at dksX3_image_1 14 rfl rfl)
theorem dX3_image_37 : decode cX3_image 37 = .ok (.ireturn, 1) := dk_172 (dk_at dksX3_image_1 15 rfl rfl)
abbrev cX3_back : ByteArray := prog_14_method_123_code
def yX3_back : MethodName := ⟨RX3, "back", "()I"⟩
def dkwX3_back_1 : List UInt8 := [184, 1, 177, 42, 3, 181, 1, 60, 42, 180, 0, 58, 16, 41, 46, 172]
abbrev dktX3_back_1 : List UInt8 := dkwX3_back_1 ++ []
def dkwX3_back_0 : List UInt8 := [42, 3, 181, 0, 109, 42, 180, 1, 63, 154, 0, 5, 2, 172, 42, 180, 0, 106, 42, 180, 0, 58]
abbrev dktX3_back_0 : List UInt8 := dkwX3_back_0 ++ dktX3_back_1
theorem dksX3_back_0 : cX3_back.data.toList.drop 0 = dktX3_back_0 := by decide +kernel
theorem dksX3_back_1 : cX3_back.data.toList.drop 22 = dktX3_back_1 := dk_seg dksX3_back_0 22 rfl rfl
theorem dX3_back_0 : decode cX3_back 0 = .ok (.aload_n 0, 1) := dk_42 (dk_at dksX3_back_0 0 rfl rfl)
theorem dX3_back_1 : decode cX3_back 1 = .ok (.iconst 0, 1) := dk_3 (dk_at dksX3_back_0 1 rfl rfl)
theorem dX3_back_2 : decode cX3_back 2 = .ok (.putfield 109, 3) := dk_181 0 109 (dk_at dksX3_back_0 2 rfl rfl)
theorem dX3_back_5 : decode cX3_back 5 = .ok (.aload_n 0, 1) := dk_42 (dk_at dksX3_back_0 5 rfl rfl)
theorem dX3_back_6 : decode cX3_back 6 = .ok (.getfield 319, 3) := dk_180 1 63 (dk_at dksX3_back_0 6 rfl rfl)
theorem dX3_back_9 : decode cX3_back 9 = .ok (.ifCond .ne 5, 3) := dk_154 0 5 (dk_at dksX3_back_0 9 rfl rfl)
theorem dX3_back_12 : decode cX3_back 12 = .ok (.iconst (-1), 1) := dk_2 (dk_at dksX3_back_0 12 rfl rfl)
theorem dX3_back_13 : decode cX3_back 13 = .ok (.ireturn, 1) := dk_172 (dk_at dksX3_back_0 13 rfl rfl)
theorem dX3_back_14 : decode cX3_back 14 = .ok (.aload_n 0, 1) := dk_42 (dk_at dksX3_back_0 14 rfl rfl)
theorem dX3_back_15 : decode cX3_back 15 = .ok (.getfield 106, 3) := dk_180 0 106 (dk_at dksX3_back_0 15 rfl rfl)
theorem dX3_back_18 : decode cX3_back 18 = .ok (.aload_n 0, 1) := dk_42 (dk_at dksX3_back_0 18 rfl rfl)
theorem dX3_back_19 : decode cX3_back 19 = .ok (.getfield 58, 3) := dk_180 0 58 (dk_at dksX3_back_0 19 rfl rfl)
theorem dX3_back_22 : decode cX3_back 22 = .ok (.invokestatic 433, 3) := dk_184 1 177 (dk_at dksX3_back_1 0 rfl rfl)
theorem dX3_back_25 : decode cX3_back 25 = .ok (.aload_n 0, 1) := dk_42 (dk_at dksX3_back_1 3 rfl rfl)
theorem dX3_back_26 : decode cX3_back 26 = .ok (.iconst 0, 1) := dk_3 (dk_at dksX3_back_1 4 rfl rfl)
theorem dX3_back_27 : decode cX3_back 27 = .ok (.putfield 316, 3) := dk_181 1 60 (dk_at dksX3_back_1 5 rfl rfl)
theorem dX3_back_30 : decode cX3_back 30 = .ok (.aload_n 0, 1) := dk_42 (dk_at dksX3_back_1 8 rfl rfl)
theorem dX3_back_31 : decode cX3_back 31 = .ok (.getfield 58, 3) := dk_180 0 58 (dk_at dksX3_back_1 9 rfl rfl)
theorem dX3_back_34 : decode cX3_back 34 = .ok (.bipush 41, 2) := dk_16 41 (dk_at dksX3_back_1 12 rfl rfl)
theorem dX3_back_36 : decode cX3_back 36 = .ok (.iaload, 1) := dk_46 (dk_at dksX3_back_1 14 rfl rfl)
theorem dX3_back_37 : decode cX3_back 37 = .ok (.ireturn, 1) := dk_172 (dk_at dksX3_back_1 15 rfl rfl)
abbrev cX3_count : ByteArray := prog_14_method_124_code
def yX3_count : MethodName := ⟨RX3, "count", "(I)I"⟩
def dkwX3_count_7 : List UInt8 := [172, 42, 180, 1, 60, 172, 19, 1, 176, 172]
abbrev dktX3_count_7 : List UInt8 := dkwX3_count_7 ++ []
def dkwX3_count_6 : List UInt8 := [16, 46, 7, 29, 104, 96, 46, 96, 61, 132, 3, 1, 167, 255, 228, 28, 172, 42, 180, 0, 58, 16, 42, 46]
abbrev dktX3_count_6 : List UInt8 := dkwX3_count_6 ++ dktX3_count_7
def dkwX3_count_5 : List UInt8 := [180, 1, 57, 172, 3, 61, 3, 62, 29, 42, 180, 0, 58, 16, 42, 46, 162, 0, 23, 28, 42, 180, 0, 58]
abbrev dktX3_count_5 : List UInt8 := dkwX3_count_5 ++ dktX3_count_6
def dkwX3_count_4 : List UInt8 := [182, 1, 116, 172, 42, 42, 180, 0, 58, 182, 1, 219, 172, 42, 180, 0, 68, 172, 42, 180, 1, 54, 172, 42]
abbrev dktX3_count_4 : List UInt8 := dkwX3_count_4 ++ dktX3_count_5
def dkwX3_count_3 : List UInt8 := [180, 0, 122, 172, 42, 180, 0, 64, 172, 42, 180, 0, 58, 16, 41, 46, 172, 42, 42, 180, 0, 58]
abbrev dktX3_count_3 : List UInt8 := dkwX3_count_3 ++ dktX3_count_4
def dkwX3_count_2 : List UInt8 := [42, 180, 1, 51, 172, 42, 180, 0, 58, 16, 40, 46, 172, 42, 180, 1, 43, 172, 42, 180, 1, 46, 172, 42]
abbrev dktX3_count_2 : List UInt8 := dkwX3_count_2 ++ dktX3_count_3
def dkwX3_count_1 : List UInt8 := [170, 0, 0, 0, 0, 198, 0, 0, 0, 0, 0, 0, 0, 14, 0, 0, 0, 74, 0, 0, 0, 79, 0, 0, 0, 87, 0, 0, 0, 92, 0, 0, 0, 97, 0, 0, 0, 102, 0, 0, 0, 107, 0, 0, 0, 115, 0, 0, 0, 124, 0, 0, 0, 133, 0, 0, 0, 138, 0, 0, 0, 143, 0, 0, 0, 148, 0, 0, 0, 185, 0, 0, 0, 193]
abbrev dktX3_count_1 : List UInt8 := dkwX3_count_1 ++ dktX3_count_2
def dkwX3_count_0 : List UInt8 := [42, 3, 181, 0, 109, 27]
abbrev dktX3_count_0 : List UInt8 := dkwX3_count_0 ++ dktX3_count_1
theorem dksX3_count_0 : cX3_count.data.toList.drop 0 = dktX3_count_0 := by decide +kernel
theorem dksX3_count_1 : cX3_count.data.toList.drop 6 = dktX3_count_1 := dk_seg dksX3_count_0 6 rfl rfl
theorem dksX3_count_2 : cX3_count.data.toList.drop 80 = dktX3_count_2 := dk_seg dksX3_count_1 74 rfl rfl
theorem dksX3_count_3 : cX3_count.data.toList.drop 104 = dktX3_count_3 := dk_seg dksX3_count_2 24 rfl rfl
theorem dksX3_count_4 : cX3_count.data.toList.drop 126 = dktX3_count_4 := dk_seg dksX3_count_3 22 rfl rfl
theorem dksX3_count_5 : cX3_count.data.toList.drop 150 = dktX3_count_5 := dk_seg dksX3_count_4 24 rfl rfl
theorem dksX3_count_6 : cX3_count.data.toList.drop 174 = dktX3_count_6 := dk_seg dksX3_count_5 24 rfl rfl
theorem dksX3_count_7 : cX3_count.data.toList.drop 198 = dktX3_count_7 := dk_seg dksX3_count_6 24 rfl rfl
theorem dX3_count_0 : decode cX3_count 0 = .ok (.aload_n 0, 1) := dk_42 (dk_at dksX3_count_0 0 rfl rfl)
theorem dX3_count_1 : decode cX3_count 1 = .ok (.iconst 0, 1) := dk_3 (dk_at dksX3_count_0 1 rfl rfl)
theorem dX3_count_2 : decode cX3_count 2 = .ok (.putfield 109, 3) := dk_181 0 109 (dk_at dksX3_count_0 2 rfl rfl)
theorem dX3_count_5 : decode cX3_count 5 = .ok (.iload_n 1, 1) := dk_27 (dk_at dksX3_count_0 5 rfl rfl)
theorem dX3_count_6 : decode cX3_count 6 = .ok (.tableswitch 198 0 14 #[74, 79, 87, 92, 97, 102, 107, 115, 124, 133, 138, 143, 148, 185, 193], 74) := by decide +kernel
theorem dX3_count_80 : decode cX3_count 80 = .ok (.aload_n 0, 1) := dk_42 (dk_at dksX3_count_2 0 rfl rfl)
theorem dX3_count_81 : decode cX3_count 81 = .ok (.getfield 307, 3) := dk_180 1 51 (dk_at dksX3_count_2 1 rfl rfl)
theorem dX3_count_84 : decode cX3_count 84 = .ok (.ireturn, 1) := dk_172 (dk_at dksX3_count_2 4 rfl rfl)
theorem dX3_count_85 : decode cX3_count 85 = .ok (.aload_n 0, 1) := dk_42 (dk_at dksX3_count_2 5 rfl rfl)
theorem dX3_count_86 : decode cX3_count 86 = .ok (.getfield 58, 3) := dk_180 0 58 (dk_at dksX3_count_2 6 rfl rfl)
theorem dX3_count_89 : decode cX3_count 89 = .ok (.bipush 40, 2) := dk_16 40 (dk_at dksX3_count_2 9 rfl rfl)
theorem dX3_count_91 : decode cX3_count 91 = .ok (.iaload, 1) := dk_46 (dk_at dksX3_count_2 11 rfl rfl)
theorem dX3_count_92 : decode cX3_count 92 = .ok (.ireturn, 1) := dk_172 (dk_at dksX3_count_2 12 rfl rfl)
theorem dX3_count_93 : decode cX3_count 93 = .ok (.aload_n 0, 1) := dk_42 (dk_at dksX3_count_2 13 rfl rfl)
theorem dX3_count_94 : decode cX3_count 94 = .ok (.getfield 299, 3) := dk_180 1 43 (dk_at dksX3_count_2 14 rfl rfl)
theorem dX3_count_97 : decode cX3_count 97 = .ok (.ireturn, 1) := dk_172 (dk_at dksX3_count_2 17 rfl rfl)
theorem dX3_count_98 : decode cX3_count 98 = .ok (.aload_n 0, 1) := dk_42 (dk_at dksX3_count_2 18 rfl rfl)
theorem dX3_count_99 : decode cX3_count 99 = .ok (.getfield 302, 3) := dk_180 1 46 (dk_at dksX3_count_2 19 rfl rfl)
theorem dX3_count_102 : decode cX3_count 102 = .ok (.ireturn, 1) := dk_172 (dk_at dksX3_count_2 22 rfl rfl)
theorem dX3_count_103 : decode cX3_count 103 = .ok (.aload_n 0, 1) := dk_42 (dk_at dksX3_count_2 23 rfl rfl)
theorem dX3_count_104 : decode cX3_count 104 = .ok (.getfield 122, 3) := dk_180 0 122 (dk_at dksX3_count_3 0 rfl rfl)
theorem dX3_count_107 : decode cX3_count 107 = .ok (.ireturn, 1) := dk_172 (dk_at dksX3_count_3 3 rfl rfl)
theorem dX3_count_108 : decode cX3_count 108 = .ok (.aload_n 0, 1) := dk_42 (dk_at dksX3_count_3 4 rfl rfl)
theorem dX3_count_109 : decode cX3_count 109 = .ok (.getfield 64, 3) := dk_180 0 64 (dk_at dksX3_count_3 5 rfl rfl)
theorem dX3_count_112 : decode cX3_count 112 = .ok (.ireturn, 1) := dk_172 (dk_at dksX3_count_3 8 rfl rfl)
theorem dX3_count_113 : decode cX3_count 113 = .ok (.aload_n 0, 1) := dk_42 (dk_at dksX3_count_3 9 rfl rfl)
theorem dX3_count_114 : decode cX3_count 114 = .ok (.getfield 58, 3) := dk_180 0 58 (dk_at dksX3_count_3 10 rfl rfl)
theorem dX3_count_117 : decode cX3_count 117 = .ok (.bipush 41, 2) := dk_16 41 (dk_at dksX3_count_3 13 rfl rfl)
theorem dX3_count_119 : decode cX3_count 119 = .ok (.iaload, 1) := dk_46 (dk_at dksX3_count_3 15 rfl rfl)
theorem dX3_count_120 : decode cX3_count 120 = .ok (.ireturn, 1) := dk_172 (dk_at dksX3_count_3 16 rfl rfl)
theorem dX3_count_121 : decode cX3_count 121 = .ok (.aload_n 0, 1) := dk_42 (dk_at dksX3_count_3 17 rfl rfl)
theorem dX3_count_122 : decode cX3_count 122 = .ok (.aload_n 0, 1) := dk_42 (dk_at dksX3_count_3 18 rfl rfl)
theorem dX3_count_123 : decode cX3_count 123 = .ok (.getfield 58, 3) := dk_180 0 58 (dk_at dksX3_count_3 19 rfl rfl)
theorem dX3_count_126 : decode cX3_count 126 = .ok (.invokevirtual 372, 3) := dk_182 1 116 (dk_at dksX3_count_4 0 rfl rfl)
theorem dX3_count_129 : decode cX3_count 129 = .ok (.ireturn, 1) := dk_172 (dk_at dksX3_count_4 3 rfl rfl)
theorem dX3_count_130 : decode cX3_count 130 = .ok (.aload_n 0, 1) := dk_42 (dk_at dksX3_count_4 4 rfl rfl)
theorem dX3_count_131 : decode cX3_count 131 = .ok (.aload_n 0, 1) := dk_42 (dk_at dksX3_count_4 5 rfl rfl)
theorem dX3_count_132 : decode cX3_count 132 = .ok (.getfield 58, 3) := dk_180 0 58 (dk_at dksX3_count_4 6 rfl rfl)
theorem dX3_count_135 : decode cX3_count 135 = .ok (.invokevirtual 475, 3) := dk_182 1 219 (dk_at dksX3_count_4 9 rfl rfl)
theorem dX3_count_138 : decode cX3_count 138 = .ok (.ireturn, 1) := dk_172 (dk_at dksX3_count_4 12 rfl rfl)
theorem dX3_count_139 : decode cX3_count 139 = .ok (.aload_n 0, 1) := dk_42 (dk_at dksX3_count_4 13 rfl rfl)
theorem dX3_count_140 : decode cX3_count 140 = .ok (.getfield 68, 3) := dk_180 0 68 (dk_at dksX3_count_4 14 rfl rfl)
theorem dX3_count_143 : decode cX3_count 143 = .ok (.ireturn, 1) := dk_172 (dk_at dksX3_count_4 17 rfl rfl)
theorem dX3_count_144 : decode cX3_count 144 = .ok (.aload_n 0, 1) := dk_42 (dk_at dksX3_count_4 18 rfl rfl)
theorem dX3_count_145 : decode cX3_count 145 = .ok (.getfield 310, 3) := dk_180 1 54 (dk_at dksX3_count_4 19 rfl rfl)
theorem dX3_count_148 : decode cX3_count 148 = .ok (.ireturn, 1) := dk_172 (dk_at dksX3_count_4 22 rfl rfl)
theorem dX3_count_149 : decode cX3_count 149 = .ok (.aload_n 0, 1) := dk_42 (dk_at dksX3_count_4 23 rfl rfl)
theorem dX3_count_150 : decode cX3_count 150 = .ok (.getfield 313, 3) := dk_180 1 57 (dk_at dksX3_count_5 0 rfl rfl)
theorem dX3_count_153 : decode cX3_count 153 = .ok (.ireturn, 1) := dk_172 (dk_at dksX3_count_5 3 rfl rfl)
theorem dX3_count_154 : decode cX3_count 154 = .ok (.iconst 0, 1) := dk_3 (dk_at dksX3_count_5 4 rfl rfl)
theorem dX3_count_155 : decode cX3_count 155 = .ok (.istore_n 2, 1) := dk_61 (dk_at dksX3_count_5 5 rfl rfl)
theorem dX3_count_156 : decode cX3_count 156 = .ok (.iconst 0, 1) := dk_3 (dk_at dksX3_count_5 6 rfl rfl)
theorem dX3_count_157 : decode cX3_count 157 = .ok (.istore_n 3, 1) := dk_62 (dk_at dksX3_count_5 7 rfl rfl)
theorem dX3_count_158 : decode cX3_count 158 = .ok (.iload_n 3, 1) := dk_29 (dk_at dksX3_count_5 8 rfl rfl)
theorem dX3_count_159 : decode cX3_count 159 = .ok (.aload_n 0, 1) := dk_42 (dk_at dksX3_count_5 9 rfl rfl)
theorem dX3_count_160 : decode cX3_count 160 = .ok (.getfield 58, 3) := dk_180 0 58 (dk_at dksX3_count_5 10 rfl rfl)
theorem dX3_count_163 : decode cX3_count 163 = .ok (.bipush 42, 2) := dk_16 42 (dk_at dksX3_count_5 13 rfl rfl)
theorem dX3_count_165 : decode cX3_count 165 = .ok (.iaload, 1) := dk_46 (dk_at dksX3_count_5 15 rfl rfl)
theorem dX3_count_166 : decode cX3_count 166 = .ok (.if_icmp .ge 23, 3) := dk_162 0 23 (dk_at dksX3_count_5 16 rfl rfl)
theorem dX3_count_169 : decode cX3_count 169 = .ok (.iload_n 2, 1) := dk_28 (dk_at dksX3_count_5 19 rfl rfl)
theorem dX3_count_170 : decode cX3_count 170 = .ok (.aload_n 0, 1) := dk_42 (dk_at dksX3_count_5 20 rfl rfl)
theorem dX3_count_171 : decode cX3_count 171 = .ok (.getfield 58, 3) := dk_180 0 58 (dk_at dksX3_count_5 21 rfl rfl)
theorem dX3_count_174 : decode cX3_count 174 = .ok (.bipush 46, 2) := dk_16 46 (dk_at dksX3_count_6 0 rfl rfl)
theorem dX3_count_176 : decode cX3_count 176 = .ok (.iconst 4, 1) := dk_7 (dk_at dksX3_count_6 2 rfl rfl)
theorem dX3_count_177 : decode cX3_count 177 = .ok (.iload_n 3, 1) := dk_29 (dk_at dksX3_count_6 3 rfl rfl)
theorem dX3_count_178 : decode cX3_count 178 = .ok (.imul, 1) := dk_104 (dk_at dksX3_count_6 4 rfl rfl)
theorem dX3_count_179 : decode cX3_count 179 = .ok (.iadd, 1) := dk_96 (dk_at dksX3_count_6 5 rfl rfl)
theorem dX3_count_180 : decode cX3_count 180 = .ok (.iaload, 1) := dk_46 (dk_at dksX3_count_6 6 rfl rfl)
theorem dX3_count_181 : decode cX3_count 181 = .ok (.iadd, 1) := dk_96 (dk_at dksX3_count_6 7 rfl rfl)
theorem dX3_count_182 : decode cX3_count 182 = .ok (.istore_n 2, 1) := dk_61 (dk_at dksX3_count_6 8 rfl rfl)
theorem dX3_count_183 : decode cX3_count 183 = .ok (.iinc 3 1, 3) := dk_132 3 1 (dk_at dksX3_count_6 9 rfl rfl)
theorem dX3_count_186 : decode cX3_count 186 = .ok (.goto (-28), 3) := dk_167 255 228 (dk_at dksX3_count_6 12 rfl rfl)
theorem dX3_count_189 : decode cX3_count 189 = .ok (.iload_n 2, 1) := dk_28 (dk_at dksX3_count_6 15 rfl rfl)
theorem dX3_count_190 : decode cX3_count 190 = .ok (.ireturn, 1) := dk_172 (dk_at dksX3_count_6 16 rfl rfl)
theorem dX3_count_191 : decode cX3_count 191 = .ok (.aload_n 0, 1) := dk_42 (dk_at dksX3_count_6 17 rfl rfl)
theorem dX3_count_192 : decode cX3_count 192 = .ok (.getfield 58, 3) := dk_180 0 58 (dk_at dksX3_count_6 18 rfl rfl)
theorem dX3_count_195 : decode cX3_count 195 = .ok (.bipush 42, 2) := dk_16 42 (dk_at dksX3_count_6 21 rfl rfl)
theorem dX3_count_197 : decode cX3_count 197 = .ok (.iaload, 1) := dk_46 (dk_at dksX3_count_6 23 rfl rfl)
theorem dX3_count_198 : decode cX3_count 198 = .ok (.ireturn, 1) := dk_172 (dk_at dksX3_count_7 0 rfl rfl)
theorem dX3_count_199 : decode cX3_count 199 = .ok (.aload_n 0, 1) := dk_42 (dk_at dksX3_count_7 1 rfl rfl)
theorem dX3_count_200 : decode cX3_count 200 = .ok (.getfield 316, 3) := dk_180 1 60 (dk_at dksX3_count_7 2 rfl rfl)
theorem dX3_count_203 : decode cX3_count 203 = .ok (.ireturn, 1) := dk_172 (dk_at dksX3_count_7 5 rfl rfl)
theorem dX3_count_204 : decode cX3_count 204 = .ok (.ldc_w 432, 3) := dk_19 1 176 (dk_at dksX3_count_7 6 rfl rfl)
theorem dX3_count_207 : decode cX3_count 207 = .ok (.ireturn, 1) := dk_172 (dk_at dksX3_count_7 9 rfl rfl)
theorem q146 : (Jvm.Cond.initialized "FrostBoxModel") ∈ lw_all := lw_g (lw_at lw_m1 5 rfl) rfl
theorem q1225 : (Jvm.Cond.instantiable "FrostBoxModel" (56 : Nat)) ∈ lw_all := lw_g (lw_at lw_m5 124 rfl) rfl
theorem q1227 : (Jvm.Cond.instanceMethod ({ cls := "FrostBoxModel", name := "<init>", desc := "()V" } : Jvm.MethodName)) ∈ lw_all := lw_g (lw_at lw_m5 126 rfl) rfl
theorem q1228 : (Jvm.Cond.code ({ cls := "FrostBoxModel", name := "<init>", desc := "()V" } : Jvm.MethodName) prog_14_method_1_code (1 : Nat) (Option.none : Option Jvm.ClassFile.FieldType)) ∈ lw_all := lw_g (lw_at lw_m5 127 rfl) rfl
theorem q1229 : (Jvm.Cond.methodLink "FrostBoxModel" (3 : Nat) ({ cls := "java/lang/Object", name := "<init>", desc := "()V" } : Jvm.MethodName)) ∈ lw_all := lw_g (lw_at lw_m5 128 rfl) rfl
theorem q1230 : (Jvm.Cond.stringRef "FrostBoxModel" (26 : Nat) "y") ∈ lw_tbl := lw_at lw_m5 129 rfl
theorem q1231 : (Jvm.Cond.stringRef "FrostBoxModel" (32 : Nat) "aonykm") ∈ lw_tbl := lw_at lw_m5 130 rfl
theorem q1232 : (Jvm.Cond.fieldLink "FrostBoxModel" (109 : Nat) "FrostBoxModel" "thrown" "I") ∈ lw_all := lw_g (lw_at lw_m5 131 rfl) rfl
theorem q1233 : (Jvm.Cond.fieldLink "FrostBoxModel" (9 : Nat) "FrostBoxModel" "tape" "[B") ∈ lw_all := lw_g (lw_at lw_m5 132 rfl) rfl
theorem q1234 : (Jvm.Cond.fieldLink "FrostBoxModel" (13 : Nat) "FrostBoxModel" "texts" "[B") ∈ lw_all := lw_g (lw_at lw_m5 133 rfl) rfl
theorem q1235 : (Jvm.Cond.fieldLink "FrostBoxModel" (16 : Nat) "FrostBoxModel" "textLong" "[I") ∈ lw_all := lw_g (lw_at lw_m5 134 rfl) rfl
theorem q1236 : (Jvm.Cond.fieldLink "FrostBoxModel" (20 : Nat) "FrostBoxModel" "letters" "[I") ∈ lw_all := lw_g (lw_at lw_m5 135 rfl) rfl
theorem q1237 : (Jvm.Cond.fieldLink "FrostBoxModel" (23 : Nat) "FrostBoxModel" "text" "[B") ∈ lw_all := lw_g (lw_at lw_m5 136 rfl) rfl
theorem q1238 : (Jvm.Cond.fieldLink "FrostBoxModel" (122 : Nat) "FrostBoxModel" "length" "I") ∈ lw_all := lw_g (lw_at lw_m5 137 rfl) rfl
theorem q1239 : (Jvm.Cond.fieldLink "FrostBoxModel" (299 : Nat) "FrostBoxModel" "lawMany" "I") ∈ lw_all := lw_g (lw_at lw_m5 138 rfl) rfl
theorem q1240 : (Jvm.Cond.fieldLink "FrostBoxModel" (138 : Nat) "FrostBoxModel" "begins" "I") ∈ lw_all := lw_g (lw_at lw_m5 139 rfl) rfl
theorem q1241 : (Jvm.Cond.fieldLink "FrostBoxModel" (135 : Nat) "FrostBoxModel" "ends" "I") ∈ lw_all := lw_g (lw_at lw_m5 140 rfl) rfl
theorem q1242 : (Jvm.Cond.fieldLink "FrostBoxModel" (132 : Nat) "FrostBoxModel" "at" "I") ∈ lw_all := lw_g (lw_at lw_m5 141 rfl) rfl
theorem q1243 : (Jvm.Cond.fieldLink "FrostBoxModel" (141 : Nat) "FrostBoxModel" "fault" "I") ∈ lw_all := lw_g (lw_at lw_m5 142 rfl) rfl
theorem q1244 : (Jvm.Cond.fieldLink "FrostBoxModel" (144 : Nat) "FrostBoxModel" "deep" "I") ∈ lw_all := lw_g (lw_at lw_m5 143 rfl) rfl
theorem q1245 : (Jvm.Cond.fieldLink "FrostBoxModel" (214 : Nat) "FrostBoxModel" "label" "I") ∈ lw_all := lw_g (lw_at lw_m5 144 rfl) rfl
theorem q1246 : (Jvm.Cond.fieldLink "FrostBoxModel" (217 : Nat) "FrostBoxModel" "found" "I") ∈ lw_all := lw_g (lw_at lw_m5 145 rfl) rfl
theorem q1247 : (Jvm.Cond.fieldLink "FrostBoxModel" (28 : Nat) "FrostBoxModel" "labels" "Ljava/lang/String;") ∈ lw_all := lw_g (lw_at lw_m5 146 rfl) rfl
theorem q1248 : (Jvm.Cond.fieldLink "FrostBoxModel" (34 : Nat) "FrostBoxModel" "allowed" "Ljava/lang/String;") ∈ lw_all := lw_g (lw_at lw_m5 147 rfl) rfl
theorem q1249 : (Jvm.Cond.fieldLink "FrostBoxModel" (210 : Nat) "FrostBoxModel" "hasFound" "Z") ∈ lw_all := lw_g (lw_at lw_m5 148 rfl) rfl
theorem q1250 : (Jvm.Cond.fieldLink "FrostBoxModel" (37 : Nat) "FrostBoxModel" "rule" "[I") ∈ lw_all := lw_g (lw_at lw_m5 149 rfl) rfl
theorem q1251 : (Jvm.Cond.fieldLink "FrostBoxModel" (40 : Nat) "FrostBoxModel" "ruleRead" "[I") ∈ lw_all := lw_g (lw_at lw_m5 150 rfl) rfl
theorem q1252 : (Jvm.Cond.fieldLink "FrostBoxModel" (43 : Nat) "FrostBoxModel" "kind" "[I") ∈ lw_all := lw_g (lw_at lw_m5 151 rfl) rfl
theorem q1253 : (Jvm.Cond.fieldLink "FrostBoxModel" (46 : Nat) "FrostBoxModel" "kindRead" "[I") ∈ lw_all := lw_g (lw_at lw_m5 152 rfl) rfl
theorem q1254 : (Jvm.Cond.fieldLink "FrostBoxModel" (49 : Nat) "FrostBoxModel" "boxRead" "[I") ∈ lw_all := lw_g (lw_at lw_m5 153 rfl) rfl
theorem q1255 : (Jvm.Cond.fieldLink "FrostBoxModel" (52 : Nat) "FrostBoxModel" "plan" "[I") ∈ lw_all := lw_g (lw_at lw_m5 154 rfl) rfl
theorem q1256 : (Jvm.Cond.fieldLink "FrostBoxModel" (55 : Nat) "FrostBoxModel" "planLong" "[I") ∈ lw_all := lw_g (lw_at lw_m5 155 rfl) rfl
theorem q1257 : (Jvm.Cond.fieldLink "FrostBoxModel" (307 : Nat) "FrostBoxModel" "kinds" "I") ∈ lw_all := lw_g (lw_at lw_m5 156 rfl) rfl
theorem q1258 : (Jvm.Cond.fieldLink "FrostBoxModel" (258 : Nat) "FrostBoxModel" "kindsRead" "I") ∈ lw_all := lw_g (lw_at lw_m5 157 rfl) rfl
theorem q1259 : (Jvm.Cond.fieldLink "FrostBoxModel" (261 : Nat) "FrostBoxModel" "boxesRead" "I") ∈ lw_all := lw_g (lw_at lw_m5 158 rfl) rfl
theorem q1260 : (Jvm.Cond.fieldLink "FrostBoxModel" (302 : Nat) "FrostBoxModel" "plans" "I") ∈ lw_all := lw_g (lw_at lw_m5 159 rfl) rfl
theorem q1261 : (Jvm.Cond.fieldLink "FrostBoxModel" (255 : Nat) "FrostBoxModel" "hasRules" "Z") ∈ lw_all := lw_g (lw_at lw_m5 160 rfl) rfl
theorem q1262 : (Jvm.Cond.fieldLink "FrostBoxModel" (58 : Nat) "FrostBoxModel" "now" "[I") ∈ lw_all := lw_g (lw_at lw_m5 161 rfl) rfl
theorem q1263 : (Jvm.Cond.fieldLink "FrostBoxModel" (61 : Nat) "FrostBoxModel" "trial" "[I") ∈ lw_all := lw_g (lw_at lw_m5 162 rfl) rfl
theorem q1264 : (Jvm.Cond.fieldLink "FrostBoxModel" (64 : Nat) "FrostBoxModel" "law" "I") ∈ lw_all := lw_g (lw_at lw_m5 163 rfl) rfl
theorem q1265 : (Jvm.Cond.fieldLink "FrostBoxModel" (68 : Nat) "FrostBoxModel" "habit" "I") ∈ lw_all := lw_g (lw_at lw_m5 164 rfl) rfl
theorem q1266 : (Jvm.Cond.fieldLink "FrostBoxModel" (71 : Nat) "FrostBoxModel" "memoKey" "[J") ∈ lw_all := lw_g (lw_at lw_m5 165 rfl) rfl
theorem q1267 : (Jvm.Cond.fieldLink "FrostBoxModel" (75 : Nat) "FrostBoxModel" "memoWorth" "[I") ∈ lw_all := lw_g (lw_at lw_m5 166 rfl) rfl
theorem q1268 : (Jvm.Cond.fieldLink "FrostBoxModel" (78 : Nat) "FrostBoxModel" "undoRow" "[I") ∈ lw_all := lw_g (lw_at lw_m5 167 rfl) rfl
theorem q1269 : (Jvm.Cond.fieldLink "FrostBoxModel" (316 : Nat) "FrostBoxModel" "acts" "I") ∈ lw_all := lw_g (lw_at lw_m5 168 rfl) rfl
theorem q1270 : (Jvm.Cond.fieldLink "FrostBoxModel" (418 : Nat) "FrostBoxModel" "x" "J") ∈ lw_all := lw_g (lw_at lw_m5 169 rfl) rfl
theorem q1271 : (Jvm.Cond.fieldLink "FrostBoxModel" (462 : Nat) "FrostBoxModel" "eatMost" "I") ∈ lw_all := lw_g (lw_at lw_m5 170 rfl) rfl
theorem q1272 : (Jvm.Cond.fieldLink "FrostBoxModel" (465 : Nat) "FrostBoxModel" "eatDigits" "I") ∈ lw_all := lw_g (lw_at lw_m5 171 rfl) rfl
theorem q1273 : (Jvm.Cond.fieldLink "FrostBoxModel" (81 : Nat) "FrostBoxModel" "lookSort" "[I") ∈ lw_all := lw_g (lw_at lw_m5 172 rfl) rfl
theorem q1274 : (Jvm.Cond.fieldLink "FrostBoxModel" (84 : Nat) "FrostBoxModel" "lookSeemed" "[I") ∈ lw_all := lw_g (lw_at lw_m5 173 rfl) rfl
theorem q1275 : (Jvm.Cond.fieldLink "FrostBoxModel" (310 : Nat) "FrostBoxModel" "looks" "I") ∈ lw_all := lw_g (lw_at lw_m5 174 rfl) rfl
theorem q1276 : (Jvm.Cond.fieldLink "FrostBoxModel" (87 : Nat) "FrostBoxModel" "foundBox" "[I") ∈ lw_all := lw_g (lw_at lw_m5 175 rfl) rfl
theorem q1277 : (Jvm.Cond.fieldLink "FrostBoxModel" (90 : Nat) "FrostBoxModel" "foundKind" "[I") ∈ lw_all := lw_g (lw_at lw_m5 176 rfl) rfl
theorem q1278 : (Jvm.Cond.fieldLink "FrostBoxModel" (93 : Nat) "FrostBoxModel" "often" "[I") ∈ lw_all := lw_g (lw_at lw_m5 177 rfl) rfl
theorem q1279 : (Jvm.Cond.fieldLink "FrostBoxModel" (96 : Nat) "FrostBoxModel" "historyRow" "[I") ∈ lw_all := lw_g (lw_at lw_m5 178 rfl) rfl
theorem q1280 : (Jvm.Cond.fieldLink "FrostBoxModel" (99 : Nat) "FrostBoxModel" "shared" "[I") ∈ lw_all := lw_g (lw_at lw_m5 179 rfl) rfl
theorem q1281 : (Jvm.Cond.fieldLink "FrostBoxModel" (102 : Nat) "FrostBoxModel" "foundIs" "[Z") ∈ lw_all := lw_g (lw_at lw_m5 180 rfl) rfl
theorem q1282 : (Jvm.Cond.fieldLink "FrostBoxModel" (313 : Nat) "FrostBoxModel" "founds" "I") ∈ lw_all := lw_g (lw_at lw_m5 181 rfl) rfl
theorem q1283 : (Jvm.Cond.fieldLink "FrostBoxModel" (493 : Nat) "FrostBoxModel" "rows" "I") ∈ lw_all := lw_g (lw_at lw_m5 182 rfl) rfl
theorem q1284 : (Jvm.Cond.fieldLink "FrostBoxModel" (496 : Nat) "FrostBoxModel" "rowFound" "I") ∈ lw_all := lw_g (lw_at lw_m5 183 rfl) rfl
theorem q1285 : (Jvm.Cond.fieldLink "FrostBoxModel" (499 : Nat) "FrostBoxModel" "sharedBits" "I") ∈ lw_all := lw_g (lw_at lw_m5 184 rfl) rfl
theorem q1286 : (Jvm.Cond.fieldLink "FrostBoxModel" (106 : Nat) "FrostBoxModel" "imageRow" "[I") ∈ lw_all := lw_g (lw_at lw_m5 185 rfl) rfl
theorem q1287 : (Jvm.Cond.fieldLink "FrostBoxModel" (319 : Nat) "FrostBoxModel" "hasImage" "Z") ∈ lw_all := lw_g (lw_at lw_m5 186 rfl) rfl
theorem q1288 : (Jvm.Cond.lays "FrostBoxModel" "FrostBoxModel" "thrown" "I") ∈ lw_all := lw_g (lw_at lw_m5 187 rfl) rfl
theorem q1289 : (Jvm.Cond.soleField "FrostBoxModel" "thrown") ∈ lw_all := lw_g (lw_at lw_m5 188 rfl) rfl
theorem q1290 : (Jvm.Cond.laysFinal "FrostBoxModel" "FrostBoxModel" "tape" "[B") ∈ lw_all := lw_g (lw_at lw_m5 189 rfl) rfl
theorem q1291 : (Jvm.Cond.soleField "FrostBoxModel" "tape") ∈ lw_all := lw_g (lw_at lw_m5 190 rfl) rfl
theorem q1292 : (Jvm.Cond.laysFinal "FrostBoxModel" "FrostBoxModel" "texts" "[B") ∈ lw_all := lw_g (lw_at lw_m5 191 rfl) rfl
theorem q1293 : (Jvm.Cond.soleField "FrostBoxModel" "texts") ∈ lw_all := lw_g (lw_at lw_m5 192 rfl) rfl
theorem q1294 : (Jvm.Cond.laysFinal "FrostBoxModel" "FrostBoxModel" "textLong" "[I") ∈ lw_all := lw_g (lw_at lw_m5 193 rfl) rfl
theorem q1295 : (Jvm.Cond.soleField "FrostBoxModel" "textLong") ∈ lw_all := lw_g (lw_at lw_m5 194 rfl) rfl
theorem q1296 : (Jvm.Cond.laysFinal "FrostBoxModel" "FrostBoxModel" "letters" "[I") ∈ lw_all := lw_g (lw_at lw_m5 195 rfl) rfl
theorem q1297 : (Jvm.Cond.soleField "FrostBoxModel" "letters") ∈ lw_all := lw_g (lw_at lw_m5 196 rfl) rfl
theorem q1298 : (Jvm.Cond.lays "FrostBoxModel" "FrostBoxModel" "text" "[B") ∈ lw_all := lw_g (lw_at lw_m5 197 rfl) rfl
theorem q1299 : (Jvm.Cond.soleField "FrostBoxModel" "text") ∈ lw_all := lw_g (lw_at lw_m5 198 rfl) rfl
theorem q1300 : (Jvm.Cond.lays "FrostBoxModel" "FrostBoxModel" "length" "I") ∈ lw_all := lw_g (lw_at lw_m5 199 rfl) rfl
theorem q1301 : (Jvm.Cond.soleField "FrostBoxModel" "length") ∈ lw_all := lw_g (lw_at lw_m5 200 rfl) rfl
theorem q1302 : (Jvm.Cond.lays "FrostBoxModel" "FrostBoxModel" "lawMany" "I") ∈ lw_all := lw_g (lw_at lw_m5 201 rfl) rfl
theorem q1303 : (Jvm.Cond.soleField "FrostBoxModel" "lawMany") ∈ lw_all := lw_g (lw_at lw_m5 202 rfl) rfl
theorem q1304 : (Jvm.Cond.lays "FrostBoxModel" "FrostBoxModel" "begins" "I") ∈ lw_all := lw_g (lw_at lw_m5 203 rfl) rfl
theorem q1305 : (Jvm.Cond.soleField "FrostBoxModel" "begins") ∈ lw_all := lw_g (lw_at lw_m5 204 rfl) rfl
theorem q1306 : (Jvm.Cond.lays "FrostBoxModel" "FrostBoxModel" "ends" "I") ∈ lw_all := lw_g (lw_at lw_m5 205 rfl) rfl
theorem q1307 : (Jvm.Cond.soleField "FrostBoxModel" "ends") ∈ lw_all := lw_g (lw_at lw_m5 206 rfl) rfl
theorem q1308 : (Jvm.Cond.lays "FrostBoxModel" "FrostBoxModel" "at" "I") ∈ lw_all := lw_g (lw_at lw_m5 207 rfl) rfl
theorem q1309 : (Jvm.Cond.soleField "FrostBoxModel" "at") ∈ lw_all := lw_g (lw_at lw_m5 208 rfl) rfl
theorem q1310 : (Jvm.Cond.lays "FrostBoxModel" "FrostBoxModel" "fault" "I") ∈ lw_all := lw_g (lw_at lw_m5 209 rfl) rfl
theorem q1311 : (Jvm.Cond.soleField "FrostBoxModel" "fault") ∈ lw_all := lw_g (lw_at lw_m5 210 rfl) rfl
theorem q1312 : (Jvm.Cond.lays "FrostBoxModel" "FrostBoxModel" "deep" "I") ∈ lw_all := lw_g (lw_at lw_m5 211 rfl) rfl
theorem q1313 : (Jvm.Cond.soleField "FrostBoxModel" "deep") ∈ lw_all := lw_g (lw_at lw_m5 212 rfl) rfl
theorem q1314 : (Jvm.Cond.lays "FrostBoxModel" "FrostBoxModel" "label" "I") ∈ lw_all := lw_g (lw_at lw_m5 213 rfl) rfl
theorem q1315 : (Jvm.Cond.soleField "FrostBoxModel" "label") ∈ lw_all := lw_g (lw_at lw_m5 214 rfl) rfl
theorem q1316 : (Jvm.Cond.lays "FrostBoxModel" "FrostBoxModel" "found" "I") ∈ lw_all := lw_g (lw_at lw_m5 215 rfl) rfl
theorem q1317 : (Jvm.Cond.soleField "FrostBoxModel" "found") ∈ lw_all := lw_g (lw_at lw_m5 216 rfl) rfl
theorem q1318 : (Jvm.Cond.laysFinal "FrostBoxModel" "FrostBoxModel" "labels" "Ljava/lang/String;") ∈ lw_all := lw_g (lw_at lw_m5 217 rfl) rfl
theorem q1319 : (Jvm.Cond.soleField "FrostBoxModel" "labels") ∈ lw_all := lw_g (lw_at lw_m5 218 rfl) rfl
theorem q1320 : (Jvm.Cond.laysFinal "FrostBoxModel" "FrostBoxModel" "allowed" "Ljava/lang/String;") ∈ lw_all := lw_g (lw_at lw_m5 219 rfl) rfl
theorem q1321 : (Jvm.Cond.soleField "FrostBoxModel" "allowed") ∈ lw_all := lw_g (lw_at lw_m5 220 rfl) rfl
theorem q1322 : (Jvm.Cond.lays "FrostBoxModel" "FrostBoxModel" "hasFound" "Z") ∈ lw_all := lw_g (lw_at lw_m5 221 rfl) rfl
theorem q1323 : (Jvm.Cond.soleField "FrostBoxModel" "hasFound") ∈ lw_all := lw_g (lw_at lw_m5 222 rfl) rfl
theorem q1324 : (Jvm.Cond.laysFinal "FrostBoxModel" "FrostBoxModel" "rule" "[I") ∈ lw_all := lw_g (lw_at lw_m5 223 rfl) rfl
theorem q1325 : (Jvm.Cond.soleField "FrostBoxModel" "rule") ∈ lw_all := lw_g (lw_at lw_m5 224 rfl) rfl
theorem q1326 : (Jvm.Cond.laysFinal "FrostBoxModel" "FrostBoxModel" "ruleRead" "[I") ∈ lw_all := lw_g (lw_at lw_m5 225 rfl) rfl
theorem q1327 : (Jvm.Cond.soleField "FrostBoxModel" "ruleRead") ∈ lw_all := lw_g (lw_at lw_m5 226 rfl) rfl
theorem q1328 : (Jvm.Cond.laysFinal "FrostBoxModel" "FrostBoxModel" "kind" "[I") ∈ lw_all := lw_g (lw_at lw_m5 227 rfl) rfl
theorem q1329 : (Jvm.Cond.soleField "FrostBoxModel" "kind") ∈ lw_all := lw_g (lw_at lw_m5 228 rfl) rfl
theorem q1330 : (Jvm.Cond.laysFinal "FrostBoxModel" "FrostBoxModel" "kindRead" "[I") ∈ lw_all := lw_g (lw_at lw_m5 229 rfl) rfl
theorem q1331 : (Jvm.Cond.soleField "FrostBoxModel" "kindRead") ∈ lw_all := lw_g (lw_at lw_m5 230 rfl) rfl
theorem q1332 : (Jvm.Cond.laysFinal "FrostBoxModel" "FrostBoxModel" "boxRead" "[I") ∈ lw_all := lw_g (lw_at lw_m5 231 rfl) rfl
theorem q1333 : (Jvm.Cond.soleField "FrostBoxModel" "boxRead") ∈ lw_all := lw_g (lw_at lw_m5 232 rfl) rfl
theorem q1334 : (Jvm.Cond.laysFinal "FrostBoxModel" "FrostBoxModel" "plan" "[I") ∈ lw_all := lw_g (lw_at lw_m5 233 rfl) rfl
theorem q1335 : (Jvm.Cond.soleField "FrostBoxModel" "plan") ∈ lw_all := lw_g (lw_at lw_m5 234 rfl) rfl
theorem q1336 : (Jvm.Cond.laysFinal "FrostBoxModel" "FrostBoxModel" "planLong" "[I") ∈ lw_all := lw_g (lw_at lw_m5 235 rfl) rfl
theorem q1337 : (Jvm.Cond.soleField "FrostBoxModel" "planLong") ∈ lw_all := lw_g (lw_at lw_m5 236 rfl) rfl
theorem q1338 : (Jvm.Cond.lays "FrostBoxModel" "FrostBoxModel" "kinds" "I") ∈ lw_all := lw_g (lw_at lw_m5 237 rfl) rfl
theorem q1339 : (Jvm.Cond.soleField "FrostBoxModel" "kinds") ∈ lw_all := lw_g (lw_at lw_m5 238 rfl) rfl
theorem q1340 : (Jvm.Cond.lays "FrostBoxModel" "FrostBoxModel" "kindsRead" "I") ∈ lw_all := lw_g (lw_at lw_m5 239 rfl) rfl
theorem q1341 : (Jvm.Cond.soleField "FrostBoxModel" "kindsRead") ∈ lw_all := lw_g (lw_at lw_m6 0 rfl) rfl
theorem q1342 : (Jvm.Cond.lays "FrostBoxModel" "FrostBoxModel" "boxesRead" "I") ∈ lw_all := lw_g (lw_at lw_m6 1 rfl) rfl
theorem q1343 : (Jvm.Cond.soleField "FrostBoxModel" "boxesRead") ∈ lw_all := lw_g (lw_at lw_m6 2 rfl) rfl
theorem q1344 : (Jvm.Cond.lays "FrostBoxModel" "FrostBoxModel" "plans" "I") ∈ lw_all := lw_g (lw_at lw_m6 3 rfl) rfl
theorem q1345 : (Jvm.Cond.soleField "FrostBoxModel" "plans") ∈ lw_all := lw_g (lw_at lw_m6 4 rfl) rfl
theorem q1346 : (Jvm.Cond.lays "FrostBoxModel" "FrostBoxModel" "hasRules" "Z") ∈ lw_all := lw_g (lw_at lw_m6 5 rfl) rfl
theorem q1347 : (Jvm.Cond.soleField "FrostBoxModel" "hasRules") ∈ lw_all := lw_g (lw_at lw_m6 6 rfl) rfl
theorem q1348 : (Jvm.Cond.laysFinal "FrostBoxModel" "FrostBoxModel" "now" "[I") ∈ lw_all := lw_g (lw_at lw_m6 7 rfl) rfl
theorem q1349 : (Jvm.Cond.soleField "FrostBoxModel" "now") ∈ lw_all := lw_g (lw_at lw_m6 8 rfl) rfl
theorem q1350 : (Jvm.Cond.laysFinal "FrostBoxModel" "FrostBoxModel" "trial" "[I") ∈ lw_all := lw_g (lw_at lw_m6 9 rfl) rfl
theorem q1351 : (Jvm.Cond.soleField "FrostBoxModel" "trial") ∈ lw_all := lw_g (lw_at lw_m6 10 rfl) rfl
theorem q1352 : (Jvm.Cond.lays "FrostBoxModel" "FrostBoxModel" "law" "I") ∈ lw_all := lw_g (lw_at lw_m6 11 rfl) rfl
theorem q1353 : (Jvm.Cond.soleField "FrostBoxModel" "law") ∈ lw_all := lw_g (lw_at lw_m6 12 rfl) rfl
theorem q1354 : (Jvm.Cond.lays "FrostBoxModel" "FrostBoxModel" "habit" "I") ∈ lw_all := lw_g (lw_at lw_m6 13 rfl) rfl
theorem q1355 : (Jvm.Cond.soleField "FrostBoxModel" "habit") ∈ lw_all := lw_g (lw_at lw_m6 14 rfl) rfl
theorem q1356 : (Jvm.Cond.laysFinal "FrostBoxModel" "FrostBoxModel" "memoKey" "[J") ∈ lw_all := lw_g (lw_at lw_m6 15 rfl) rfl
theorem q1357 : (Jvm.Cond.soleField "FrostBoxModel" "memoKey") ∈ lw_all := lw_g (lw_at lw_m6 16 rfl) rfl
theorem q1358 : (Jvm.Cond.laysFinal "FrostBoxModel" "FrostBoxModel" "memoWorth" "[I") ∈ lw_all := lw_g (lw_at lw_m6 17 rfl) rfl
theorem q1359 : (Jvm.Cond.soleField "FrostBoxModel" "memoWorth") ∈ lw_all := lw_g (lw_at lw_m6 18 rfl) rfl
theorem q1360 : (Jvm.Cond.laysFinal "FrostBoxModel" "FrostBoxModel" "undoRow" "[I") ∈ lw_all := lw_g (lw_at lw_m6 19 rfl) rfl
theorem q1361 : (Jvm.Cond.soleField "FrostBoxModel" "undoRow") ∈ lw_all := lw_g (lw_at lw_m6 20 rfl) rfl
theorem q1362 : (Jvm.Cond.lays "FrostBoxModel" "FrostBoxModel" "acts" "I") ∈ lw_all := lw_g (lw_at lw_m6 21 rfl) rfl
theorem q1363 : (Jvm.Cond.soleField "FrostBoxModel" "acts") ∈ lw_all := lw_g (lw_at lw_m6 22 rfl) rfl
theorem q1364 : (Jvm.Cond.lays "FrostBoxModel" "FrostBoxModel" "x" "J") ∈ lw_all := lw_g (lw_at lw_m6 23 rfl) rfl
theorem q1365 : (Jvm.Cond.soleField "FrostBoxModel" "x") ∈ lw_all := lw_g (lw_at lw_m6 24 rfl) rfl
theorem q1366 : (Jvm.Cond.lays "FrostBoxModel" "FrostBoxModel" "eatMost" "I") ∈ lw_all := lw_g (lw_at lw_m6 25 rfl) rfl
theorem q1367 : (Jvm.Cond.soleField "FrostBoxModel" "eatMost") ∈ lw_all := lw_g (lw_at lw_m6 26 rfl) rfl
theorem q1368 : (Jvm.Cond.lays "FrostBoxModel" "FrostBoxModel" "eatDigits" "I") ∈ lw_all := lw_g (lw_at lw_m6 27 rfl) rfl
theorem q1369 : (Jvm.Cond.soleField "FrostBoxModel" "eatDigits") ∈ lw_all := lw_g (lw_at lw_m6 28 rfl) rfl
theorem q1370 : (Jvm.Cond.laysFinal "FrostBoxModel" "FrostBoxModel" "lookSort" "[I") ∈ lw_all := lw_g (lw_at lw_m6 29 rfl) rfl
theorem q1371 : (Jvm.Cond.soleField "FrostBoxModel" "lookSort") ∈ lw_all := lw_g (lw_at lw_m6 30 rfl) rfl
theorem q1372 : (Jvm.Cond.laysFinal "FrostBoxModel" "FrostBoxModel" "lookSeemed" "[I") ∈ lw_all := lw_g (lw_at lw_m6 31 rfl) rfl
theorem q1373 : (Jvm.Cond.soleField "FrostBoxModel" "lookSeemed") ∈ lw_all := lw_g (lw_at lw_m6 32 rfl) rfl
theorem q1374 : (Jvm.Cond.lays "FrostBoxModel" "FrostBoxModel" "looks" "I") ∈ lw_all := lw_g (lw_at lw_m6 33 rfl) rfl
theorem q1375 : (Jvm.Cond.soleField "FrostBoxModel" "looks") ∈ lw_all := lw_g (lw_at lw_m6 34 rfl) rfl
theorem q1376 : (Jvm.Cond.laysFinal "FrostBoxModel" "FrostBoxModel" "foundBox" "[I") ∈ lw_all := lw_g (lw_at lw_m6 35 rfl) rfl
theorem q1377 : (Jvm.Cond.soleField "FrostBoxModel" "foundBox") ∈ lw_all := lw_g (lw_at lw_m6 36 rfl) rfl
theorem q1378 : (Jvm.Cond.laysFinal "FrostBoxModel" "FrostBoxModel" "foundKind" "[I") ∈ lw_all := lw_g (lw_at lw_m6 37 rfl) rfl
theorem q1379 : (Jvm.Cond.soleField "FrostBoxModel" "foundKind") ∈ lw_all := lw_g (lw_at lw_m6 38 rfl) rfl
theorem q1380 : (Jvm.Cond.laysFinal "FrostBoxModel" "FrostBoxModel" "often" "[I") ∈ lw_all := lw_g (lw_at lw_m6 39 rfl) rfl
theorem q1381 : (Jvm.Cond.soleField "FrostBoxModel" "often") ∈ lw_all := lw_g (lw_at lw_m6 40 rfl) rfl
theorem q1382 : (Jvm.Cond.laysFinal "FrostBoxModel" "FrostBoxModel" "historyRow" "[I") ∈ lw_all := lw_g (lw_at lw_m6 41 rfl) rfl
theorem q1383 : (Jvm.Cond.soleField "FrostBoxModel" "historyRow") ∈ lw_all := lw_g (lw_at lw_m6 42 rfl) rfl
theorem q1384 : (Jvm.Cond.laysFinal "FrostBoxModel" "FrostBoxModel" "shared" "[I") ∈ lw_all := lw_g (lw_at lw_m6 43 rfl) rfl
theorem q1385 : (Jvm.Cond.soleField "FrostBoxModel" "shared") ∈ lw_all := lw_g (lw_at lw_m6 44 rfl) rfl
theorem q1386 : (Jvm.Cond.laysFinal "FrostBoxModel" "FrostBoxModel" "foundIs" "[Z") ∈ lw_all := lw_g (lw_at lw_m6 45 rfl) rfl
theorem q1387 : (Jvm.Cond.soleField "FrostBoxModel" "foundIs") ∈ lw_all := lw_g (lw_at lw_m6 46 rfl) rfl
theorem q1388 : (Jvm.Cond.lays "FrostBoxModel" "FrostBoxModel" "founds" "I") ∈ lw_all := lw_g (lw_at lw_m6 47 rfl) rfl
theorem q1389 : (Jvm.Cond.soleField "FrostBoxModel" "founds") ∈ lw_all := lw_g (lw_at lw_m6 48 rfl) rfl
theorem q1390 : (Jvm.Cond.lays "FrostBoxModel" "FrostBoxModel" "rows" "I") ∈ lw_all := lw_g (lw_at lw_m6 49 rfl) rfl
theorem q1391 : (Jvm.Cond.soleField "FrostBoxModel" "rows") ∈ lw_all := lw_g (lw_at lw_m6 50 rfl) rfl
theorem q1392 : (Jvm.Cond.lays "FrostBoxModel" "FrostBoxModel" "rowFound" "I") ∈ lw_all := lw_g (lw_at lw_m6 51 rfl) rfl
theorem q1393 : (Jvm.Cond.soleField "FrostBoxModel" "rowFound") ∈ lw_all := lw_g (lw_at lw_m6 52 rfl) rfl
theorem q1394 : (Jvm.Cond.lays "FrostBoxModel" "FrostBoxModel" "sharedBits" "I") ∈ lw_all := lw_g (lw_at lw_m6 53 rfl) rfl
theorem q1395 : (Jvm.Cond.soleField "FrostBoxModel" "sharedBits") ∈ lw_all := lw_g (lw_at lw_m6 54 rfl) rfl
theorem q1396 : (Jvm.Cond.laysFinal "FrostBoxModel" "FrostBoxModel" "imageRow" "[I") ∈ lw_all := lw_g (lw_at lw_m6 55 rfl) rfl
theorem q1397 : (Jvm.Cond.soleField "FrostBoxModel" "imageRow") ∈ lw_all := lw_g (lw_at lw_m6 56 rfl) rfl
theorem q1398 : (Jvm.Cond.lays "FrostBoxModel" "FrostBoxModel" "hasImage" "Z") ∈ lw_all := lw_g (lw_at lw_m6 57 rfl) rfl
theorem q1399 : (Jvm.Cond.soleField "FrostBoxModel" "hasImage") ∈ lw_all := lw_g (lw_at lw_m6 58 rfl) rfl
theorem q1400 : (Jvm.Cond.superclass "FrostBoxModel" "java/lang/Object") ∈ lw_all := lw_g (lw_at lw_m6 59 rfl) rfl
theorem q1403 : (Jvm.Cond.instanceMethod ({ cls := "FrostBoxModel", name := "thrown", desc := "()I" } : Jvm.MethodName)) ∈ lw_all := lw_g (lw_at lw_m6 62 rfl) rfl
theorem q1404 : (Jvm.Cond.selects "FrostBoxModel" ({ cls := "FrostBoxModel", name := "thrown", desc := "()I" } : Jvm.MethodName) ({ cls := "FrostBoxModel", name := "thrown", desc := "()I" } : Jvm.MethodName)) ∈ lw_all := lw_g (lw_at lw_m6 63 rfl) rfl
theorem q1405 : (Jvm.Cond.code ({ cls := "FrostBoxModel", name := "thrown", desc := "()I" } : Jvm.MethodName) prog_14_method_2_code (1 : Nat) (Option.some Jvm.ClassFile.FieldType.int)) ∈ lw_all := lw_g (lw_at lw_m6 64 rfl) rfl
theorem q1407 : (Jvm.Cond.instanceMethod ({ cls := "FrostBoxModel", name := "feed", desc := "(IIIII)I" } : Jvm.MethodName)) ∈ lw_all := lw_g (lw_at lw_m6 66 rfl) rfl
theorem q1408 : (Jvm.Cond.selects "FrostBoxModel" ({ cls := "FrostBoxModel", name := "feed", desc := "(IIIII)I" } : Jvm.MethodName) ({ cls := "FrostBoxModel", name := "feed", desc := "(IIIII)I" } : Jvm.MethodName)) ∈ lw_all := lw_g (lw_at lw_m6 67 rfl) rfl
theorem q1409 : (Jvm.Cond.code ({ cls := "FrostBoxModel", name := "feed", desc := "(IIIII)I" } : Jvm.MethodName) prog_14_method_8_code (6 : Nat) (Option.some Jvm.ClassFile.FieldType.int)) ∈ lw_all := lw_g (lw_at lw_m6 68 rfl) rfl
theorem q1410 : (Jvm.Cond.methodLink "FrostBoxModel" (124 : Nat) ({ cls := "FrostBoxModel", name := "bytesIn", desc := "(I)I" } : Jvm.MethodName)) ∈ lw_all := lw_g (lw_at lw_m6 69 rfl) rfl
theorem q1411 : (Jvm.Cond.static ({ cls := "FrostBoxModel", name := "bytesIn", desc := "(I)I" } : Jvm.MethodName)) ∈ lw_all := lw_g (lw_at lw_m6 70 rfl) rfl
theorem q1412 : (Jvm.Cond.code ({ cls := "FrostBoxModel", name := "bytesIn", desc := "(I)I" } : Jvm.MethodName) prog_14_method_6_code (3 : Nat) (Option.some Jvm.ClassFile.FieldType.int)) ∈ lw_all := lw_g (lw_at lw_m6 71 rfl) rfl
theorem q1413 : (Jvm.Cond.methodLink "FrostBoxModel" (128 : Nat) ({ cls := "FrostBoxModel", name := "put", desc := "(I)V" } : Jvm.MethodName)) ∈ lw_all := lw_g (lw_at lw_m6 72 rfl) rfl
theorem q1414 : (Jvm.Cond.privateMethod ({ cls := "FrostBoxModel", name := "put", desc := "(I)V" } : Jvm.MethodName)) ∈ lw_tbl := lw_at lw_m6 73 rfl
theorem q1415 : (Jvm.Cond.instanceMethod ({ cls := "FrostBoxModel", name := "put", desc := "(I)V" } : Jvm.MethodName)) ∈ lw_all := lw_g (lw_at lw_m6 74 rfl) rfl
theorem q1416 : (Jvm.Cond.code ({ cls := "FrostBoxModel", name := "put", desc := "(I)V" } : Jvm.MethodName) prog_14_method_7_code (3 : Nat) (Option.none : Option Jvm.ClassFile.FieldType)) ∈ lw_all := lw_g (lw_at lw_m6 75 rfl) rfl
theorem q1418 : (Jvm.Cond.instanceMethod ({ cls := "FrostBoxModel", name := "end", desc := "(I)Z" } : Jvm.MethodName)) ∈ lw_all := lw_g (lw_at lw_m6 77 rfl) rfl
theorem q1419 : (Jvm.Cond.selects "FrostBoxModel" ({ cls := "FrostBoxModel", name := "end", desc := "(I)Z" } : Jvm.MethodName) ({ cls := "FrostBoxModel", name := "end", desc := "(I)Z" } : Jvm.MethodName)) ∈ lw_all := lw_g (lw_at lw_m6 78 rfl) rfl
theorem q1420 : (Jvm.Cond.code ({ cls := "FrostBoxModel", name := "end", desc := "(I)Z" } : Jvm.MethodName) prog_14_method_9_code (2 : Nat) (Option.some Jvm.ClassFile.FieldType.boolean)) ∈ lw_all := lw_g (lw_at lw_m6 79 rfl) rfl
theorem q1422 : (Jvm.Cond.instanceMethod ({ cls := "FrostBoxModel", name := "fault", desc := "(I)I" } : Jvm.MethodName)) ∈ lw_all := lw_g (lw_at lw_m6 81 rfl) rfl
theorem q1423 : (Jvm.Cond.selects "FrostBoxModel" ({ cls := "FrostBoxModel", name := "fault", desc := "(I)I" } : Jvm.MethodName) ({ cls := "FrostBoxModel", name := "fault", desc := "(I)I" } : Jvm.MethodName)) ∈ lw_all := lw_g (lw_at lw_m6 82 rfl) rfl
theorem q1424 : (Jvm.Cond.code ({ cls := "FrostBoxModel", name := "fault", desc := "(I)I" } : Jvm.MethodName) prog_14_method_40_code (2 : Nat) (Option.some Jvm.ClassFile.FieldType.int)) ∈ lw_all := lw_g (lw_at lw_m6 83 rfl) rfl
theorem q1425 : (Jvm.Cond.constantLong "FrostBoxModel" (288 : Nat) (2 : Int64)) ∈ lw_all := lw_g (lw_at lw_m6 84 rfl) rfl
theorem q1426 : (Jvm.Cond.methodLink "FrostBoxModel" (230 : Nat) ({ cls := "FrostBoxModel", name := "isIn", desc := "(JJJ)Z" } : Jvm.MethodName)) ∈ lw_all := lw_g (lw_at lw_m6 85 rfl) rfl
theorem q1427 : (Jvm.Cond.static ({ cls := "FrostBoxModel", name := "isIn", desc := "(JJJ)Z" } : Jvm.MethodName)) ∈ lw_all := lw_g (lw_at lw_m6 86 rfl) rfl
theorem q1428 : (Jvm.Cond.code ({ cls := "FrostBoxModel", name := "isIn", desc := "(JJJ)Z" } : Jvm.MethodName) prog_14_method_3_code (6 : Nat) (Option.some Jvm.ClassFile.FieldType.boolean)) ∈ lw_all := lw_g (lw_at lw_m6 87 rfl) rfl
theorem q1429 : (Jvm.Cond.methodLink "FrostBoxModel" (290 : Nat) ({ cls := "FrostBoxModel", name := "readHouse", desc := "()V" } : Jvm.MethodName)) ∈ lw_all := lw_g (lw_at lw_m6 88 rfl) rfl
theorem q1430 : (Jvm.Cond.privateMethod ({ cls := "FrostBoxModel", name := "readHouse", desc := "()V" } : Jvm.MethodName)) ∈ lw_tbl := lw_at lw_m6 89 rfl
theorem q1431 : (Jvm.Cond.instanceMethod ({ cls := "FrostBoxModel", name := "readHouse", desc := "()V" } : Jvm.MethodName)) ∈ lw_all := lw_g (lw_at lw_m6 90 rfl) rfl
theorem q1432 : (Jvm.Cond.code ({ cls := "FrostBoxModel", name := "readHouse", desc := "()V" } : Jvm.MethodName) prog_14_method_36_code (2 : Nat) (Option.none : Option Jvm.ClassFile.FieldType)) ∈ lw_all := lw_g (lw_at lw_m6 91 rfl) rfl
theorem q1433 : (Jvm.Cond.methodLink "FrostBoxModel" (220 : Nat) ({ cls := "FrostBoxModel", name := "starts", desc := "([BII)V" } : Jvm.MethodName)) ∈ lw_all := lw_g (lw_at lw_m6 92 rfl) rfl
theorem q1434 : (Jvm.Cond.privateMethod ({ cls := "FrostBoxModel", name := "starts", desc := "([BII)V" } : Jvm.MethodName)) ∈ lw_tbl := lw_at lw_m6 93 rfl
theorem q1435 : (Jvm.Cond.instanceMethod ({ cls := "FrostBoxModel", name := "starts", desc := "([BII)V" } : Jvm.MethodName)) ∈ lw_all := lw_g (lw_at lw_m6 94 rfl) rfl
theorem q1436 : (Jvm.Cond.code ({ cls := "FrostBoxModel", name := "starts", desc := "([BII)V" } : Jvm.MethodName) prog_14_method_25_code (4 : Nat) (Option.none : Option Jvm.ClassFile.FieldType)) ∈ lw_all := lw_g (lw_at lw_m6 95 rfl) rfl
theorem q1437 : (Jvm.Cond.methodLink "FrostBoxModel" (234 : Nat) ({ cls := "FrostBoxModel", name := "usual", desc := "(II)I" } : Jvm.MethodName)) ∈ lw_all := lw_g (lw_at lw_m6 96 rfl) rfl
theorem q1438 : (Jvm.Cond.static ({ cls := "FrostBoxModel", name := "usual", desc := "(II)I" } : Jvm.MethodName)) ∈ lw_all := lw_g (lw_at lw_m6 97 rfl) rfl
theorem q1439 : (Jvm.Cond.code ({ cls := "FrostBoxModel", name := "usual", desc := "(II)I" } : Jvm.MethodName) prog_14_method_32_code (2 : Nat) (Option.some Jvm.ClassFile.FieldType.int)) ∈ lw_all := lw_g (lw_at lw_m6 98 rfl) rfl
theorem q1440 : (Jvm.Cond.methodLink "FrostBoxModel" (274 : Nat) ({ cls := "FrostBoxModel", name := "readClause", desc := "()V" } : Jvm.MethodName)) ∈ lw_all := lw_g (lw_at lw_m6 99 rfl) rfl
theorem q1441 : (Jvm.Cond.privateMethod ({ cls := "FrostBoxModel", name := "readClause", desc := "()V" } : Jvm.MethodName)) ∈ lw_tbl := lw_at lw_m6 100 rfl
theorem q1442 : (Jvm.Cond.instanceMethod ({ cls := "FrostBoxModel", name := "readClause", desc := "()V" } : Jvm.MethodName)) ∈ lw_all := lw_g (lw_at lw_m6 101 rfl) rfl
theorem q1443 : (Jvm.Cond.code ({ cls := "FrostBoxModel", name := "readClause", desc := "()V" } : Jvm.MethodName) prog_14_method_34_code (3 : Nat) (Option.none : Option Jvm.ClassFile.FieldType)) ∈ lw_all := lw_g (lw_at lw_m6 102 rfl) rfl
theorem q1444 : (Jvm.Cond.methodLink "FrostBoxModel" (151 : Nat) ({ cls := "FrostBoxModel", name := "look", desc := "()I" } : Jvm.MethodName)) ∈ lw_all := lw_g (lw_at lw_m6 103 rfl) rfl
theorem q1445 : (Jvm.Cond.privateMethod ({ cls := "FrostBoxModel", name := "look", desc := "()I" } : Jvm.MethodName)) ∈ lw_tbl := lw_at lw_m6 104 rfl
theorem q1446 : (Jvm.Cond.instanceMethod ({ cls := "FrostBoxModel", name := "look", desc := "()I" } : Jvm.MethodName)) ∈ lw_all := lw_g (lw_at lw_m6 105 rfl) rfl
theorem q1447 : (Jvm.Cond.code ({ cls := "FrostBoxModel", name := "look", desc := "()I" } : Jvm.MethodName) prog_14_method_10_code (1 : Nat) (Option.some Jvm.ClassFile.FieldType.int)) ∈ lw_all := lw_g (lw_at lw_m6 106 rfl) rfl
theorem q1448 : (Jvm.Cond.methodLink "FrostBoxModel" (147 : Nat) ({ cls := "FrostBoxModel", name := "fails", desc := "()Z" } : Jvm.MethodName)) ∈ lw_all := lw_g (lw_at lw_m6 107 rfl) rfl
theorem q1449 : (Jvm.Cond.privateMethod ({ cls := "FrostBoxModel", name := "fails", desc := "()Z" } : Jvm.MethodName)) ∈ lw_tbl := lw_at lw_m6 108 rfl
theorem q1450 : (Jvm.Cond.instanceMethod ({ cls := "FrostBoxModel", name := "fails", desc := "()Z" } : Jvm.MethodName)) ∈ lw_all := lw_g (lw_at lw_m6 109 rfl) rfl
theorem q1451 : (Jvm.Cond.code ({ cls := "FrostBoxModel", name := "fails", desc := "()Z" } : Jvm.MethodName) prog_14_method_11_code (1 : Nat) (Option.some Jvm.ClassFile.FieldType.boolean)) ∈ lw_all := lw_g (lw_at lw_m6 110 rfl) rfl
theorem q1452 : (Jvm.Cond.stringRef "FrostBoxModel" (264 : Nat) "rhle") ∈ lw_tbl := lw_at lw_m6 111 rfl
theorem q1453 : (Jvm.Cond.methodLink "FrostBoxModel" (266 : Nat) ({ cls := "FrostBoxModel", name := "readItems", desc := "(I[IILjava/lang/String;)V" } : Jvm.MethodName)) ∈ lw_all := lw_g (lw_at lw_m6 112 rfl) rfl
theorem q1454 : (Jvm.Cond.privateMethod ({ cls := "FrostBoxModel", name := "readItems", desc := "(I[IILjava/lang/String;)V" } : Jvm.MethodName)) ∈ lw_tbl := lw_at lw_m6 113 rfl
theorem q1455 : (Jvm.Cond.instanceMethod ({ cls := "FrostBoxModel", name := "readItems", desc := "(I[IILjava/lang/String;)V" } : Jvm.MethodName)) ∈ lw_all := lw_g (lw_at lw_m6 114 rfl) rfl
theorem q1456 : (Jvm.Cond.code ({ cls := "FrostBoxModel", name := "readItems", desc := "(I[IILjava/lang/String;)V" } : Jvm.MethodName) prog_14_method_33_code (7 : Nat) (Option.none : Option Jvm.ClassFile.FieldType)) ∈ lw_all := lw_g (lw_at lw_m6 115 rfl) rfl
theorem q1457 : (Jvm.Cond.methodLink "FrostBoxModel" (112 : Nat) ({ cls := "java/lang/String", name := "length", desc := "()I" } : Jvm.MethodName)) ∈ lw_all := lw_g (lw_at lw_m6 116 rfl) rfl
theorem q1458 : (Jvm.Cond.methodLink "FrostBoxModel" (238 : Nat) ({ cls := "FrostBoxModel", name := "spotOf", desc := "(Ljava/lang/String;I)I" } : Jvm.MethodName)) ∈ lw_all := lw_g (lw_at lw_m6 117 rfl) rfl
theorem q1459 : (Jvm.Cond.static ({ cls := "FrostBoxModel", name := "spotOf", desc := "(Ljava/lang/String;I)I" } : Jvm.MethodName)) ∈ lw_all := lw_g (lw_at lw_m6 118 rfl) rfl
theorem q1460 : (Jvm.Cond.code ({ cls := "FrostBoxModel", name := "spotOf", desc := "(Ljava/lang/String;I)I" } : Jvm.MethodName) prog_14_method_28_code (3 : Nat) (Option.some Jvm.ClassFile.FieldType.int)) ∈ lw_all := lw_g (lw_at lw_m6 119 rfl) rfl
theorem q1461 : (Jvm.Cond.methodLink "FrostBoxModel" (118 : Nat) ({ cls := "java/lang/String", name := "charAt", desc := "(I)C" } : Jvm.MethodName)) ∈ lw_all := lw_g (lw_at lw_m6 120 rfl) rfl
theorem q1462 : (Jvm.Cond.methodLink "FrostBoxModel" (242 : Nat) ({ cls := "FrostBoxModel", name := "has", desc := "(II)Z" } : Jvm.MethodName)) ∈ lw_all := lw_g (lw_at lw_m6 121 rfl) rfl
theorem q1463 : (Jvm.Cond.static ({ cls := "FrostBoxModel", name := "has", desc := "(II)Z" } : Jvm.MethodName)) ∈ lw_all := lw_g (lw_at lw_m6 122 rfl) rfl
theorem q1464 : (Jvm.Cond.code ({ cls := "FrostBoxModel", name := "has", desc := "(II)Z" } : Jvm.MethodName) prog_14_method_4_code (2 : Nat) (Option.some Jvm.ClassFile.FieldType.boolean)) ∈ lw_all := lw_g (lw_at lw_m6 123 rfl) rfl
theorem q1465 : (Jvm.Cond.methodLink "FrostBoxModel" (246 : Nat) ({ cls := "FrostBoxModel", name := "leastOf", desc := "(II)I" } : Jvm.MethodName)) ∈ lw_all := lw_g (lw_at lw_m6 124 rfl) rfl
theorem q1466 : (Jvm.Cond.static ({ cls := "FrostBoxModel", name := "leastOf", desc := "(II)I" } : Jvm.MethodName)) ∈ lw_all := lw_g (lw_at lw_m6 125 rfl) rfl
theorem q1467 : (Jvm.Cond.code ({ cls := "FrostBoxModel", name := "leastOf", desc := "(II)I" } : Jvm.MethodName) prog_14_method_31_code (2 : Nat) (Option.some Jvm.ClassFile.FieldType.int)) ∈ lw_all := lw_g (lw_at lw_m6 126 rfl) rfl
theorem q1468 : (Jvm.Cond.methodLink "FrostBoxModel" (249 : Nat) ({ cls := "FrostBoxModel", name := "mostOf", desc := "(II)I" } : Jvm.MethodName)) ∈ lw_all := lw_g (lw_at lw_m6 127 rfl) rfl
theorem q1469 : (Jvm.Cond.static ({ cls := "FrostBoxModel", name := "mostOf", desc := "(II)I" } : Jvm.MethodName)) ∈ lw_all := lw_g (lw_at lw_m6 128 rfl) rfl
theorem q1470 : (Jvm.Cond.code ({ cls := "FrostBoxModel", name := "mostOf", desc := "(II)I" } : Jvm.MethodName) prog_14_method_30_code (2 : Nat) (Option.some Jvm.ClassFile.FieldType.int)) ∈ lw_all := lw_g (lw_at lw_m6 129 rfl) rfl
theorem q1471 : (Jvm.Cond.methodLink "FrostBoxModel" (252 : Nat) ({ cls := "FrostBoxModel", name := "number", desc := "(II)I" } : Jvm.MethodName)) ∈ lw_all := lw_g (lw_at lw_m6 130 rfl) rfl
theorem q1472 : (Jvm.Cond.privateMethod ({ cls := "FrostBoxModel", name := "number", desc := "(II)I" } : Jvm.MethodName)) ∈ lw_tbl := lw_at lw_m6 131 rfl
theorem q1473 : (Jvm.Cond.instanceMethod ({ cls := "FrostBoxModel", name := "number", desc := "(II)I" } : Jvm.MethodName)) ∈ lw_all := lw_g (lw_at lw_m6 132 rfl) rfl
theorem q1474 : (Jvm.Cond.code ({ cls := "FrostBoxModel", name := "number", desc := "(II)I" } : Jvm.MethodName) prog_14_method_29_code (5 : Nat) (Option.some Jvm.ClassFile.FieldType.int)) ∈ lw_all := lw_g (lw_at lw_m6 133 rfl) rfl
theorem q1475 : (Jvm.Cond.methodLink "FrostBoxModel" (181 : Nat) ({ cls := "FrostBoxModel", name := "isDigit", desc := "()Z" } : Jvm.MethodName)) ∈ lw_all := lw_g (lw_at lw_m6 134 rfl) rfl
theorem q1476 : (Jvm.Cond.privateMethod ({ cls := "FrostBoxModel", name := "isDigit", desc := "()Z" } : Jvm.MethodName)) ∈ lw_tbl := lw_at lw_m6 135 rfl
theorem q1477 : (Jvm.Cond.instanceMethod ({ cls := "FrostBoxModel", name := "isDigit", desc := "()Z" } : Jvm.MethodName)) ∈ lw_all := lw_g (lw_at lw_m6 136 rfl) rfl
theorem q1478 : (Jvm.Cond.code ({ cls := "FrostBoxModel", name := "isDigit", desc := "()Z" } : Jvm.MethodName) prog_14_method_14_code (1 : Nat) (Option.some Jvm.ClassFile.FieldType.boolean)) ∈ lw_all := lw_g (lw_at lw_m6 137 rfl) rfl
theorem q1479 : (Jvm.Cond.methodLink "FrostBoxModel" (227 : Nat) ({ cls := "FrostBoxModel", name := "here", desc := "()I" } : Jvm.MethodName)) ∈ lw_all := lw_g (lw_at lw_m6 138 rfl) rfl
theorem q1480 : (Jvm.Cond.privateMethod ({ cls := "FrostBoxModel", name := "here", desc := "()I" } : Jvm.MethodName)) ∈ lw_tbl := lw_at lw_m6 139 rfl
theorem q1481 : (Jvm.Cond.instanceMethod ({ cls := "FrostBoxModel", name := "here", desc := "()I" } : Jvm.MethodName)) ∈ lw_all := lw_g (lw_at lw_m6 140 rfl) rfl
theorem q1482 : (Jvm.Cond.code ({ cls := "FrostBoxModel", name := "here", desc := "()I" } : Jvm.MethodName) prog_14_method_27_code (1 : Nat) (Option.some Jvm.ClassFile.FieldType.int)) ∈ lw_all := lw_g (lw_at lw_m6 141 rfl) rfl
theorem q1483 : (Jvm.Cond.stringRef "FrostBoxModel" (270 : Nat) "cwopg") ∈ lw_tbl := lw_at lw_m6 142 rfl
theorem q1484 : (Jvm.Cond.stringRef "FrostBoxModel" (272 : Nat) "knal") ∈ lw_tbl := lw_at lw_m6 143 rfl
theorem q1485 : (Jvm.Cond.methodLink "FrostBoxModel" (277 : Nat) ({ cls := "FrostBoxModel", name := "isWhole", desc := "()Z" } : Jvm.MethodName)) ∈ lw_all := lw_g (lw_at lw_m6 144 rfl) rfl
theorem q1486 : (Jvm.Cond.privateMethod ({ cls := "FrostBoxModel", name := "isWhole", desc := "()Z" } : Jvm.MethodName)) ∈ lw_tbl := lw_at lw_m6 145 rfl
theorem q1487 : (Jvm.Cond.instanceMethod ({ cls := "FrostBoxModel", name := "isWhole", desc := "()Z" } : Jvm.MethodName)) ∈ lw_all := lw_g (lw_at lw_m6 146 rfl) rfl
theorem q1488 : (Jvm.Cond.code ({ cls := "FrostBoxModel", name := "isWhole", desc := "()Z" } : Jvm.MethodName) prog_14_method_35_code (4 : Nat) (Option.some Jvm.ClassFile.FieldType.boolean)) ∈ lw_all := lw_g (lw_at lw_m6 147 rfl) rfl
theorem q1489 : (Jvm.Cond.methodLink "FrostBoxModel" (293 : Nat) ({ cls := "FrostBoxModel", name := "goThrough", desc := "([BII)V" } : Jvm.MethodName)) ∈ lw_all := lw_g (lw_at lw_m6 148 rfl) rfl
theorem q1490 : (Jvm.Cond.privateMethod ({ cls := "FrostBoxModel", name := "goThrough", desc := "([BII)V" } : Jvm.MethodName)) ∈ lw_tbl := lw_at lw_m6 149 rfl
theorem q1491 : (Jvm.Cond.instanceMethod ({ cls := "FrostBoxModel", name := "goThrough", desc := "([BII)V" } : Jvm.MethodName)) ∈ lw_all := lw_g (lw_at lw_m6 150 rfl) rfl
theorem q1492 : (Jvm.Cond.code ({ cls := "FrostBoxModel", name := "goThrough", desc := "([BII)V" } : Jvm.MethodName) prog_14_method_26_code (4 : Nat) (Option.none : Option Jvm.ClassFile.FieldType)) ∈ lw_all := lw_g (lw_at lw_m6 151 rfl) rfl
theorem q1493 : (Jvm.Cond.methodLink "FrostBoxModel" (224 : Nat) ({ cls := "FrostBoxModel", name := "clause", desc := "()V" } : Jvm.MethodName)) ∈ lw_all := lw_g (lw_at lw_m6 152 rfl) rfl
theorem q1494 : (Jvm.Cond.privateMethod ({ cls := "FrostBoxModel", name := "clause", desc := "()V" } : Jvm.MethodName)) ∈ lw_tbl := lw_at lw_m6 153 rfl
theorem q1495 : (Jvm.Cond.instanceMethod ({ cls := "FrostBoxModel", name := "clause", desc := "()V" } : Jvm.MethodName)) ∈ lw_all := lw_g (lw_at lw_m6 154 rfl) rfl
theorem q1496 : (Jvm.Cond.code ({ cls := "FrostBoxModel", name := "clause", desc := "()V" } : Jvm.MethodName) prog_14_method_24_code (5 : Nat) (Option.none : Option Jvm.ClassFile.FieldType)) ∈ lw_all := lw_g (lw_at lw_m6 155 rfl) rfl
theorem q1497 : (Jvm.Cond.methodLink "FrostBoxModel" (167 : Nat) ({ cls := "FrostBoxModel", name := "isAmong", desc := "(Ljava/lang/String;I)Z" } : Jvm.MethodName)) ∈ lw_all := lw_g (lw_at lw_m6 156 rfl) rfl
theorem q1498 : (Jvm.Cond.static ({ cls := "FrostBoxModel", name := "isAmong", desc := "(Ljava/lang/String;I)Z" } : Jvm.MethodName)) ∈ lw_all := lw_g (lw_at lw_m6 157 rfl) rfl
theorem q1499 : (Jvm.Cond.code ({ cls := "FrostBoxModel", name := "isAmong", desc := "(Ljava/lang/String;I)Z" } : Jvm.MethodName) prog_14_method_5_code (3 : Nat) (Option.some Jvm.ClassFile.FieldType.boolean)) ∈ lw_all := lw_g (lw_at lw_m6 158 rfl) rfl
theorem q1500 : (Jvm.Cond.methodLink "FrostBoxModel" (177 : Nat) ({ cls := "FrostBoxModel", name := "takes", desc := "(I)Z" } : Jvm.MethodName)) ∈ lw_all := lw_g (lw_at lw_m6 159 rfl) rfl
theorem q1501 : (Jvm.Cond.privateMethod ({ cls := "FrostBoxModel", name := "takes", desc := "(I)Z" } : Jvm.MethodName)) ∈ lw_tbl := lw_at lw_m6 160 rfl
theorem q1502 : (Jvm.Cond.instanceMethod ({ cls := "FrostBoxModel", name := "takes", desc := "(I)Z" } : Jvm.MethodName)) ∈ lw_all := lw_g (lw_at lw_m6 161 rfl) rfl
theorem q1503 : (Jvm.Cond.code ({ cls := "FrostBoxModel", name := "takes", desc := "(I)Z" } : Jvm.MethodName) prog_14_method_13_code (2 : Nat) (Option.some Jvm.ClassFile.FieldType.boolean)) ∈ lw_all := lw_g (lw_at lw_m6 162 rfl) rfl
theorem q1504 : (Jvm.Cond.methodLink "FrostBoxModel" (200 : Nat) ({ cls := "FrostBoxModel", name := "condition", desc := "(ZI)Z" } : Jvm.MethodName)) ∈ lw_all := lw_g (lw_at lw_m6 163 rfl) rfl
theorem q1505 : (Jvm.Cond.privateMethod ({ cls := "FrostBoxModel", name := "condition", desc := "(ZI)Z" } : Jvm.MethodName)) ∈ lw_tbl := lw_at lw_m6 164 rfl
theorem q1506 : (Jvm.Cond.instanceMethod ({ cls := "FrostBoxModel", name := "condition", desc := "(ZI)Z" } : Jvm.MethodName)) ∈ lw_all := lw_g (lw_at lw_m6 165 rfl) rfl
theorem q1507 : (Jvm.Cond.code ({ cls := "FrostBoxModel", name := "condition", desc := "(ZI)Z" } : Jvm.MethodName) prog_14_method_23_code (5 : Nat) (Option.some Jvm.ClassFile.FieldType.boolean)) ∈ lw_all := lw_g (lw_at lw_m6 166 rfl) rfl
theorem q1508 : (Jvm.Cond.methodLink "FrostBoxModel" (207 : Nat) ({ cls := "FrostBoxModel", name := "part", desc := "(ZI)Z" } : Jvm.MethodName)) ∈ lw_all := lw_g (lw_at lw_m6 167 rfl) rfl
theorem q1509 : (Jvm.Cond.privateMethod ({ cls := "FrostBoxModel", name := "part", desc := "(ZI)Z" } : Jvm.MethodName)) ∈ lw_tbl := lw_at lw_m6 168 rfl
theorem q1510 : (Jvm.Cond.instanceMethod ({ cls := "FrostBoxModel", name := "part", desc := "(ZI)Z" } : Jvm.MethodName)) ∈ lw_all := lw_g (lw_at lw_m6 169 rfl) rfl
theorem q1511 : (Jvm.Cond.code ({ cls := "FrostBoxModel", name := "part", desc := "(ZI)Z" } : Jvm.MethodName) prog_14_method_22_code (5 : Nat) (Option.some Jvm.ClassFile.FieldType.boolean)) ∈ lw_all := lw_g (lw_at lw_m6 170 rfl) rfl
theorem q1512 : (Jvm.Cond.methodLink "FrostBoxModel" (204 : Nat) ({ cls := "FrostBoxModel", name := "compares", desc := "(ZI)Z" } : Jvm.MethodName)) ∈ lw_all := lw_g (lw_at lw_m6 171 rfl) rfl
theorem q1513 : (Jvm.Cond.privateMethod ({ cls := "FrostBoxModel", name := "compares", desc := "(ZI)Z" } : Jvm.MethodName)) ∈ lw_tbl := lw_at lw_m6 172 rfl
theorem q1514 : (Jvm.Cond.instanceMethod ({ cls := "FrostBoxModel", name := "compares", desc := "(ZI)Z" } : Jvm.MethodName)) ∈ lw_all := lw_g (lw_at lw_m6 173 rfl) rfl
theorem q1515 : (Jvm.Cond.code ({ cls := "FrostBoxModel", name := "compares", desc := "(ZI)Z" } : Jvm.MethodName) prog_14_method_20_code (6 : Nat) (Option.some Jvm.ClassFile.FieldType.boolean)) ∈ lw_all := lw_g (lw_at lw_m6 174 rfl) rfl
theorem q1516 : (Jvm.Cond.methodLink "FrostBoxModel" (174 : Nat) ({ cls := "FrostBoxModel", name := "sum", desc := "()I" } : Jvm.MethodName)) ∈ lw_all := lw_g (lw_at lw_m6 175 rfl) rfl
theorem q1517 : (Jvm.Cond.privateMethod ({ cls := "FrostBoxModel", name := "sum", desc := "()I" } : Jvm.MethodName)) ∈ lw_tbl := lw_at lw_m6 176 rfl
theorem q1518 : (Jvm.Cond.instanceMethod ({ cls := "FrostBoxModel", name := "sum", desc := "()I" } : Jvm.MethodName)) ∈ lw_all := lw_g (lw_at lw_m6 177 rfl) rfl
theorem q1519 : (Jvm.Cond.code ({ cls := "FrostBoxModel", name := "sum", desc := "()I" } : Jvm.MethodName) prog_14_method_18_code (5 : Nat) (Option.some Jvm.ClassFile.FieldType.int)) ∈ lw_all := lw_g (lw_at lw_m6 178 rfl) rfl
theorem q1520 : (Jvm.Cond.methodLink "FrostBoxModel" (191 : Nat) ({ cls := "FrostBoxModel", name := "term", desc := "()I" } : Jvm.MethodName)) ∈ lw_all := lw_g (lw_at lw_m6 179 rfl) rfl
theorem q1521 : (Jvm.Cond.privateMethod ({ cls := "FrostBoxModel", name := "term", desc := "()I" } : Jvm.MethodName)) ∈ lw_tbl := lw_at lw_m6 180 rfl
theorem q1522 : (Jvm.Cond.instanceMethod ({ cls := "FrostBoxModel", name := "term", desc := "()I" } : Jvm.MethodName)) ∈ lw_all := lw_g (lw_at lw_m6 181 rfl) rfl
theorem q1523 : (Jvm.Cond.code ({ cls := "FrostBoxModel", name := "term", desc := "()I" } : Jvm.MethodName) prog_14_method_17_code (5 : Nat) (Option.some Jvm.ClassFile.FieldType.int)) ∈ lw_all := lw_g (lw_at lw_m6 182 rfl) rfl
theorem q1524 : (Jvm.Cond.methodLink "FrostBoxModel" (184 : Nat) ({ cls := "FrostBoxModel", name := "atom", desc := "()I" } : Jvm.MethodName)) ∈ lw_all := lw_g (lw_at lw_m6 183 rfl) rfl
theorem q1525 : (Jvm.Cond.privateMethod ({ cls := "FrostBoxModel", name := "atom", desc := "()I" } : Jvm.MethodName)) ∈ lw_tbl := lw_at lw_m6 184 rfl
theorem q1526 : (Jvm.Cond.instanceMethod ({ cls := "FrostBoxModel", name := "atom", desc := "()I" } : Jvm.MethodName)) ∈ lw_all := lw_g (lw_at lw_m6 185 rfl) rfl
theorem q1527 : (Jvm.Cond.code ({ cls := "FrostBoxModel", name := "atom", desc := "()I" } : Jvm.MethodName) prog_14_method_16_code (4 : Nat) (Option.some Jvm.ClassFile.FieldType.int)) ∈ lw_all := lw_g (lw_at lw_m6 186 rfl) rfl
theorem q1528 : (Jvm.Cond.methodLink "FrostBoxModel" (171 : Nat) ({ cls := "FrostBoxModel", name := "goesIn", desc := "()Z" } : Jvm.MethodName)) ∈ lw_all := lw_g (lw_at lw_m6 187 rfl) rfl
theorem q1529 : (Jvm.Cond.privateMethod ({ cls := "FrostBoxModel", name := "goesIn", desc := "()Z" } : Jvm.MethodName)) ∈ lw_tbl := lw_at lw_m6 188 rfl
theorem q1530 : (Jvm.Cond.instanceMethod ({ cls := "FrostBoxModel", name := "goesIn", desc := "()Z" } : Jvm.MethodName)) ∈ lw_all := lw_g (lw_at lw_m6 189 rfl) rfl
theorem q1531 : (Jvm.Cond.code ({ cls := "FrostBoxModel", name := "goesIn", desc := "()Z" } : Jvm.MethodName) prog_14_method_12_code (1 : Nat) (Option.some Jvm.ClassFile.FieldType.boolean)) ∈ lw_all := lw_g (lw_at lw_m6 190 rfl) rfl
theorem q1532 : (Jvm.Cond.methodLink "FrostBoxModel" (187 : Nat) ({ cls := "FrostBoxModel", name := "within", desc := "(J)I" } : Jvm.MethodName)) ∈ lw_all := lw_g (lw_at lw_m6 191 rfl) rfl
theorem q1533 : (Jvm.Cond.static ({ cls := "FrostBoxModel", name := "within", desc := "(J)I" } : Jvm.MethodName)) ∈ lw_all := lw_g (lw_at lw_m6 192 rfl) rfl
theorem q1534 : (Jvm.Cond.code ({ cls := "FrostBoxModel", name := "within", desc := "(J)I" } : Jvm.MethodName) prog_14_method_15_code (2 : Nat) (Option.some Jvm.ClassFile.FieldType.int)) ∈ lw_all := lw_g (lw_at lw_m6 193 rfl) rfl
theorem q1535 : (Jvm.Cond.constantLong "FrostBoxModel" (154 : Nat) (-1000000 : Int64)) ∈ lw_all := lw_g (lw_at lw_m6 194 rfl) rfl
theorem q1536 : (Jvm.Cond.constantLong "FrostBoxModel" (156 : Nat) (1000000 : Int64)) ∈ lw_all := lw_g (lw_at lw_m6 195 rfl) rfl
theorem q1537 : (Jvm.Cond.methodLink "FrostBoxModel" (158 : Nat) ({ cls := "java/lang/Math", name := "min", desc := "(JJ)J" } : Jvm.MethodName)) ∈ lw_all := lw_g (lw_at lw_m6 196 rfl) rfl
theorem q1538 : (Jvm.Cond.methodLink "FrostBoxModel" (164 : Nat) ({ cls := "java/lang/Math", name := "max", desc := "(JJ)J" } : Jvm.MethodName)) ∈ lw_all := lw_g (lw_at lw_m6 197 rfl) rfl
theorem q1539 : (Jvm.Cond.methodLink "FrostBoxModel" (194 : Nat) ({ cls := "FrostBoxModel", name := "isSign", desc := "(I)Z" } : Jvm.MethodName)) ∈ lw_all := lw_g (lw_at lw_m6 198 rfl) rfl
theorem q1540 : (Jvm.Cond.static ({ cls := "FrostBoxModel", name := "isSign", desc := "(I)Z" } : Jvm.MethodName)) ∈ lw_all := lw_g (lw_at lw_m6 199 rfl) rfl
theorem q1541 : (Jvm.Cond.code ({ cls := "FrostBoxModel", name := "isSign", desc := "(I)Z" } : Jvm.MethodName) prog_14_method_19_code (1 : Nat) (Option.some Jvm.ClassFile.FieldType.boolean)) ∈ lw_all := lw_g (lw_at lw_m6 200 rfl) rfl
theorem q1542 : (Jvm.Cond.methodLink "FrostBoxModel" (197 : Nat) ({ cls := "FrostBoxModel", name := "unit", desc := "()Z" } : Jvm.MethodName)) ∈ lw_all := lw_g (lw_at lw_m6 201 rfl) rfl
theorem q1543 : (Jvm.Cond.privateMethod ({ cls := "FrostBoxModel", name := "unit", desc := "()Z" } : Jvm.MethodName)) ∈ lw_tbl := lw_at lw_m6 202 rfl
theorem q1544 : (Jvm.Cond.instanceMethod ({ cls := "FrostBoxModel", name := "unit", desc := "()Z" } : Jvm.MethodName)) ∈ lw_all := lw_g (lw_at lw_m6 203 rfl) rfl
theorem q1545 : (Jvm.Cond.code ({ cls := "FrostBoxModel", name := "unit", desc := "()Z" } : Jvm.MethodName) prog_14_method_21_code (3 : Nat) (Option.some Jvm.ClassFile.FieldType.boolean)) ∈ lw_all := lw_g (lw_at lw_m6 204 rfl) rfl
theorem q1546 : (Jvm.Cond.methodLink "FrostBoxModel" (296 : Nat) ({ cls := "FrostBoxModel", name := "readPlan", desc := "()V" } : Jvm.MethodName)) ∈ lw_all := lw_g (lw_at lw_m6 205 rfl) rfl
theorem q1547 : (Jvm.Cond.privateMethod ({ cls := "FrostBoxModel", name := "readPlan", desc := "()V" } : Jvm.MethodName)) ∈ lw_tbl := lw_at lw_m6 206 rfl
theorem q1548 : (Jvm.Cond.instanceMethod ({ cls := "FrostBoxModel", name := "readPlan", desc := "()V" } : Jvm.MethodName)) ∈ lw_all := lw_g (lw_at lw_m6 207 rfl) rfl
theorem q1549 : (Jvm.Cond.code ({ cls := "FrostBoxModel", name := "readPlan", desc := "()V" } : Jvm.MethodName) prog_14_method_39_code (3 : Nat) (Option.none : Option Jvm.ClassFile.FieldType)) ∈ lw_all := lw_g (lw_at lw_m6 208 rfl) rfl
theorem q1550 : (Jvm.Cond.methodLink "FrostBoxModel" (285 : Nat) ({ cls := "FrostBoxModel", name := "readStep", desc := "(I)V" } : Jvm.MethodName)) ∈ lw_all := lw_g (lw_at lw_m6 209 rfl) rfl
theorem q1551 : (Jvm.Cond.privateMethod ({ cls := "FrostBoxModel", name := "readStep", desc := "(I)V" } : Jvm.MethodName)) ∈ lw_tbl := lw_at lw_m6 210 rfl
theorem q1552 : (Jvm.Cond.instanceMethod ({ cls := "FrostBoxModel", name := "readStep", desc := "(I)V" } : Jvm.MethodName)) ∈ lw_all := lw_g (lw_at lw_m6 211 rfl) rfl
theorem q1553 : (Jvm.Cond.code ({ cls := "FrostBoxModel", name := "readStep", desc := "(I)V" } : Jvm.MethodName) prog_14_method_38_code (3 : Nat) (Option.none : Option Jvm.ClassFile.FieldType)) ∈ lw_all := lw_g (lw_at lw_m6 212 rfl) rfl
theorem q1554 : (Jvm.Cond.stringRef "FrostBoxModel" (280 : Nat) "ptlmc") ∈ lw_tbl := lw_at lw_m6 213 rfl
theorem q1555 : (Jvm.Cond.methodLink "FrostBoxModel" (282 : Nat) ({ cls := "FrostBoxModel", name := "digit", desc := "(I)I" } : Jvm.MethodName)) ∈ lw_all := lw_g (lw_at lw_m6 214 rfl) rfl
theorem q1556 : (Jvm.Cond.privateMethod ({ cls := "FrostBoxModel", name := "digit", desc := "(I)I" } : Jvm.MethodName)) ∈ lw_tbl := lw_at lw_m6 215 rfl
theorem q1557 : (Jvm.Cond.instanceMethod ({ cls := "FrostBoxModel", name := "digit", desc := "(I)I" } : Jvm.MethodName)) ∈ lw_all := lw_g (lw_at lw_m6 216 rfl) rfl
theorem q1558 : (Jvm.Cond.code ({ cls := "FrostBoxModel", name := "digit", desc := "(I)I" } : Jvm.MethodName) prog_14_method_37_code (3 : Nat) (Option.some Jvm.ClassFile.FieldType.int)) ∈ lw_all := lw_g (lw_at lw_m6 217 rfl) rfl
theorem q1560 : (Jvm.Cond.instanceMethod ({ cls := "FrostBoxModel", name := "text", desc := "(I)I" } : Jvm.MethodName)) ∈ lw_all := lw_g (lw_at lw_m6 219 rfl) rfl
theorem q1561 : (Jvm.Cond.selects "FrostBoxModel" ({ cls := "FrostBoxModel", name := "text", desc := "(I)I" } : Jvm.MethodName) ({ cls := "FrostBoxModel", name := "text", desc := "(I)I" } : Jvm.MethodName)) ∈ lw_all := lw_g (lw_at lw_m6 220 rfl) rfl
theorem q1562 : (Jvm.Cond.code ({ cls := "FrostBoxModel", name := "text", desc := "(I)I" } : Jvm.MethodName) prog_14_method_41_code (5 : Nat) (Option.some Jvm.ClassFile.FieldType.int)) ∈ lw_all := lw_g (lw_at lw_m6 221 rfl) rfl
theorem q1563 : (Jvm.Cond.methodLink "FrostBoxModel" (305 : Nat) ({ cls := "FrostBoxModel", name := "fault", desc := "(I)I" } : Jvm.MethodName)) ∈ lw_all := lw_g (lw_at lw_m6 222 rfl) rfl
theorem q1565 : (Jvm.Cond.instanceMethod ({ cls := "FrostBoxModel", name := "rule", desc := "(I)I" } : Jvm.MethodName)) ∈ lw_all := lw_g (lw_at lw_m6 224 rfl) rfl
theorem q1566 : (Jvm.Cond.selects "FrostBoxModel" ({ cls := "FrostBoxModel", name := "rule", desc := "(I)I" } : Jvm.MethodName) ({ cls := "FrostBoxModel", name := "rule", desc := "(I)I" } : Jvm.MethodName)) ∈ lw_all := lw_g (lw_at lw_m6 225 rfl) rfl
theorem q1567 : (Jvm.Cond.code ({ cls := "FrostBoxModel", name := "rule", desc := "(I)I" } : Jvm.MethodName) prog_14_method_53_code (2 : Nat) (Option.some Jvm.ClassFile.FieldType.int)) ∈ lw_all := lw_g (lw_at lw_m6 226 rfl) rfl
theorem q1568 : (Jvm.Cond.constantLong "FrostBoxModel" (354 : Nat) (3 : Int64)) ∈ lw_all := lw_g (lw_at lw_m6 227 rfl) rfl
theorem q1570 : (Jvm.Cond.instanceMethod ({ cls := "FrostBoxModel", name := "kind", desc := "(II)I" } : Jvm.MethodName)) ∈ lw_all := lw_g (lw_at lw_m6 229 rfl) rfl
theorem q1571 : (Jvm.Cond.selects "FrostBoxModel" ({ cls := "FrostBoxModel", name := "kind", desc := "(II)I" } : Jvm.MethodName) ({ cls := "FrostBoxModel", name := "kind", desc := "(II)I" } : Jvm.MethodName)) ∈ lw_all := lw_g (lw_at lw_m6 230 rfl) rfl
theorem q1572 : (Jvm.Cond.code ({ cls := "FrostBoxModel", name := "kind", desc := "(II)I" } : Jvm.MethodName) prog_14_method_54_code (3 : Nat) (Option.some Jvm.ClassFile.FieldType.int)) ∈ lw_all := lw_g (lw_at lw_m6 231 rfl) rfl
theorem q1573 : (Jvm.Cond.methodLink "FrostBoxModel" (356 : Nat) ({ cls := "FrostBoxModel", name := "isKind", desc := "(I)Z" } : Jvm.MethodName)) ∈ lw_all := lw_g (lw_at lw_m6 232 rfl) rfl
theorem q1574 : (Jvm.Cond.privateMethod ({ cls := "FrostBoxModel", name := "isKind", desc := "(I)Z" } : Jvm.MethodName)) ∈ lw_tbl := lw_at lw_m6 233 rfl
theorem q1575 : (Jvm.Cond.instanceMethod ({ cls := "FrostBoxModel", name := "isKind", desc := "(I)Z" } : Jvm.MethodName)) ∈ lw_all := lw_g (lw_at lw_m6 234 rfl) rfl
theorem q1576 : (Jvm.Cond.code ({ cls := "FrostBoxModel", name := "isKind", desc := "(I)Z" } : Jvm.MethodName) prog_14_method_43_code (2 : Nat) (Option.some Jvm.ClassFile.FieldType.boolean)) ∈ lw_all := lw_g (lw_at lw_m6 235 rfl) rfl
theorem q1577 : (Jvm.Cond.constantLong "FrostBoxModel" (359 : Nat) (4 : Int64)) ∈ lw_all := lw_g (lw_at lw_m6 236 rfl) rfl
theorem q1578 : (Jvm.Cond.methodLink "FrostBoxModel" (322 : Nat) ({ cls := "FrostBoxModel", name := "told", desc := "(II)I" } : Jvm.MethodName)) ∈ lw_all := lw_g (lw_at lw_m6 237 rfl) rfl
theorem q1579 : (Jvm.Cond.privateMethod ({ cls := "FrostBoxModel", name := "told", desc := "(II)I" } : Jvm.MethodName)) ∈ lw_tbl := lw_at lw_m6 238 rfl
theorem q1580 : (Jvm.Cond.instanceMethod ({ cls := "FrostBoxModel", name := "told", desc := "(II)I" } : Jvm.MethodName)) ∈ lw_all := lw_g (lw_at lw_m6 239 rfl) rfl
theorem q1581 : (Jvm.Cond.code ({ cls := "FrostBoxModel", name := "told", desc := "(II)I" } : Jvm.MethodName) prog_14_method_45_code (3 : Nat) (Option.some Jvm.ClassFile.FieldType.int)) ∈ lw_all := lw_g (lw_at lw_m7 0 rfl) rfl
theorem q1583 : (Jvm.Cond.instanceMethod ({ cls := "FrostBoxModel", name := "box", desc := "(II)I" } : Jvm.MethodName)) ∈ lw_all := lw_g (lw_at lw_m7 2 rfl) rfl
theorem q1584 : (Jvm.Cond.selects "FrostBoxModel" ({ cls := "FrostBoxModel", name := "box", desc := "(II)I" } : Jvm.MethodName) ({ cls := "FrostBoxModel", name := "box", desc := "(II)I" } : Jvm.MethodName)) ∈ lw_all := lw_g (lw_at lw_m7 3 rfl) rfl
theorem q1585 : (Jvm.Cond.code ({ cls := "FrostBoxModel", name := "box", desc := "(II)I" } : Jvm.MethodName) prog_14_method_55_code (3 : Nat) (Option.some Jvm.ClassFile.FieldType.int)) ∈ lw_all := lw_g (lw_at lw_m7 4 rfl) rfl
theorem q1586 : (Jvm.Cond.methodLink "FrostBoxModel" (361 : Nat) ({ cls := "FrostBoxModel", name := "isBox", desc := "([II)Z" } : Jvm.MethodName)) ∈ lw_all := lw_g (lw_at lw_m7 5 rfl) rfl
theorem q1587 : (Jvm.Cond.privateMethod ({ cls := "FrostBoxModel", name := "isBox", desc := "([II)Z" } : Jvm.MethodName)) ∈ lw_tbl := lw_at lw_m7 6 rfl
theorem q1588 : (Jvm.Cond.instanceMethod ({ cls := "FrostBoxModel", name := "isBox", desc := "([II)Z" } : Jvm.MethodName)) ∈ lw_all := lw_g (lw_at lw_m7 7 rfl) rfl
theorem q1589 : (Jvm.Cond.code ({ cls := "FrostBoxModel", name := "isBox", desc := "([II)Z" } : Jvm.MethodName) prog_14_method_44_code (3 : Nat) (Option.some Jvm.ClassFile.FieldType.boolean)) ∈ lw_all := lw_g (lw_at lw_m7 8 rfl) rfl
theorem q1590 : (Jvm.Cond.constantLong "FrostBoxModel" (365 : Nat) (6 : Int64)) ∈ lw_all := lw_g (lw_at lw_m7 9 rfl) rfl
theorem q1591 : (Jvm.Cond.methodLink "FrostBoxModel" (350 : Nat) ({ cls := "FrostBoxModel", name := "valueOf", desc := "([II)I" } : Jvm.MethodName)) ∈ lw_all := lw_g (lw_at lw_m7 10 rfl) rfl
theorem q1592 : (Jvm.Cond.privateMethod ({ cls := "FrostBoxModel", name := "valueOf", desc := "([II)I" } : Jvm.MethodName)) ∈ lw_tbl := lw_at lw_m7 11 rfl
theorem q1593 : (Jvm.Cond.instanceMethod ({ cls := "FrostBoxModel", name := "valueOf", desc := "([II)I" } : Jvm.MethodName)) ∈ lw_all := lw_g (lw_at lw_m7 12 rfl) rfl
theorem q1594 : (Jvm.Cond.code ({ cls := "FrostBoxModel", name := "valueOf", desc := "([II)I" } : Jvm.MethodName) prog_14_method_49_code (3 : Nat) (Option.some Jvm.ClassFile.FieldType.int)) ∈ lw_all := lw_g (lw_at lw_m7 13 rfl) rfl
theorem q1595 : (Jvm.Cond.methodLink "FrostBoxModel" (346 : Nat) ({ cls := "FrostBoxModel", name := "valueOn", desc := "([IIII)I" } : Jvm.MethodName)) ∈ lw_all := lw_g (lw_at lw_m7 14 rfl) rfl
theorem q1596 : (Jvm.Cond.privateMethod ({ cls := "FrostBoxModel", name := "valueOn", desc := "([IIII)I" } : Jvm.MethodName)) ∈ lw_tbl := lw_at lw_m7 15 rfl
theorem q1597 : (Jvm.Cond.instanceMethod ({ cls := "FrostBoxModel", name := "valueOn", desc := "([IIII)I" } : Jvm.MethodName)) ∈ lw_all := lw_g (lw_at lw_m7 16 rfl) rfl
theorem q1598 : (Jvm.Cond.code ({ cls := "FrostBoxModel", name := "valueOn", desc := "([IIII)I" } : Jvm.MethodName) prog_14_method_48_code (6 : Nat) (Option.some Jvm.ClassFile.FieldType.int)) ∈ lw_all := lw_g (lw_at lw_m7 17 rfl) rfl
theorem q1599 : (Jvm.Cond.methodLink "FrostBoxModel" (330 : Nat) ({ cls := "java/lang/Math", name := "min", desc := "(II)I" } : Jvm.MethodName)) ∈ lw_all := lw_g (lw_at lw_m7 18 rfl) rfl
theorem q1600 : (Jvm.Cond.methodLink "FrostBoxModel" (342 : Nat) ({ cls := "FrostBoxModel", name := "portionOf", desc := "(IIIII)I" } : Jvm.MethodName)) ∈ lw_all := lw_g (lw_at lw_m7 19 rfl) rfl
theorem q1601 : (Jvm.Cond.privateMethod ({ cls := "FrostBoxModel", name := "portionOf", desc := "(IIIII)I" } : Jvm.MethodName)) ∈ lw_tbl := lw_at lw_m7 20 rfl
theorem q1602 : (Jvm.Cond.instanceMethod ({ cls := "FrostBoxModel", name := "portionOf", desc := "(IIIII)I" } : Jvm.MethodName)) ∈ lw_all := lw_g (lw_at lw_m7 21 rfl) rfl
theorem q1603 : (Jvm.Cond.code ({ cls := "FrostBoxModel", name := "portionOf", desc := "(IIIII)I" } : Jvm.MethodName) prog_14_method_46_code (7 : Nat) (Option.some Jvm.ClassFile.FieldType.int)) ∈ lw_all := lw_g (lw_at lw_m7 22 rfl) rfl
theorem q1604 : (Jvm.Cond.methodLink "FrostBoxModel" (325 : Nat) ({ cls := "java/lang/Math", name := "max", desc := "(II)I" } : Jvm.MethodName)) ∈ lw_all := lw_g (lw_at lw_m7 23 rfl) rfl
theorem q1605 : (Jvm.Cond.methodLink "FrostBoxModel" (327 : Nat) ({ cls := "FrostBoxModel", name := "worthNow", desc := "()I" } : Jvm.MethodName)) ∈ lw_all := lw_g (lw_at lw_m7 24 rfl) rfl
theorem q1606 : (Jvm.Cond.privateMethod ({ cls := "FrostBoxModel", name := "worthNow", desc := "()I" } : Jvm.MethodName)) ∈ lw_tbl := lw_at lw_m7 25 rfl
theorem q1607 : (Jvm.Cond.instanceMethod ({ cls := "FrostBoxModel", name := "worthNow", desc := "()I" } : Jvm.MethodName)) ∈ lw_all := lw_g (lw_at lw_m7 26 rfl) rfl
theorem q1608 : (Jvm.Cond.code ({ cls := "FrostBoxModel", name := "worthNow", desc := "()I" } : Jvm.MethodName) prog_14_method_47_code (4 : Nat) (Option.some Jvm.ClassFile.FieldType.int)) ∈ lw_all := lw_g (lw_at lw_m7 27 rfl) rfl
theorem q1609 : (Jvm.Cond.constantLong "FrostBoxModel" (332 : Nat) (100 : Int64)) ∈ lw_all := lw_g (lw_at lw_m7 28 rfl) rfl
theorem q1610 : (Jvm.Cond.constantLong "FrostBoxModel" (334 : Nat) (40 : Int64)) ∈ lw_all := lw_g (lw_at lw_m7 29 rfl) rfl
theorem q1611 : (Jvm.Cond.constantLong "FrostBoxModel" (336 : Nat) (10 : Int64)) ∈ lw_all := lw_g (lw_at lw_m7 30 rfl) rfl
theorem q1612 : (Jvm.Cond.constantLong "FrostBoxModel" (338 : Nat) (5 : Int64)) ∈ lw_all := lw_g (lw_at lw_m7 31 rfl) rfl
theorem q1613 : (Jvm.Cond.constantLong "FrostBoxModel" (340 : Nat) (8191 : Int64)) ∈ lw_all := lw_g (lw_at lw_m7 32 rfl) rfl
theorem q1614 : (Jvm.Cond.methodLink "FrostBoxModel" (367 : Nat) ({ cls := "FrostBoxModel", name := "weightOf", desc := "([II)I" } : Jvm.MethodName)) ∈ lw_all := lw_g (lw_at lw_m7 33 rfl) rfl
theorem q1615 : (Jvm.Cond.privateMethod ({ cls := "FrostBoxModel", name := "weightOf", desc := "([II)I" } : Jvm.MethodName)) ∈ lw_tbl := lw_at lw_m7 34 rfl
theorem q1616 : (Jvm.Cond.instanceMethod ({ cls := "FrostBoxModel", name := "weightOf", desc := "([II)I" } : Jvm.MethodName)) ∈ lw_all := lw_g (lw_at lw_m7 35 rfl) rfl
theorem q1617 : (Jvm.Cond.code ({ cls := "FrostBoxModel", name := "weightOf", desc := "([II)I" } : Jvm.MethodName) prog_14_method_52_code (3 : Nat) (Option.some Jvm.ClassFile.FieldType.int)) ∈ lw_all := lw_g (lw_at lw_m7 36 rfl) rfl
theorem q1619 : (Jvm.Cond.instanceMethod ({ cls := "FrostBoxModel", name := "law", desc := "(I)Z" } : Jvm.MethodName)) ∈ lw_all := lw_g (lw_at lw_m7 38 rfl) rfl
theorem q1620 : (Jvm.Cond.selects "FrostBoxModel" ({ cls := "FrostBoxModel", name := "law", desc := "(I)Z" } : Jvm.MethodName) ({ cls := "FrostBoxModel", name := "law", desc := "(I)Z" } : Jvm.MethodName)) ∈ lw_all := lw_g (lw_at lw_m7 39 rfl) rfl
theorem q1621 : (Jvm.Cond.code ({ cls := "FrostBoxModel", name := "law", desc := "(I)Z" } : Jvm.MethodName) prog_14_method_56_code (2 : Nat) (Option.some Jvm.ClassFile.FieldType.boolean)) ∈ lw_all := lw_g (lw_at lw_m7 40 rfl) rfl
theorem q1623 : (Jvm.Cond.instanceMethod ({ cls := "FrostBoxModel", name := "habit", desc := "(I)Z" } : Jvm.MethodName)) ∈ lw_all := lw_g (lw_at lw_m7 42 rfl) rfl
theorem q1624 : (Jvm.Cond.selects "FrostBoxModel" ({ cls := "FrostBoxModel", name := "habit", desc := "(I)Z" } : Jvm.MethodName) ({ cls := "FrostBoxModel", name := "habit", desc := "(I)Z" } : Jvm.MethodName)) ∈ lw_all := lw_g (lw_at lw_m7 43 rfl) rfl
theorem q1625 : (Jvm.Cond.code ({ cls := "FrostBoxModel", name := "habit", desc := "(I)Z" } : Jvm.MethodName) prog_14_method_57_code (2 : Nat) (Option.some Jvm.ClassFile.FieldType.boolean)) ∈ lw_all := lw_g (lw_at lw_m7 44 rfl) rfl
theorem q1626 : (Jvm.Cond.constantLong "FrostBoxModel" (370 : Nat) (9 : Int64)) ∈ lw_all := lw_g (lw_at lw_m7 45 rfl) rfl
theorem q1628 : (Jvm.Cond.instanceMethod ({ cls := "FrostBoxModel", name := "put", desc := "(IIZ)I" } : Jvm.MethodName)) ∈ lw_all := lw_g (lw_at lw_m7 47 rfl) rfl
theorem q1629 : (Jvm.Cond.selects "FrostBoxModel" ({ cls := "FrostBoxModel", name := "put", desc := "(IIZ)I" } : Jvm.MethodName) ({ cls := "FrostBoxModel", name := "put", desc := "(IIZ)I" } : Jvm.MethodName)) ∈ lw_all := lw_g (lw_at lw_m7 48 rfl) rfl
theorem q1630 : (Jvm.Cond.code ({ cls := "FrostBoxModel", name := "put", desc := "(IIZ)I" } : Jvm.MethodName) prog_14_method_61_code (4 : Nat) (Option.some Jvm.ClassFile.FieldType.int)) ∈ lw_all := lw_g (lw_at lw_m7 49 rfl) rfl
theorem q1631 : (Jvm.Cond.methodLink "FrostBoxModel" (376 : Nat) ({ cls := "FrostBoxModel", name := "canPut", desc := "([III)Z" } : Jvm.MethodName)) ∈ lw_all := lw_g (lw_at lw_m7 50 rfl) rfl
theorem q1632 : (Jvm.Cond.privateMethod ({ cls := "FrostBoxModel", name := "canPut", desc := "([III)Z" } : Jvm.MethodName)) ∈ lw_tbl := lw_at lw_m7 51 rfl
theorem q1633 : (Jvm.Cond.instanceMethod ({ cls := "FrostBoxModel", name := "canPut", desc := "([III)Z" } : Jvm.MethodName)) ∈ lw_all := lw_g (lw_at lw_m7 52 rfl) rfl
theorem q1634 : (Jvm.Cond.code ({ cls := "FrostBoxModel", name := "canPut", desc := "([III)Z" } : Jvm.MethodName) prog_14_method_59_code (4 : Nat) (Option.some Jvm.ClassFile.FieldType.boolean)) ∈ lw_all := lw_g (lw_at lw_m7 53 rfl) rfl
theorem q1635 : (Jvm.Cond.methodLink "FrostBoxModel" (372 : Nat) ({ cls := "FrostBoxModel", name := "sumIn", desc := "([I)I" } : Jvm.MethodName)) ∈ lw_all := lw_g (lw_at lw_m7 54 rfl) rfl
theorem q1636 : (Jvm.Cond.privateMethod ({ cls := "FrostBoxModel", name := "sumIn", desc := "([I)I" } : Jvm.MethodName)) ∈ lw_tbl := lw_at lw_m7 55 rfl
theorem q1637 : (Jvm.Cond.instanceMethod ({ cls := "FrostBoxModel", name := "sumIn", desc := "([I)I" } : Jvm.MethodName)) ∈ lw_all := lw_g (lw_at lw_m7 56 rfl) rfl
theorem q1638 : (Jvm.Cond.code ({ cls := "FrostBoxModel", name := "sumIn", desc := "([I)I" } : Jvm.MethodName) prog_14_method_50_code (4 : Nat) (Option.some Jvm.ClassFile.FieldType.int)) ∈ lw_all := lw_g (lw_at lw_m7 57 rfl) rfl
theorem q1639 : (Jvm.Cond.methodLink "FrostBoxModel" (380 : Nat) ({ cls := "FrostBoxModel", name := "remember", desc := "()V" } : Jvm.MethodName)) ∈ lw_all := lw_g (lw_at lw_m7 58 rfl) rfl
theorem q1640 : (Jvm.Cond.privateMethod ({ cls := "FrostBoxModel", name := "remember", desc := "()V" } : Jvm.MethodName)) ∈ lw_tbl := lw_at lw_m7 59 rfl
theorem q1641 : (Jvm.Cond.instanceMethod ({ cls := "FrostBoxModel", name := "remember", desc := "()V" } : Jvm.MethodName)) ∈ lw_all := lw_g (lw_at lw_m7 60 rfl) rfl
theorem q1642 : (Jvm.Cond.code ({ cls := "FrostBoxModel", name := "remember", desc := "()V" } : Jvm.MethodName) prog_14_method_58_code (2 : Nat) (Option.none : Option Jvm.ClassFile.FieldType)) ∈ lw_all := lw_g (lw_at lw_m7 61 rfl) rfl
theorem q1643 : (Jvm.Cond.methodLink "FrostBoxModel" (383 : Nat) ({ cls := "FrostBoxModel", name := "puts", desc := "([IIII)V" } : Jvm.MethodName)) ∈ lw_all := lw_g (lw_at lw_m7 62 rfl) rfl
theorem q1644 : (Jvm.Cond.static ({ cls := "FrostBoxModel", name := "puts", desc := "([IIII)V" } : Jvm.MethodName)) ∈ lw_all := lw_g (lw_at lw_m7 63 rfl) rfl
theorem q1645 : (Jvm.Cond.code ({ cls := "FrostBoxModel", name := "puts", desc := "([IIII)V" } : Jvm.MethodName) prog_14_method_60_code (5 : Nat) (Option.none : Option Jvm.ClassFile.FieldType)) ∈ lw_all := lw_g (lw_at lw_m7 64 rfl) rfl
theorem q1647 : (Jvm.Cond.instanceMethod ({ cls := "FrostBoxModel", name := "take", desc := "(I)I" } : Jvm.MethodName)) ∈ lw_all := lw_g (lw_at lw_m7 66 rfl) rfl
theorem q1648 : (Jvm.Cond.selects "FrostBoxModel" ({ cls := "FrostBoxModel", name := "take", desc := "(I)I" } : Jvm.MethodName) ({ cls := "FrostBoxModel", name := "take", desc := "(I)I" } : Jvm.MethodName)) ∈ lw_all := lw_g (lw_at lw_m7 67 rfl) rfl
theorem q1649 : (Jvm.Cond.code ({ cls := "FrostBoxModel", name := "take", desc := "(I)I" } : Jvm.MethodName) prog_14_method_64_code (2 : Nat) (Option.some Jvm.ClassFile.FieldType.int)) ∈ lw_all := lw_g (lw_at lw_m7 68 rfl) rfl
theorem q1650 : (Jvm.Cond.methodLink "FrostBoxModel" (391 : Nat) ({ cls := "FrostBoxModel", name := "eats", desc := "([II)I" } : Jvm.MethodName)) ∈ lw_all := lw_g (lw_at lw_m7 69 rfl) rfl
theorem q1651 : (Jvm.Cond.privateMethod ({ cls := "FrostBoxModel", name := "eats", desc := "([II)I" } : Jvm.MethodName)) ∈ lw_tbl := lw_at lw_m7 70 rfl
theorem q1652 : (Jvm.Cond.instanceMethod ({ cls := "FrostBoxModel", name := "eats", desc := "([II)I" } : Jvm.MethodName)) ∈ lw_all := lw_g (lw_at lw_m7 71 rfl) rfl
theorem q1653 : (Jvm.Cond.code ({ cls := "FrostBoxModel", name := "eats", desc := "([II)I" } : Jvm.MethodName) prog_14_method_63_code (5 : Nat) (Option.some Jvm.ClassFile.FieldType.int)) ∈ lw_all := lw_g (lw_at lw_m7 72 rfl) rfl
theorem q1654 : (Jvm.Cond.methodLink "FrostBoxModel" (387 : Nat) ({ cls := "FrostBoxModel", name := "drops", desc := "([II)V" } : Jvm.MethodName)) ∈ lw_all := lw_g (lw_at lw_m7 73 rfl) rfl
theorem q1655 : (Jvm.Cond.static ({ cls := "FrostBoxModel", name := "drops", desc := "([II)V" } : Jvm.MethodName)) ∈ lw_all := lw_g (lw_at lw_m7 74 rfl) rfl
theorem q1656 : (Jvm.Cond.code ({ cls := "FrostBoxModel", name := "drops", desc := "([II)V" } : Jvm.MethodName) prog_14_method_62_code (3 : Nat) (Option.none : Option Jvm.ClassFile.FieldType)) ∈ lw_all := lw_g (lw_at lw_m7 75 rfl) rfl
theorem q1658 : (Jvm.Cond.instanceMethod ({ cls := "FrostBoxModel", name := "label", desc := "(I)Z" } : Jvm.MethodName)) ∈ lw_all := lw_g (lw_at lw_m7 77 rfl) rfl
theorem q1659 : (Jvm.Cond.selects "FrostBoxModel" ({ cls := "FrostBoxModel", name := "label", desc := "(I)Z" } : Jvm.MethodName) ({ cls := "FrostBoxModel", name := "label", desc := "(I)Z" } : Jvm.MethodName)) ∈ lw_all := lw_g (lw_at lw_m7 78 rfl) rfl
theorem q1660 : (Jvm.Cond.code ({ cls := "FrostBoxModel", name := "label", desc := "(I)Z" } : Jvm.MethodName) prog_14_method_67_code (2 : Nat) (Option.some Jvm.ClassFile.FieldType.boolean)) ∈ lw_all := lw_g (lw_at lw_m7 79 rfl) rfl
theorem q1661 : (Jvm.Cond.methodLink "FrostBoxModel" (394 : Nat) ({ cls := "FrostBoxModel", name := "canLabel", desc := "([II)Z" } : Jvm.MethodName)) ∈ lw_all := lw_g (lw_at lw_m7 80 rfl) rfl
theorem q1662 : (Jvm.Cond.privateMethod ({ cls := "FrostBoxModel", name := "canLabel", desc := "([II)Z" } : Jvm.MethodName)) ∈ lw_tbl := lw_at lw_m7 81 rfl
theorem q1663 : (Jvm.Cond.instanceMethod ({ cls := "FrostBoxModel", name := "canLabel", desc := "([II)Z" } : Jvm.MethodName)) ∈ lw_all := lw_g (lw_at lw_m7 82 rfl) rfl
theorem q1664 : (Jvm.Cond.code ({ cls := "FrostBoxModel", name := "canLabel", desc := "([II)Z" } : Jvm.MethodName) prog_14_method_65_code (3 : Nat) (Option.some Jvm.ClassFile.FieldType.boolean)) ∈ lw_all := lw_g (lw_at lw_m7 83 rfl) rfl
theorem q1665 : (Jvm.Cond.methodLink "FrostBoxModel" (397 : Nat) ({ cls := "FrostBoxModel", name := "names", desc := "([II)V" } : Jvm.MethodName)) ∈ lw_all := lw_g (lw_at lw_m7 84 rfl) rfl
theorem q1666 : (Jvm.Cond.static ({ cls := "FrostBoxModel", name := "names", desc := "([II)V" } : Jvm.MethodName)) ∈ lw_all := lw_g (lw_at lw_m7 85 rfl) rfl
theorem q1667 : (Jvm.Cond.code ({ cls := "FrostBoxModel", name := "names", desc := "([II)V" } : Jvm.MethodName) prog_14_method_66_code (2 : Nat) (Option.none : Option Jvm.ClassFile.FieldType)) ∈ lw_all := lw_g (lw_at lw_m7 86 rfl) rfl
theorem q1669 : (Jvm.Cond.instanceMethod ({ cls := "FrostBoxModel", name := "months", desc := "(I)I" } : Jvm.MethodName)) ∈ lw_all := lw_g (lw_at lw_m7 88 rfl) rfl
theorem q1670 : (Jvm.Cond.selects "FrostBoxModel" ({ cls := "FrostBoxModel", name := "months", desc := "(I)I" } : Jvm.MethodName) ({ cls := "FrostBoxModel", name := "months", desc := "(I)I" } : Jvm.MethodName)) ∈ lw_all := lw_g (lw_at lw_m7 89 rfl) rfl
theorem q1671 : (Jvm.Cond.code ({ cls := "FrostBoxModel", name := "months", desc := "(I)I" } : Jvm.MethodName) prog_14_method_71_code (3 : Nat) (Option.some Jvm.ClassFile.FieldType.int)) ∈ lw_all := lw_g (lw_at lw_m7 90 rfl) rfl
theorem q1672 : (Jvm.Cond.methodLink "FrostBoxModel" (403 : Nat) ({ cls := "FrostBoxModel", name := "mayPass", desc := "([III)Z" } : Jvm.MethodName)) ∈ lw_all := lw_g (lw_at lw_m7 91 rfl) rfl
theorem q1673 : (Jvm.Cond.privateMethod ({ cls := "FrostBoxModel", name := "mayPass", desc := "([III)Z" } : Jvm.MethodName)) ∈ lw_tbl := lw_at lw_m7 92 rfl
theorem q1674 : (Jvm.Cond.instanceMethod ({ cls := "FrostBoxModel", name := "mayPass", desc := "([III)Z" } : Jvm.MethodName)) ∈ lw_all := lw_g (lw_at lw_m7 93 rfl) rfl
theorem q1675 : (Jvm.Cond.code ({ cls := "FrostBoxModel", name := "mayPass", desc := "([III)Z" } : Jvm.MethodName) prog_14_method_70_code (4 : Nat) (Option.some Jvm.ClassFile.FieldType.boolean)) ∈ lw_all := lw_g (lw_at lw_m7 94 rfl) rfl
theorem q1676 : (Jvm.Cond.methodLink "FrostBoxModel" (406 : Nat) ({ cls := "FrostBoxModel", name := "goMonth", desc := "([I)V" } : Jvm.MethodName)) ∈ lw_all := lw_g (lw_at lw_m7 95 rfl) rfl
theorem q1677 : (Jvm.Cond.privateMethod ({ cls := "FrostBoxModel", name := "goMonth", desc := "([I)V" } : Jvm.MethodName)) ∈ lw_tbl := lw_at lw_m7 96 rfl
theorem q1678 : (Jvm.Cond.instanceMethod ({ cls := "FrostBoxModel", name := "goMonth", desc := "([I)V" } : Jvm.MethodName)) ∈ lw_all := lw_g (lw_at lw_m7 97 rfl) rfl
theorem q1679 : (Jvm.Cond.code ({ cls := "FrostBoxModel", name := "goMonth", desc := "([I)V" } : Jvm.MethodName) prog_14_method_69_code (3 : Nat) (Option.none : Option Jvm.ClassFile.FieldType)) ∈ lw_all := lw_g (lw_at lw_m7 98 rfl) rfl
theorem q1680 : (Jvm.Cond.methodLink "FrostBoxModel" (400 : Nat) ({ cls := "FrostBoxModel", name := "ages", desc := "([II)V" } : Jvm.MethodName)) ∈ lw_all := lw_g (lw_at lw_m7 99 rfl) rfl
theorem q1681 : (Jvm.Cond.privateMethod ({ cls := "FrostBoxModel", name := "ages", desc := "([II)V" } : Jvm.MethodName)) ∈ lw_tbl := lw_at lw_m7 100 rfl
theorem q1682 : (Jvm.Cond.instanceMethod ({ cls := "FrostBoxModel", name := "ages", desc := "([II)V" } : Jvm.MethodName)) ∈ lw_all := lw_g (lw_at lw_m7 101 rfl) rfl
theorem q1683 : (Jvm.Cond.code ({ cls := "FrostBoxModel", name := "ages", desc := "([II)V" } : Jvm.MethodName) prog_14_method_68_code (4 : Nat) (Option.none : Option Jvm.ClassFile.FieldType)) ∈ lw_all := lw_g (lw_at lw_m7 102 rfl) rfl
theorem q1685 : (Jvm.Cond.instanceMethod ({ cls := "FrostBoxModel", name := "off", desc := "(I)I" } : Jvm.MethodName)) ∈ lw_all := lw_g (lw_at lw_m7 104 rfl) rfl
theorem q1686 : (Jvm.Cond.selects "FrostBoxModel" ({ cls := "FrostBoxModel", name := "off", desc := "(I)I" } : Jvm.MethodName) ({ cls := "FrostBoxModel", name := "off", desc := "(I)I" } : Jvm.MethodName)) ∈ lw_all := lw_g (lw_at lw_m7 105 rfl) rfl
theorem q1687 : (Jvm.Cond.code ({ cls := "FrostBoxModel", name := "off", desc := "(I)I" } : Jvm.MethodName) prog_14_method_74_code (3 : Nat) (Option.some Jvm.ClassFile.FieldType.int)) ∈ lw_all := lw_g (lw_at lw_m7 106 rfl) rfl
theorem q1688 : (Jvm.Cond.methodLink "FrostBoxModel" (412 : Nat) ({ cls := "FrostBoxModel", name := "isHours", desc := "(I)Z" } : Jvm.MethodName)) ∈ lw_all := lw_g (lw_at lw_m7 107 rfl) rfl
theorem q1689 : (Jvm.Cond.privateMethod ({ cls := "FrostBoxModel", name := "isHours", desc := "(I)Z" } : Jvm.MethodName)) ∈ lw_tbl := lw_at lw_m7 108 rfl
theorem q1690 : (Jvm.Cond.instanceMethod ({ cls := "FrostBoxModel", name := "isHours", desc := "(I)Z" } : Jvm.MethodName)) ∈ lw_all := lw_g (lw_at lw_m7 109 rfl) rfl
theorem q1691 : (Jvm.Cond.code ({ cls := "FrostBoxModel", name := "isHours", desc := "(I)Z" } : Jvm.MethodName) prog_14_method_73_code (2 : Nat) (Option.some Jvm.ClassFile.FieldType.boolean)) ∈ lw_all := lw_g (lw_at lw_m7 110 rfl) rfl
theorem q1692 : (Jvm.Cond.constantLong "FrostBoxModel" (410 : Nat) (99 : Int64)) ∈ lw_all := lw_g (lw_at lw_m7 111 rfl) rfl
theorem q1693 : (Jvm.Cond.methodLink "FrostBoxModel" (415 : Nat) ({ cls := "FrostBoxModel", name := "moreThanBorne", desc := "(II)I" } : Jvm.MethodName)) ∈ lw_all := lw_g (lw_at lw_m7 112 rfl) rfl
theorem q1694 : (Jvm.Cond.privateMethod ({ cls := "FrostBoxModel", name := "moreThanBorne", desc := "(II)I" } : Jvm.MethodName)) ∈ lw_tbl := lw_at lw_m7 113 rfl
theorem q1695 : (Jvm.Cond.instanceMethod ({ cls := "FrostBoxModel", name := "moreThanBorne", desc := "(II)I" } : Jvm.MethodName)) ∈ lw_all := lw_g (lw_at lw_m7 114 rfl) rfl
theorem q1696 : (Jvm.Cond.code ({ cls := "FrostBoxModel", name := "moreThanBorne", desc := "(II)I" } : Jvm.MethodName) prog_14_method_72_code (3 : Nat) (Option.some Jvm.ClassFile.FieldType.int)) ∈ lw_all := lw_g (lw_at lw_m7 115 rfl) rfl
theorem q1698 : (Jvm.Cond.instanceMethod ({ cls := "FrostBoxModel", name := "years", desc := "(IJ)I" } : Jvm.MethodName)) ∈ lw_all := lw_g (lw_at lw_m7 117 rfl) rfl
theorem q1699 : (Jvm.Cond.selects "FrostBoxModel" ({ cls := "FrostBoxModel", name := "years", desc := "(IJ)I" } : Jvm.MethodName) ({ cls := "FrostBoxModel", name := "years", desc := "(IJ)I" } : Jvm.MethodName)) ∈ lw_all := lw_g (lw_at lw_m7 118 rfl) rfl
theorem q1700 : (Jvm.Cond.code ({ cls := "FrostBoxModel", name := "years", desc := "(IJ)I" } : Jvm.MethodName) prog_14_method_76_code (10 : Nat) (Option.some Jvm.ClassFile.FieldType.int)) ∈ lw_all := lw_g (lw_at lw_m7 119 rfl) rfl
theorem q1701 : (Jvm.Cond.methodLink "FrostBoxModel" (426 : Nat) ({ cls := "FrostBoxModel", name := "draw", desc := "(I)I" } : Jvm.MethodName)) ∈ lw_all := lw_g (lw_at lw_m7 120 rfl) rfl
theorem q1702 : (Jvm.Cond.privateMethod ({ cls := "FrostBoxModel", name := "draw", desc := "(I)I" } : Jvm.MethodName)) ∈ lw_tbl := lw_at lw_m7 121 rfl
theorem q1703 : (Jvm.Cond.instanceMethod ({ cls := "FrostBoxModel", name := "draw", desc := "(I)I" } : Jvm.MethodName)) ∈ lw_all := lw_g (lw_at lw_m7 122 rfl) rfl
theorem q1704 : (Jvm.Cond.code ({ cls := "FrostBoxModel", name := "draw", desc := "(I)I" } : Jvm.MethodName) prog_14_method_75_code (2 : Nat) (Option.some Jvm.ClassFile.FieldType.int)) ∈ lw_all := lw_g (lw_at lw_m7 123 rfl) rfl
theorem q1705 : (Jvm.Cond.constantLong "FrostBoxModel" (422 : Nat) (6364136223846793005 : Int64)) ∈ lw_all := lw_g (lw_at lw_m7 124 rfl) rfl
theorem q1706 : (Jvm.Cond.constantLong "FrostBoxModel" (424 : Nat) (1442695040888963407 : Int64)) ∈ lw_all := lw_g (lw_at lw_m7 125 rfl) rfl
theorem q1708 : (Jvm.Cond.instanceMethod ({ cls := "FrostBoxModel", name := "undo", desc := "()I" } : Jvm.MethodName)) ∈ lw_all := lw_g (lw_at lw_m7 127 rfl) rfl
theorem q1709 : (Jvm.Cond.selects "FrostBoxModel" ({ cls := "FrostBoxModel", name := "undo", desc := "()I" } : Jvm.MethodName) ({ cls := "FrostBoxModel", name := "undo", desc := "()I" } : Jvm.MethodName)) ∈ lw_all := lw_g (lw_at lw_m7 128 rfl) rfl
theorem q1710 : (Jvm.Cond.code ({ cls := "FrostBoxModel", name := "undo", desc := "()I" } : Jvm.MethodName) prog_14_method_77_code (2 : Nat) (Option.some Jvm.ClassFile.FieldType.int)) ∈ lw_all := lw_g (lw_at lw_m7 129 rfl) rfl
theorem q1712 : (Jvm.Cond.instanceMethod ({ cls := "FrostBoxModel", name := "log", desc := "(II)I" } : Jvm.MethodName)) ∈ lw_all := lw_g (lw_at lw_m7 131 rfl) rfl
theorem q1713 : (Jvm.Cond.selects "FrostBoxModel" ({ cls := "FrostBoxModel", name := "log", desc := "(II)I" } : Jvm.MethodName) ({ cls := "FrostBoxModel", name := "log", desc := "(II)I" } : Jvm.MethodName)) ∈ lw_all := lw_g (lw_at lw_m7 132 rfl) rfl
theorem q1714 : (Jvm.Cond.code ({ cls := "FrostBoxModel", name := "log", desc := "(II)I" } : Jvm.MethodName) prog_14_method_78_code (3 : Nat) (Option.some Jvm.ClassFile.FieldType.int)) ∈ lw_all := lw_g (lw_at lw_m7 133 rfl) rfl
theorem q1716 : (Jvm.Cond.instanceMethod ({ cls := "FrostBoxModel", name := "step", desc := "(III)I" } : Jvm.MethodName)) ∈ lw_all := lw_g (lw_at lw_m7 135 rfl) rfl
theorem q1717 : (Jvm.Cond.selects "FrostBoxModel" ({ cls := "FrostBoxModel", name := "step", desc := "(III)I" } : Jvm.MethodName) ({ cls := "FrostBoxModel", name := "step", desc := "(III)I" } : Jvm.MethodName)) ∈ lw_all := lw_g (lw_at lw_m7 136 rfl) rfl
theorem q1718 : (Jvm.Cond.code ({ cls := "FrostBoxModel", name := "step", desc := "(III)I" } : Jvm.MethodName) prog_14_method_80_code (4 : Nat) (Option.some Jvm.ClassFile.FieldType.int)) ∈ lw_all := lw_g (lw_at lw_m7 137 rfl) rfl
theorem q1719 : (Jvm.Cond.methodLink "FrostBoxModel" (429 : Nat) ({ cls := "FrostBoxModel", name := "isPlan", desc := "(I)Z" } : Jvm.MethodName)) ∈ lw_all := lw_g (lw_at lw_m7 138 rfl) rfl
theorem q1720 : (Jvm.Cond.privateMethod ({ cls := "FrostBoxModel", name := "isPlan", desc := "(I)Z" } : Jvm.MethodName)) ∈ lw_tbl := lw_at lw_m7 139 rfl
theorem q1721 : (Jvm.Cond.instanceMethod ({ cls := "FrostBoxModel", name := "isPlan", desc := "(I)Z" } : Jvm.MethodName)) ∈ lw_all := lw_g (lw_at lw_m7 140 rfl) rfl
theorem q1722 : (Jvm.Cond.code ({ cls := "FrostBoxModel", name := "isPlan", desc := "(I)Z" } : Jvm.MethodName) prog_14_method_79_code (2 : Nat) (Option.some Jvm.ClassFile.FieldType.boolean)) ∈ lw_all := lw_g (lw_at lw_m7 141 rfl) rfl
theorem q1723 : (Jvm.Cond.constant "FrostBoxModel" (432 : Nat) (-1000000 : Int32)) ∈ lw_all := lw_g (lw_at lw_m7 142 rfl) rfl
theorem q1725 : (Jvm.Cond.instanceMethod ({ cls := "FrostBoxModel", name := "run", desc := "(II)I" } : Jvm.MethodName)) ∈ lw_all := lw_g (lw_at lw_m7 144 rfl) rfl
theorem q1726 : (Jvm.Cond.selects "FrostBoxModel" ({ cls := "FrostBoxModel", name := "run", desc := "(II)I" } : Jvm.MethodName) ({ cls := "FrostBoxModel", name := "run", desc := "(II)I" } : Jvm.MethodName)) ∈ lw_all := lw_g (lw_at lw_m7 145 rfl) rfl
theorem q1727 : (Jvm.Cond.code ({ cls := "FrostBoxModel", name := "run", desc := "(II)I" } : Jvm.MethodName) prog_14_method_84_code (7 : Nat) (Option.some Jvm.ClassFile.FieldType.int)) ∈ lw_all := lw_g (lw_at lw_m7 146 rfl) rfl
theorem q1728 : (Jvm.Cond.methodLink "FrostBoxModel" (433 : Nat) ({ cls := "FrostBoxModel", name := "copy", desc := "([I[I)V" } : Jvm.MethodName)) ∈ lw_all := lw_g (lw_at lw_m7 147 rfl) rfl
theorem q1729 : (Jvm.Cond.static ({ cls := "FrostBoxModel", name := "copy", desc := "([I[I)V" } : Jvm.MethodName)) ∈ lw_all := lw_g (lw_at lw_m7 148 rfl) rfl
theorem q1730 : (Jvm.Cond.code ({ cls := "FrostBoxModel", name := "copy", desc := "([I[I)V" } : Jvm.MethodName) prog_14_method_42_code (4 : Nat) (Option.none : Option Jvm.ClassFile.FieldType)) ∈ lw_all := lw_g (lw_at lw_m7 149 rfl) rfl
theorem q1731 : (Jvm.Cond.methodLink "FrostBoxModel" (437 : Nat) ({ cls := "FrostBoxModel", name := "canStep", desc := "([II)Z" } : Jvm.MethodName)) ∈ lw_all := lw_g (lw_at lw_m7 150 rfl) rfl
theorem q1732 : (Jvm.Cond.privateMethod ({ cls := "FrostBoxModel", name := "canStep", desc := "([II)Z" } : Jvm.MethodName)) ∈ lw_tbl := lw_at lw_m7 151 rfl
theorem q1733 : (Jvm.Cond.instanceMethod ({ cls := "FrostBoxModel", name := "canStep", desc := "([II)Z" } : Jvm.MethodName)) ∈ lw_all := lw_g (lw_at lw_m7 152 rfl) rfl
theorem q1734 : (Jvm.Cond.code ({ cls := "FrostBoxModel", name := "canStep", desc := "([II)Z" } : Jvm.MethodName) prog_14_method_81_code (4 : Nat) (Option.some Jvm.ClassFile.FieldType.boolean)) ∈ lw_all := lw_g (lw_at lw_m7 153 rfl) rfl
theorem q1735 : (Jvm.Cond.methodLink "FrostBoxModel" (440 : Nat) ({ cls := "FrostBoxModel", name := "timesOf", desc := "(I)I" } : Jvm.MethodName)) ∈ lw_all := lw_g (lw_at lw_m7 154 rfl) rfl
theorem q1736 : (Jvm.Cond.privateMethod ({ cls := "FrostBoxModel", name := "timesOf", desc := "(I)I" } : Jvm.MethodName)) ∈ lw_tbl := lw_at lw_m7 155 rfl
theorem q1737 : (Jvm.Cond.instanceMethod ({ cls := "FrostBoxModel", name := "timesOf", desc := "(I)I" } : Jvm.MethodName)) ∈ lw_all := lw_g (lw_at lw_m7 156 rfl) rfl
theorem q1738 : (Jvm.Cond.code ({ cls := "FrostBoxModel", name := "timesOf", desc := "(I)I" } : Jvm.MethodName) prog_14_method_83_code (2 : Nat) (Option.some Jvm.ClassFile.FieldType.int)) ∈ lw_all := lw_g (lw_at lw_m7 157 rfl) rfl
theorem q1739 : (Jvm.Cond.methodLink "FrostBoxModel" (443 : Nat) ({ cls := "FrostBoxModel", name := "steps", desc := "([II)I" } : Jvm.MethodName)) ∈ lw_all := lw_g (lw_at lw_m7 158 rfl) rfl
theorem q1740 : (Jvm.Cond.privateMethod ({ cls := "FrostBoxModel", name := "steps", desc := "([II)I" } : Jvm.MethodName)) ∈ lw_tbl := lw_at lw_m7 159 rfl
theorem q1741 : (Jvm.Cond.instanceMethod ({ cls := "FrostBoxModel", name := "steps", desc := "([II)I" } : Jvm.MethodName)) ∈ lw_all := lw_g (lw_at lw_m7 160 rfl) rfl
theorem q1742 : (Jvm.Cond.code ({ cls := "FrostBoxModel", name := "steps", desc := "([II)I" } : Jvm.MethodName) prog_14_method_82_code (4 : Nat) (Option.some Jvm.ClassFile.FieldType.int)) ∈ lw_all := lw_g (lw_at lw_m7 161 rfl) rfl
theorem q1744 : (Jvm.Cond.instanceMethod ({ cls := "FrostBoxModel", name := "perform", desc := "(I)I" } : Jvm.MethodName)) ∈ lw_all := lw_g (lw_at lw_m7 163 rfl) rfl
theorem q1745 : (Jvm.Cond.selects "FrostBoxModel" ({ cls := "FrostBoxModel", name := "perform", desc := "(I)I" } : Jvm.MethodName) ({ cls := "FrostBoxModel", name := "perform", desc := "(I)I" } : Jvm.MethodName)) ∈ lw_all := lw_g (lw_at lw_m7 164 rfl) rfl
theorem q1746 : (Jvm.Cond.code ({ cls := "FrostBoxModel", name := "perform", desc := "(I)I" } : Jvm.MethodName) prog_14_method_85_code (6 : Nat) (Option.some Jvm.ClassFile.FieldType.int)) ∈ lw_all := lw_g (lw_at lw_m7 165 rfl) rfl
theorem q1748 : (Jvm.Cond.instanceMethod ({ cls := "FrostBoxModel", name := "dinner", desc := "(II)I" } : Jvm.MethodName)) ∈ lw_all := lw_g (lw_at lw_m7 167 rfl) rfl
theorem q1749 : (Jvm.Cond.selects "FrostBoxModel" ({ cls := "FrostBoxModel", name := "dinner", desc := "(II)I" } : Jvm.MethodName) ({ cls := "FrostBoxModel", name := "dinner", desc := "(II)I" } : Jvm.MethodName)) ∈ lw_all := lw_g (lw_at lw_m7 168 rfl) rfl
theorem q1750 : (Jvm.Cond.code ({ cls := "FrostBoxModel", name := "dinner", desc := "(II)I" } : Jvm.MethodName) prog_14_method_89_code (10 : Nat) (Option.some Jvm.ClassFile.FieldType.int)) ∈ lw_all := lw_g (lw_at lw_m7 169 rfl) rfl
theorem q1751 : (Jvm.Cond.constantLong "FrostBoxModel" (452 : Nat) (30 : Int64)) ∈ lw_all := lw_g (lw_at lw_m7 170 rfl) rfl
theorem q1752 : (Jvm.Cond.methodLink "FrostBoxModel" (454 : Nat) ({ cls := "FrostBoxModel", name := "isDinner", desc := "(I)Z" } : Jvm.MethodName)) ∈ lw_all := lw_g (lw_at lw_m7 171 rfl) rfl
theorem q1753 : (Jvm.Cond.privateMethod ({ cls := "FrostBoxModel", name := "isDinner", desc := "(I)Z" } : Jvm.MethodName)) ∈ lw_tbl := lw_at lw_m7 172 rfl
theorem q1754 : (Jvm.Cond.instanceMethod ({ cls := "FrostBoxModel", name := "isDinner", desc := "(I)Z" } : Jvm.MethodName)) ∈ lw_all := lw_g (lw_at lw_m7 173 rfl) rfl
theorem q1755 : (Jvm.Cond.code ({ cls := "FrostBoxModel", name := "isDinner", desc := "(I)Z" } : Jvm.MethodName) prog_14_method_88_code (4 : Nat) (Option.some Jvm.ClassFile.FieldType.boolean)) ∈ lw_all := lw_g (lw_at lw_m7 174 rfl) rfl
theorem q1756 : (Jvm.Cond.methodLink "FrostBoxModel" (446 : Nat) ({ cls := "FrostBoxModel", name := "kindIn", desc := "(I)I" } : Jvm.MethodName)) ∈ lw_all := lw_g (lw_at lw_m7 175 rfl) rfl
theorem q1757 : (Jvm.Cond.privateMethod ({ cls := "FrostBoxModel", name := "kindIn", desc := "(I)I" } : Jvm.MethodName)) ∈ lw_tbl := lw_at lw_m7 176 rfl
theorem q1758 : (Jvm.Cond.instanceMethod ({ cls := "FrostBoxModel", name := "kindIn", desc := "(I)I" } : Jvm.MethodName)) ∈ lw_all := lw_g (lw_at lw_m7 177 rfl) rfl
theorem q1759 : (Jvm.Cond.code ({ cls := "FrostBoxModel", name := "kindIn", desc := "(I)I" } : Jvm.MethodName) prog_14_method_87_code (2 : Nat) (Option.some Jvm.ClassFile.FieldType.int)) ∈ lw_all := lw_g (lw_at lw_m7 178 rfl) rfl
theorem q1760 : (Jvm.Cond.methodLink "FrostBoxModel" (449 : Nat) ({ cls := "FrostBoxModel", name := "fit", desc := "(II)Z" } : Jvm.MethodName)) ∈ lw_all := lw_g (lw_at lw_m7 179 rfl) rfl
theorem q1761 : (Jvm.Cond.privateMethod ({ cls := "FrostBoxModel", name := "fit", desc := "(II)Z" } : Jvm.MethodName)) ∈ lw_tbl := lw_at lw_m7 180 rfl
theorem q1762 : (Jvm.Cond.instanceMethod ({ cls := "FrostBoxModel", name := "fit", desc := "(II)Z" } : Jvm.MethodName)) ∈ lw_all := lw_g (lw_at lw_m7 181 rfl) rfl
theorem q1763 : (Jvm.Cond.code ({ cls := "FrostBoxModel", name := "fit", desc := "(II)Z" } : Jvm.MethodName) prog_14_method_86_code (3 : Nat) (Option.some Jvm.ClassFile.FieldType.boolean)) ∈ lw_all := lw_g (lw_at lw_m7 182 rfl) rfl
theorem q1765 : (Jvm.Cond.instanceMethod ({ cls := "FrostBoxModel", name := "eat", desc := "(I)I" } : Jvm.MethodName)) ∈ lw_all := lw_g (lw_at lw_m7 184 rfl) rfl
theorem q1766 : (Jvm.Cond.selects "FrostBoxModel" ({ cls := "FrostBoxModel", name := "eat", desc := "(I)I" } : Jvm.MethodName) ({ cls := "FrostBoxModel", name := "eat", desc := "(I)I" } : Jvm.MethodName)) ∈ lw_all := lw_g (lw_at lw_m7 185 rfl) rfl
theorem q1767 : (Jvm.Cond.code ({ cls := "FrostBoxModel", name := "eat", desc := "(I)I" } : Jvm.MethodName) prog_14_method_92_code (6 : Nat) (Option.some Jvm.ClassFile.FieldType.int)) ∈ lw_all := lw_g (lw_at lw_m7 186 rfl) rfl
theorem q1768 : (Jvm.Cond.methodLink "FrostBoxModel" (471 : Nat) ({ cls := "FrostBoxModel", name := "goEat", desc := "(IIII)V" } : Jvm.MethodName)) ∈ lw_all := lw_g (lw_at lw_m7 187 rfl) rfl
theorem q1769 : (Jvm.Cond.privateMethod ({ cls := "FrostBoxModel", name := "goEat", desc := "(IIII)V" } : Jvm.MethodName)) ∈ lw_tbl := lw_at lw_m7 188 rfl
theorem q1770 : (Jvm.Cond.instanceMethod ({ cls := "FrostBoxModel", name := "goEat", desc := "(IIII)V" } : Jvm.MethodName)) ∈ lw_all := lw_g (lw_at lw_m7 189 rfl) rfl
theorem q1771 : (Jvm.Cond.code ({ cls := "FrostBoxModel", name := "goEat", desc := "(IIII)V" } : Jvm.MethodName) prog_14_method_91_code (6 : Nat) (Option.none : Option Jvm.ClassFile.FieldType)) ∈ lw_all := lw_g (lw_at lw_m7 190 rfl) rfl
theorem q1772 : (Jvm.Cond.methodLink "FrostBoxModel" (468 : Nat) ({ cls := "FrostBoxModel", name := "belowOf", desc := "(II)I" } : Jvm.MethodName)) ∈ lw_all := lw_g (lw_at lw_m7 191 rfl) rfl
theorem q1773 : (Jvm.Cond.privateMethod ({ cls := "FrostBoxModel", name := "belowOf", desc := "(II)I" } : Jvm.MethodName)) ∈ lw_tbl := lw_at lw_m7 192 rfl
theorem q1774 : (Jvm.Cond.instanceMethod ({ cls := "FrostBoxModel", name := "belowOf", desc := "(II)I" } : Jvm.MethodName)) ∈ lw_all := lw_g (lw_at lw_m7 193 rfl) rfl
theorem q1775 : (Jvm.Cond.code ({ cls := "FrostBoxModel", name := "belowOf", desc := "(II)I" } : Jvm.MethodName) prog_14_method_90_code (3 : Nat) (Option.some Jvm.ClassFile.FieldType.int)) ∈ lw_all := lw_g (lw_at lw_m7 194 rfl) rfl
theorem q1776 : (Jvm.Cond.methodLink "FrostBoxModel" (457 : Nat) ({ cls := "java/lang/Integer", name := "bitCount", desc := "(I)I" } : Jvm.MethodName)) ∈ lw_all := lw_g (lw_at lw_m7 195 rfl) rfl
theorem q1778 : (Jvm.Cond.instanceMethod ({ cls := "FrostBoxModel", name := "costs", desc := "(I)I" } : Jvm.MethodName)) ∈ lw_all := lw_g (lw_at lw_m7 197 rfl) rfl
theorem q1779 : (Jvm.Cond.selects "FrostBoxModel" ({ cls := "FrostBoxModel", name := "costs", desc := "(I)I" } : Jvm.MethodName) ({ cls := "FrostBoxModel", name := "costs", desc := "(I)I" } : Jvm.MethodName)) ∈ lw_all := lw_g (lw_at lw_m7 198 rfl) rfl
theorem q1780 : (Jvm.Cond.code ({ cls := "FrostBoxModel", name := "costs", desc := "(I)I" } : Jvm.MethodName) prog_14_method_93_code (2 : Nat) (Option.some Jvm.ClassFile.FieldType.int)) ∈ lw_all := lw_g (lw_at lw_m7 199 rfl) rfl
theorem q1781 : (Jvm.Cond.methodLink "FrostBoxModel" (475 : Nat) ({ cls := "FrostBoxModel", name := "valueIn", desc := "([I)I" } : Jvm.MethodName)) ∈ lw_all := lw_g (lw_at lw_m7 200 rfl) rfl
theorem q1782 : (Jvm.Cond.privateMethod ({ cls := "FrostBoxModel", name := "valueIn", desc := "([I)I" } : Jvm.MethodName)) ∈ lw_tbl := lw_at lw_m7 201 rfl
theorem q1783 : (Jvm.Cond.instanceMethod ({ cls := "FrostBoxModel", name := "valueIn", desc := "([I)I" } : Jvm.MethodName)) ∈ lw_all := lw_g (lw_at lw_m7 202 rfl) rfl
theorem q1784 : (Jvm.Cond.code ({ cls := "FrostBoxModel", name := "valueIn", desc := "([I)I" } : Jvm.MethodName) prog_14_method_51_code (4 : Nat) (Option.some Jvm.ClassFile.FieldType.int)) ∈ lw_all := lw_g (lw_at lw_m7 203 rfl) rfl
theorem q1786 : (Jvm.Cond.instanceMethod ({ cls := "FrostBoxModel", name := "full", desc := "(I)I" } : Jvm.MethodName)) ∈ lw_all := lw_g (lw_at lw_m7 205 rfl) rfl
theorem q1787 : (Jvm.Cond.selects "FrostBoxModel" ({ cls := "FrostBoxModel", name := "full", desc := "(I)I" } : Jvm.MethodName) ({ cls := "FrostBoxModel", name := "full", desc := "(I)I" } : Jvm.MethodName)) ∈ lw_all := lw_g (lw_at lw_m7 206 rfl) rfl
theorem q1788 : (Jvm.Cond.code ({ cls := "FrostBoxModel", name := "full", desc := "(I)I" } : Jvm.MethodName) prog_14_method_94_code (3 : Nat) (Option.some Jvm.ClassFile.FieldType.int)) ∈ lw_all := lw_g (lw_at lw_m7 207 rfl) rfl
theorem q1790 : (Jvm.Cond.instanceMethod ({ cls := "FrostBoxModel", name := "keep", desc := "(II)I" } : Jvm.MethodName)) ∈ lw_all := lw_g (lw_at lw_m7 209 rfl) rfl
theorem q1791 : (Jvm.Cond.selects "FrostBoxModel" ({ cls := "FrostBoxModel", name := "keep", desc := "(II)I" } : Jvm.MethodName) ({ cls := "FrostBoxModel", name := "keep", desc := "(II)I" } : Jvm.MethodName)) ∈ lw_all := lw_g (lw_at lw_m7 210 rfl) rfl
theorem q1792 : (Jvm.Cond.code ({ cls := "FrostBoxModel", name := "keep", desc := "(II)I" } : Jvm.MethodName) prog_14_method_95_code (5 : Nat) (Option.some Jvm.ClassFile.FieldType.int)) ∈ lw_all := lw_g (lw_at lw_m7 211 rfl) rfl
theorem q1794 : (Jvm.Cond.instanceMethod ({ cls := "FrostBoxModel", name := "spans", desc := "(II)I" } : Jvm.MethodName)) ∈ lw_all := lw_g (lw_at lw_m7 213 rfl) rfl
theorem q1795 : (Jvm.Cond.selects "FrostBoxModel" ({ cls := "FrostBoxModel", name := "spans", desc := "(II)I" } : Jvm.MethodName) ({ cls := "FrostBoxModel", name := "spans", desc := "(II)I" } : Jvm.MethodName)) ∈ lw_all := lw_g (lw_at lw_m7 214 rfl) rfl
theorem q1796 : (Jvm.Cond.code ({ cls := "FrostBoxModel", name := "spans", desc := "(II)I" } : Jvm.MethodName) prog_14_method_98_code (5 : Nat) (Option.some Jvm.ClassFile.FieldType.int)) ∈ lw_all := lw_g (lw_at lw_m7 215 rfl) rfl
theorem q1797 : (Jvm.Cond.methodLink "FrostBoxModel" (478 : Nat) ({ cls := "FrostBoxModel", name := "isNameless", desc := "(I)Z" } : Jvm.MethodName)) ∈ lw_all := lw_g (lw_at lw_m7 216 rfl) rfl
theorem q1798 : (Jvm.Cond.privateMethod ({ cls := "FrostBoxModel", name := "isNameless", desc := "(I)Z" } : Jvm.MethodName)) ∈ lw_tbl := lw_at lw_m7 217 rfl
theorem q1799 : (Jvm.Cond.instanceMethod ({ cls := "FrostBoxModel", name := "isNameless", desc := "(I)Z" } : Jvm.MethodName)) ∈ lw_all := lw_g (lw_at lw_m7 218 rfl) rfl
theorem q1800 : (Jvm.Cond.code ({ cls := "FrostBoxModel", name := "isNameless", desc := "(I)Z" } : Jvm.MethodName) prog_14_method_96_code (2 : Nat) (Option.some Jvm.ClassFile.FieldType.boolean)) ∈ lw_all := lw_g (lw_at lw_m7 219 rfl) rfl
theorem q1801 : (Jvm.Cond.methodLink "FrostBoxModel" (481 : Nat) ({ cls := "FrostBoxModel", name := "couldBe", desc := "(II)I" } : Jvm.MethodName)) ∈ lw_all := lw_g (lw_at lw_m7 220 rfl) rfl
theorem q1802 : (Jvm.Cond.privateMethod ({ cls := "FrostBoxModel", name := "couldBe", desc := "(II)I" } : Jvm.MethodName)) ∈ lw_tbl := lw_at lw_m7 221 rfl
theorem q1803 : (Jvm.Cond.instanceMethod ({ cls := "FrostBoxModel", name := "couldBe", desc := "(II)I" } : Jvm.MethodName)) ∈ lw_all := lw_g (lw_at lw_m7 222 rfl) rfl
theorem q1804 : (Jvm.Cond.code ({ cls := "FrostBoxModel", name := "couldBe", desc := "(II)I" } : Jvm.MethodName) prog_14_method_97_code (5 : Nat) (Option.some Jvm.ClassFile.FieldType.int)) ∈ lw_all := lw_g (lw_at lw_m7 223 rfl) rfl
theorem q1806 : (Jvm.Cond.instanceMethod ({ cls := "FrostBoxModel", name := "nameless", desc := "()I" } : Jvm.MethodName)) ∈ lw_all := lw_g (lw_at lw_m7 225 rfl) rfl
theorem q1807 : (Jvm.Cond.selects "FrostBoxModel" ({ cls := "FrostBoxModel", name := "nameless", desc := "()I" } : Jvm.MethodName) ({ cls := "FrostBoxModel", name := "nameless", desc := "()I" } : Jvm.MethodName)) ∈ lw_all := lw_g (lw_at lw_m7 226 rfl) rfl
theorem q1808 : (Jvm.Cond.code ({ cls := "FrostBoxModel", name := "nameless", desc := "()I" } : Jvm.MethodName) prog_14_method_99_code (3 : Nat) (Option.some Jvm.ClassFile.FieldType.int)) ∈ lw_all := lw_g (lw_at lw_m7 227 rfl) rfl
theorem q1810 : (Jvm.Cond.instanceMethod ({ cls := "FrostBoxModel", name := "doubles", desc := "(I)I" } : Jvm.MethodName)) ∈ lw_all := lw_g (lw_at lw_m7 229 rfl) rfl
theorem q1811 : (Jvm.Cond.selects "FrostBoxModel" ({ cls := "FrostBoxModel", name := "doubles", desc := "(I)I" } : Jvm.MethodName) ({ cls := "FrostBoxModel", name := "doubles", desc := "(I)I" } : Jvm.MethodName)) ∈ lw_all := lw_g (lw_at lw_m7 230 rfl) rfl
theorem q1812 : (Jvm.Cond.code ({ cls := "FrostBoxModel", name := "doubles", desc := "(I)I" } : Jvm.MethodName) prog_14_method_100_code (5 : Nat) (Option.some Jvm.ClassFile.FieldType.int)) ∈ lw_all := lw_g (lw_at lw_m7 231 rfl) rfl
theorem q1814 : (Jvm.Cond.instanceMethod ({ cls := "FrostBoxModel", name := "peek", desc := "(II)I" } : Jvm.MethodName)) ∈ lw_all := lw_g (lw_at lw_m7 233 rfl) rfl
theorem q1815 : (Jvm.Cond.selects "FrostBoxModel" ({ cls := "FrostBoxModel", name := "peek", desc := "(II)I" } : Jvm.MethodName) ({ cls := "FrostBoxModel", name := "peek", desc := "(II)I" } : Jvm.MethodName)) ∈ lw_all := lw_g (lw_at lw_m7 234 rfl) rfl
theorem q1816 : (Jvm.Cond.code ({ cls := "FrostBoxModel", name := "peek", desc := "(II)I" } : Jvm.MethodName) prog_14_method_101_code (3 : Nat) (Option.some Jvm.ClassFile.FieldType.int)) ∈ lw_all := lw_g (lw_at lw_m7 235 rfl) rfl
theorem q1818 : (Jvm.Cond.instanceMethod ({ cls := "FrostBoxModel", name := "what", desc := "(I)I" } : Jvm.MethodName)) ∈ lw_all := lw_g (lw_at lw_m7 237 rfl) rfl
theorem q1819 : (Jvm.Cond.selects "FrostBoxModel" ({ cls := "FrostBoxModel", name := "what", desc := "(I)I" } : Jvm.MethodName) ({ cls := "FrostBoxModel", name := "what", desc := "(I)I" } : Jvm.MethodName)) ∈ lw_all := lw_g (lw_at lw_m7 238 rfl) rfl
theorem q1820 : (Jvm.Cond.code ({ cls := "FrostBoxModel", name := "what", desc := "(I)I" } : Jvm.MethodName) prog_14_method_104_code (6 : Nat) (Option.some Jvm.ClassFile.FieldType.int)) ∈ lw_all := lw_g (lw_at lw_m7 239 rfl) rfl
theorem q1821 : (Jvm.Cond.methodLink "FrostBoxModel" (488 : Nat) ({ cls := "FrostBoxModel", name := "greatestBy", desc := "(I)J" } : Jvm.MethodName)) ∈ lw_all := lw_g (lw_at lw_m8 0 rfl) rfl
theorem q1822 : (Jvm.Cond.privateMethod ({ cls := "FrostBoxModel", name := "greatestBy", desc := "(I)J" } : Jvm.MethodName)) ∈ lw_tbl := lw_at lw_m8 1 rfl
theorem q1823 : (Jvm.Cond.instanceMethod ({ cls := "FrostBoxModel", name := "greatestBy", desc := "(I)J" } : Jvm.MethodName)) ∈ lw_all := lw_g (lw_at lw_m8 2 rfl) rfl
theorem q1824 : (Jvm.Cond.code ({ cls := "FrostBoxModel", name := "greatestBy", desc := "(I)J" } : Jvm.MethodName) prog_14_method_103_code (8 : Nat) (Option.some Jvm.ClassFile.FieldType.long)) ∈ lw_all := lw_g (lw_at lw_m8 3 rfl) rfl
theorem q1825 : (Jvm.Cond.methodLink "FrostBoxModel" (484 : Nat) ({ cls := "FrostBoxModel", name := "heldBy", desc := "(I)J" } : Jvm.MethodName)) ∈ lw_all := lw_g (lw_at lw_m8 4 rfl) rfl
theorem q1826 : (Jvm.Cond.privateMethod ({ cls := "FrostBoxModel", name := "heldBy", desc := "(I)J" } : Jvm.MethodName)) ∈ lw_tbl := lw_at lw_m8 5 rfl
theorem q1827 : (Jvm.Cond.instanceMethod ({ cls := "FrostBoxModel", name := "heldBy", desc := "(I)J" } : Jvm.MethodName)) ∈ lw_all := lw_g (lw_at lw_m8 6 rfl) rfl
theorem q1828 : (Jvm.Cond.code ({ cls := "FrostBoxModel", name := "heldBy", desc := "(I)J" } : Jvm.MethodName) prog_14_method_102_code (5 : Nat) (Option.some Jvm.ClassFile.FieldType.long)) ∈ lw_all := lw_g (lw_at lw_m8 7 rfl) rfl
theorem q1829 : (Jvm.Cond.constantLong "FrostBoxModel" (491 : Nat) (1000 : Int64)) ∈ lw_all := lw_g (lw_at lw_m8 8 rfl) rfl
theorem q1831 : (Jvm.Cond.instanceMethod ({ cls := "FrostBoxModel", name := "found", desc := "(IIZ)I" } : Jvm.MethodName)) ∈ lw_all := lw_g (lw_at lw_m8 10 rfl) rfl
theorem q1832 : (Jvm.Cond.selects "FrostBoxModel" ({ cls := "FrostBoxModel", name := "found", desc := "(IIZ)I" } : Jvm.MethodName) ({ cls := "FrostBoxModel", name := "found", desc := "(IIZ)I" } : Jvm.MethodName)) ∈ lw_all := lw_g (lw_at lw_m8 11 rfl) rfl
theorem q1833 : (Jvm.Cond.code ({ cls := "FrostBoxModel", name := "found", desc := "(IIZ)I" } : Jvm.MethodName) prog_14_method_105_code (4 : Nat) (Option.some Jvm.ClassFile.FieldType.int)) ∈ lw_all := lw_g (lw_at lw_m8 12 rfl) rfl
theorem q1835 : (Jvm.Cond.instanceMethod ({ cls := "FrostBoxModel", name := "history", desc := "(II)I" } : Jvm.MethodName)) ∈ lw_all := lw_g (lw_at lw_m8 14 rfl) rfl
theorem q1836 : (Jvm.Cond.selects "FrostBoxModel" ({ cls := "FrostBoxModel", name := "history", desc := "(II)I" } : Jvm.MethodName) ({ cls := "FrostBoxModel", name := "history", desc := "(II)I" } : Jvm.MethodName)) ∈ lw_all := lw_g (lw_at lw_m8 15 rfl) rfl
theorem q1837 : (Jvm.Cond.code ({ cls := "FrostBoxModel", name := "history", desc := "(II)I" } : Jvm.MethodName) prog_14_method_109_code (3 : Nat) (Option.some Jvm.ClassFile.FieldType.int)) ∈ lw_all := lw_g (lw_at lw_m8 16 rfl) rfl
theorem q1838 : (Jvm.Cond.methodLink "FrostBoxModel" (511 : Nat) ({ cls := "FrostBoxModel", name := "layHistory", desc := "(II)Z" } : Jvm.MethodName)) ∈ lw_all := lw_g (lw_at lw_m8 17 rfl) rfl
theorem q1839 : (Jvm.Cond.privateMethod ({ cls := "FrostBoxModel", name := "layHistory", desc := "(II)Z" } : Jvm.MethodName)) ∈ lw_tbl := lw_at lw_m8 18 rfl
theorem q1840 : (Jvm.Cond.instanceMethod ({ cls := "FrostBoxModel", name := "layHistory", desc := "(II)Z" } : Jvm.MethodName)) ∈ lw_all := lw_g (lw_at lw_m8 19 rfl) rfl
theorem q1841 : (Jvm.Cond.code ({ cls := "FrostBoxModel", name := "layHistory", desc := "(II)Z" } : Jvm.MethodName) prog_14_method_108_code (6 : Nat) (Option.some Jvm.ClassFile.FieldType.boolean)) ∈ lw_all := lw_g (lw_at lw_m8 20 rfl) rfl
theorem q1842 : (Jvm.Cond.constantLong "FrostBoxModel" (509 : Nat) (999999 : Int64)) ∈ lw_all := lw_g (lw_at lw_m8 21 rfl) rfl
theorem q1843 : (Jvm.Cond.methodLink "FrostBoxModel" (505 : Nat) ({ cls := "FrostBoxModel", name := "goHistory", desc := "(III)V" } : Jvm.MethodName)) ∈ lw_all := lw_g (lw_at lw_m8 22 rfl) rfl
theorem q1844 : (Jvm.Cond.privateMethod ({ cls := "FrostBoxModel", name := "goHistory", desc := "(III)V" } : Jvm.MethodName)) ∈ lw_tbl := lw_at lw_m8 23 rfl
theorem q1845 : (Jvm.Cond.instanceMethod ({ cls := "FrostBoxModel", name := "goHistory", desc := "(III)V" } : Jvm.MethodName)) ∈ lw_all := lw_g (lw_at lw_m8 24 rfl) rfl
theorem q1846 : (Jvm.Cond.code ({ cls := "FrostBoxModel", name := "goHistory", desc := "(III)V" } : Jvm.MethodName) prog_14_method_107_code (5 : Nat) (Option.none : Option Jvm.ClassFile.FieldType)) ∈ lw_all := lw_g (lw_at lw_m8 25 rfl) rfl
theorem q1847 : (Jvm.Cond.methodLink "FrostBoxModel" (502 : Nat) ({ cls := "FrostBoxModel", name := "mayBe", desc := "(II)Z" } : Jvm.MethodName)) ∈ lw_all := lw_g (lw_at lw_m8 26 rfl) rfl
theorem q1848 : (Jvm.Cond.privateMethod ({ cls := "FrostBoxModel", name := "mayBe", desc := "(II)Z" } : Jvm.MethodName)) ∈ lw_tbl := lw_at lw_m8 27 rfl
theorem q1849 : (Jvm.Cond.instanceMethod ({ cls := "FrostBoxModel", name := "mayBe", desc := "(II)Z" } : Jvm.MethodName)) ∈ lw_all := lw_g (lw_at lw_m8 28 rfl) rfl
theorem q1850 : (Jvm.Cond.code ({ cls := "FrostBoxModel", name := "mayBe", desc := "(II)Z" } : Jvm.MethodName) prog_14_method_106_code (4 : Nat) (Option.some Jvm.ClassFile.FieldType.boolean)) ∈ lw_all := lw_g (lw_at lw_m8 29 rfl) rfl
theorem q1852 : (Jvm.Cond.instanceMethod ({ cls := "FrostBoxModel", name := "share", desc := "(I)I" } : Jvm.MethodName)) ∈ lw_all := lw_g (lw_at lw_m8 31 rfl) rfl
theorem q1853 : (Jvm.Cond.selects "FrostBoxModel" ({ cls := "FrostBoxModel", name := "share", desc := "(I)I" } : Jvm.MethodName) ({ cls := "FrostBoxModel", name := "share", desc := "(I)I" } : Jvm.MethodName)) ∈ lw_all := lw_g (lw_at lw_m8 32 rfl) rfl
theorem q1854 : (Jvm.Cond.code ({ cls := "FrostBoxModel", name := "share", desc := "(I)I" } : Jvm.MethodName) prog_14_method_110_code (2 : Nat) (Option.some Jvm.ClassFile.FieldType.int)) ∈ lw_all := lw_g (lw_at lw_m8 33 rfl) rfl
theorem q1856 : (Jvm.Cond.instanceMethod ({ cls := "FrostBoxModel", name := "lot", desc := "(I)I" } : Jvm.MethodName)) ∈ lw_all := lw_g (lw_at lw_m8 35 rfl) rfl
theorem q1857 : (Jvm.Cond.selects "FrostBoxModel" ({ cls := "FrostBoxModel", name := "lot", desc := "(I)I" } : Jvm.MethodName) ({ cls := "FrostBoxModel", name := "lot", desc := "(I)I" } : Jvm.MethodName)) ∈ lw_all := lw_g (lw_at lw_m8 36 rfl) rfl
theorem q1858 : (Jvm.Cond.code ({ cls := "FrostBoxModel", name := "lot", desc := "(I)I" } : Jvm.MethodName) prog_14_method_111_code (7 : Nat) (Option.some Jvm.ClassFile.FieldType.int)) ∈ lw_all := lw_g (lw_at lw_m8 37 rfl) rfl
theorem q1860 : (Jvm.Cond.instanceMethod ({ cls := "FrostBoxModel", name := "labels", desc := "(II)I" } : Jvm.MethodName)) ∈ lw_all := lw_g (lw_at lw_m8 39 rfl) rfl
theorem q1861 : (Jvm.Cond.selects "FrostBoxModel" ({ cls := "FrostBoxModel", name := "labels", desc := "(II)I" } : Jvm.MethodName) ({ cls := "FrostBoxModel", name := "labels", desc := "(II)I" } : Jvm.MethodName)) ∈ lw_all := lw_g (lw_at lw_m8 40 rfl) rfl
theorem q1862 : (Jvm.Cond.code ({ cls := "FrostBoxModel", name := "labels", desc := "(II)I" } : Jvm.MethodName) prog_14_method_113_code (3 : Nat) (Option.some Jvm.ClassFile.FieldType.int)) ∈ lw_all := lw_g (lw_at lw_m8 41 rfl) rfl
theorem q1863 : (Jvm.Cond.methodLink "FrostBoxModel" (517 : Nat) ({ cls := "FrostBoxModel", name := "labelsOf", desc := "(II)I" } : Jvm.MethodName)) ∈ lw_all := lw_g (lw_at lw_m8 42 rfl) rfl
theorem q1864 : (Jvm.Cond.privateMethod ({ cls := "FrostBoxModel", name := "labelsOf", desc := "(II)I" } : Jvm.MethodName)) ∈ lw_tbl := lw_at lw_m8 43 rfl
theorem q1865 : (Jvm.Cond.instanceMethod ({ cls := "FrostBoxModel", name := "labelsOf", desc := "(II)I" } : Jvm.MethodName)) ∈ lw_all := lw_g (lw_at lw_m8 44 rfl) rfl
theorem q1866 : (Jvm.Cond.code ({ cls := "FrostBoxModel", name := "labelsOf", desc := "(II)I" } : Jvm.MethodName) prog_14_method_112_code (3 : Nat) (Option.some Jvm.ClassFile.FieldType.int)) ∈ lw_all := lw_g (lw_at lw_m8 45 rfl) rfl
theorem q1867 : (Jvm.Cond.methodLink "FrostBoxModel" (514 : Nat) ({ cls := "FrostBoxModel", name := "nameless", desc := "()I" } : Jvm.MethodName)) ∈ lw_all := lw_g (lw_at lw_m8 46 rfl) rfl
theorem q1869 : (Jvm.Cond.instanceMethod ({ cls := "FrostBoxModel", name := "rests", desc := "(I)I" } : Jvm.MethodName)) ∈ lw_all := lw_g (lw_at lw_m8 48 rfl) rfl
theorem q1870 : (Jvm.Cond.selects "FrostBoxModel" ({ cls := "FrostBoxModel", name := "rests", desc := "(I)I" } : Jvm.MethodName) ({ cls := "FrostBoxModel", name := "rests", desc := "(I)I" } : Jvm.MethodName)) ∈ lw_all := lw_g (lw_at lw_m8 49 rfl) rfl
theorem q1871 : (Jvm.Cond.code ({ cls := "FrostBoxModel", name := "rests", desc := "(I)I" } : Jvm.MethodName) prog_14_method_114_code (6 : Nat) (Option.some Jvm.ClassFile.FieldType.int)) ∈ lw_all := lw_g (lw_at lw_m8 50 rfl) rfl
theorem q1873 : (Jvm.Cond.instanceMethod ({ cls := "FrostBoxModel", name := "most", desc := "(I)I" } : Jvm.MethodName)) ∈ lw_all := lw_g (lw_at lw_m8 52 rfl) rfl
theorem q1874 : (Jvm.Cond.selects "FrostBoxModel" ({ cls := "FrostBoxModel", name := "most", desc := "(I)I" } : Jvm.MethodName) ({ cls := "FrostBoxModel", name := "most", desc := "(I)I" } : Jvm.MethodName)) ∈ lw_all := lw_g (lw_at lw_m8 53 rfl) rfl
theorem q1875 : (Jvm.Cond.code ({ cls := "FrostBoxModel", name := "most", desc := "(I)I" } : Jvm.MethodName) prog_14_method_115_code (5 : Nat) (Option.some Jvm.ClassFile.FieldType.int)) ∈ lw_all := lw_g (lw_at lw_m8 54 rfl) rfl
theorem q1877 : (Jvm.Cond.instanceMethod ({ cls := "FrostBoxModel", name := "spoilt", desc := "()I" } : Jvm.MethodName)) ∈ lw_all := lw_g (lw_at lw_m8 56 rfl) rfl
theorem q1878 : (Jvm.Cond.selects "FrostBoxModel" ({ cls := "FrostBoxModel", name := "spoilt", desc := "()I" } : Jvm.MethodName) ({ cls := "FrostBoxModel", name := "spoilt", desc := "()I" } : Jvm.MethodName)) ∈ lw_all := lw_g (lw_at lw_m8 57 rfl) rfl
theorem q1879 : (Jvm.Cond.code ({ cls := "FrostBoxModel", name := "spoilt", desc := "()I" } : Jvm.MethodName) prog_14_method_116_code (3 : Nat) (Option.some Jvm.ClassFile.FieldType.int)) ∈ lw_all := lw_g (lw_at lw_m8 58 rfl) rfl
theorem q1881 : (Jvm.Cond.instanceMethod ({ cls := "FrostBoxModel", name := "buried", desc := "(I)I" } : Jvm.MethodName)) ∈ lw_all := lw_g (lw_at lw_m8 60 rfl) rfl
theorem q1882 : (Jvm.Cond.selects "FrostBoxModel" ({ cls := "FrostBoxModel", name := "buried", desc := "(I)I" } : Jvm.MethodName) ({ cls := "FrostBoxModel", name := "buried", desc := "(I)I" } : Jvm.MethodName)) ∈ lw_all := lw_g (lw_at lw_m8 61 rfl) rfl
theorem q1883 : (Jvm.Cond.code ({ cls := "FrostBoxModel", name := "buried", desc := "(I)I" } : Jvm.MethodName) prog_14_method_117_code (4 : Nat) (Option.some Jvm.ClassFile.FieldType.int)) ∈ lw_all := lw_g (lw_at lw_m8 62 rfl) rfl
theorem q1885 : (Jvm.Cond.instanceMethod ({ cls := "FrostBoxModel", name := "goes", desc := "(I)I" } : Jvm.MethodName)) ∈ lw_all := lw_g (lw_at lw_m8 64 rfl) rfl
theorem q1886 : (Jvm.Cond.selects "FrostBoxModel" ({ cls := "FrostBoxModel", name := "goes", desc := "(I)I" } : Jvm.MethodName) ({ cls := "FrostBoxModel", name := "goes", desc := "(I)I" } : Jvm.MethodName)) ∈ lw_all := lw_g (lw_at lw_m8 65 rfl) rfl
theorem q1887 : (Jvm.Cond.code ({ cls := "FrostBoxModel", name := "goes", desc := "(I)I" } : Jvm.MethodName) prog_14_method_118_code (4 : Nat) (Option.some Jvm.ClassFile.FieldType.int)) ∈ lw_all := lw_g (lw_at lw_m8 66 rfl) rfl
theorem q1889 : (Jvm.Cond.instanceMethod ({ cls := "FrostBoxModel", name := "soonest", desc := "(I)I" } : Jvm.MethodName)) ∈ lw_all := lw_g (lw_at lw_m8 68 rfl) rfl
theorem q1890 : (Jvm.Cond.selects "FrostBoxModel" ({ cls := "FrostBoxModel", name := "soonest", desc := "(I)I" } : Jvm.MethodName) ({ cls := "FrostBoxModel", name := "soonest", desc := "(I)I" } : Jvm.MethodName)) ∈ lw_all := lw_g (lw_at lw_m8 69 rfl) rfl
theorem q1891 : (Jvm.Cond.code ({ cls := "FrostBoxModel", name := "soonest", desc := "(I)I" } : Jvm.MethodName) prog_14_method_119_code (3 : Nat) (Option.some Jvm.ClassFile.FieldType.int)) ∈ lw_all := lw_g (lw_at lw_m8 70 rfl) rfl
theorem q1893 : (Jvm.Cond.instanceMethod ({ cls := "FrostBoxModel", name := "monthly", desc := "(I)I" } : Jvm.MethodName)) ∈ lw_all := lw_g (lw_at lw_m8 72 rfl) rfl
theorem q1894 : (Jvm.Cond.selects "FrostBoxModel" ({ cls := "FrostBoxModel", name := "monthly", desc := "(I)I" } : Jvm.MethodName) ({ cls := "FrostBoxModel", name := "monthly", desc := "(I)I" } : Jvm.MethodName)) ∈ lw_all := lw_g (lw_at lw_m8 73 rfl) rfl
theorem q1895 : (Jvm.Cond.code ({ cls := "FrostBoxModel", name := "monthly", desc := "(I)I" } : Jvm.MethodName) prog_14_method_120_code (4 : Nat) (Option.some Jvm.ClassFile.FieldType.int)) ∈ lw_all := lw_g (lw_at lw_m8 74 rfl) rfl
theorem q1896 : (Jvm.Cond.constantLong "FrostBoxModel" (520 : Nat) (60 : Int64)) ∈ lw_all := lw_g (lw_at lw_m8 75 rfl) rfl
theorem q1898 : (Jvm.Cond.instanceMethod ({ cls := "FrostBoxModel", name := "make", desc := "(II)I" } : Jvm.MethodName)) ∈ lw_all := lw_g (lw_at lw_m8 77 rfl) rfl
theorem q1899 : (Jvm.Cond.selects "FrostBoxModel" ({ cls := "FrostBoxModel", name := "make", desc := "(II)I" } : Jvm.MethodName) ({ cls := "FrostBoxModel", name := "make", desc := "(II)I" } : Jvm.MethodName)) ∈ lw_all := lw_g (lw_at lw_m8 78 rfl) rfl
theorem q1900 : (Jvm.Cond.code ({ cls := "FrostBoxModel", name := "make", desc := "(II)I" } : Jvm.MethodName) prog_14_method_121_code (4 : Nat) (Option.some Jvm.ClassFile.FieldType.int)) ∈ lw_all := lw_g (lw_at lw_m8 79 rfl) rfl
theorem q1901 : (Jvm.Cond.constantLong "FrostBoxModel" (522 : Nat) (81 : Int64)) ∈ lw_all := lw_g (lw_at lw_m8 80 rfl) rfl
theorem q1903 : (Jvm.Cond.instanceMethod ({ cls := "FrostBoxModel", name := "image", desc := "()I" } : Jvm.MethodName)) ∈ lw_all := lw_g (lw_at lw_m8 82 rfl) rfl
theorem q1904 : (Jvm.Cond.selects "FrostBoxModel" ({ cls := "FrostBoxModel", name := "image", desc := "()I" } : Jvm.MethodName) ({ cls := "FrostBoxModel", name := "image", desc := "()I" } : Jvm.MethodName)) ∈ lw_all := lw_g (lw_at lw_m8 83 rfl) rfl
theorem q1905 : (Jvm.Cond.code ({ cls := "FrostBoxModel", name := "image", desc := "()I" } : Jvm.MethodName) prog_14_method_122_code (1 : Nat) (Option.some Jvm.ClassFile.FieldType.int)) ∈ lw_all := lw_g (lw_at lw_m8 84 rfl) rfl
theorem q1907 : (Jvm.Cond.instanceMethod ({ cls := "FrostBoxModel", name := "back", desc := "()I" } : Jvm.MethodName)) ∈ lw_all := lw_g (lw_at lw_m8 86 rfl) rfl
theorem q1908 : (Jvm.Cond.selects "FrostBoxModel" ({ cls := "FrostBoxModel", name := "back", desc := "()I" } : Jvm.MethodName) ({ cls := "FrostBoxModel", name := "back", desc := "()I" } : Jvm.MethodName)) ∈ lw_all := lw_g (lw_at lw_m8 87 rfl) rfl
theorem q1909 : (Jvm.Cond.code ({ cls := "FrostBoxModel", name := "back", desc := "()I" } : Jvm.MethodName) prog_14_method_123_code (1 : Nat) (Option.some Jvm.ClassFile.FieldType.int)) ∈ lw_all := lw_g (lw_at lw_m8 88 rfl) rfl
theorem q1911 : (Jvm.Cond.instanceMethod ({ cls := "FrostBoxModel", name := "count", desc := "(I)I" } : Jvm.MethodName)) ∈ lw_all := lw_g (lw_at lw_m8 90 rfl) rfl
theorem q1912 : (Jvm.Cond.selects "FrostBoxModel" ({ cls := "FrostBoxModel", name := "count", desc := "(I)I" } : Jvm.MethodName) ({ cls := "FrostBoxModel", name := "count", desc := "(I)I" } : Jvm.MethodName)) ∈ lw_all := lw_g (lw_at lw_m8 91 rfl) rfl
theorem q1913 : (Jvm.Cond.code ({ cls := "FrostBoxModel", name := "count", desc := "(I)I" } : Jvm.MethodName) prog_14_method_124_code (4 : Nat) (Option.some Jvm.ClassFile.FieldType.int)) ∈ lw_all := lw_g (lw_at lw_m8 92 rfl) rfl
theorem q1918 : (Jvm.Cond.castable "FrostBoxModel" "java/lang/Object") ∈ lw_tbl := lw_at lw_m8 97 rfl
theorem in_X3 : ∀ w ∈ wsX30, w ∈ lw_all := lw_in wsX30 [1288, 1290, 1292, 1294, 1296, 1298, 1300, 1302, 1304, 1306, 1308, 1310, 1312, 1314, 1316, 1318, 1320, 1322, 1324, 1326, 1328, 1330, 1332, 1334, 1336, 1338, 1340, 1342, 1344, 1346, 1348, 1350, 1352, 1354, 1356, 1358, 1360, 1362, 1364, 1366, 1368, 1370, 1372, 1374, 1376, 1378, 1380, 1382, 1384, 1386, 1388, 1390, 1392, 1394, 1396, 1398] (by decide +kernel) (by decide +kernel)
