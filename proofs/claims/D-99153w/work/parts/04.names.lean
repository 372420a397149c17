/-! FrostBoxLaw -/
set_option maxRecDepth 100000
def RX0 : String := "FrostBoxLaw"
abbrev cX0_box : ByteArray := method_3_code
def yX0_box : MethodName := ⟨RX0, "box", "(LFrostBox;II[J)I"⟩
def dkwX0_box_0 : List UInt8 := [45, 3, 42, 27, 28, 182, 0, 7, 133, 80, 167, 0, 7, 58, 4, 4, 172, 3, 172]
abbrev dktX0_box_0 : List UInt8 := dkwX0_box_0 ++ []
theorem dksX0_box_0 : cX0_box.data.toList.drop 0 = dktX0_box_0 := by decide +kernel
theorem dX0_box_0 : decode cX0_box 0 = .ok (.aload_n 3, 1) := dk_45 (dk_at dksX0_box_0 0 rfl rfl)
theorem dX0_box_1 : decode cX0_box 1 = .ok (.iconst 0, 1) := dk_3 (dk_at dksX0_box_0 1 rfl rfl)
theorem dX0_box_2 : decode cX0_box 2 = .ok (.aload_n 0, 1) := dk_42 (dk_at dksX0_box_0 2 rfl rfl)
theorem dX0_box_3 : decode cX0_box 3 = .ok (.iload_n 1, 1) := dk_27 (dk_at dksX0_box_0 3 rfl rfl)
theorem dX0_box_4 : decode cX0_box 4 = .ok (.iload_n 2, 1) := dk_28 (dk_at dksX0_box_0 4 rfl rfl)
theorem dX0_box_5 : decode cX0_box 5 = .ok (.invokevirtual 7, 3) := dk_182 0 7 (dk_at dksX0_box_0 5 rfl rfl)
theorem dX0_box_8 : decode cX0_box 8 = .ok (.i2l, 1) := dk_133 (dk_at dksX0_box_0 8 rfl rfl)
theorem dX0_box_9 : decode cX0_box 9 = .ok (.lastore, 1) := dk_80 (dk_at dksX0_box_0 9 rfl rfl)
theorem dX0_box_10 : decode cX0_box 10 = .ok (.goto 7, 3) := dk_167 0 7 (dk_at dksX0_box_0 10 rfl rfl)
theorem dX0_box_13 : decode cX0_box 13 = .ok (.astore 4, 2) := dk_58 4 (dk_at dksX0_box_0 13 rfl rfl)
theorem dX0_box_15 : decode cX0_box 15 = .ok (.iconst 1, 1) := dk_4 (dk_at dksX0_box_0 15 rfl rfl)
theorem dX0_box_16 : decode cX0_box 16 = .ok (.ireturn, 1) := dk_172 (dk_at dksX0_box_0 16 rfl rfl)
theorem dX0_box_17 : decode cX0_box 17 = .ok (.iconst 0, 1) := dk_3 (dk_at dksX0_box_0 17 rfl rfl)
theorem dX0_box_18 : decode cX0_box 18 = .ok (.ireturn, 1) := dk_172 (dk_at dksX0_box_0 18 rfl rfl)
theorem q141 : (Jvm.Cond.initialized "FrostBoxLaw") ∈ lw_all := lw_g (lw_at lw_m1 0 rfl) rfl
theorem q166 : (Jvm.Cond.classLink "FrostBoxLaw" (8 : Nat) "FrostBox") ∈ lw_all := lw_g (lw_at lw_m1 25 rfl) rfl
theorem q168 : (Jvm.Cond.methodLink "FrostBoxLaw" (15 : Nat) ({ cls := "FrostBox", name := "<init>", desc := "()V" } : Jvm.MethodName)) ∈ lw_all := lw_g (lw_at lw_m1 27 rfl) rfl
theorem q363 : (Jvm.Cond.methodLink "FrostBoxLaw" (19 : Nat) ({ cls := "FrostBox", name := "feed", desc := "(IIIII)I" } : Jvm.MethodName)) ∈ lw_all := lw_g (lw_at lw_m1 222 rfl) rfl
theorem q370 : (Jvm.Cond.methodLink "FrostBoxLaw" (24 : Nat) ({ cls := "FrostBox", name := "end", desc := "(I)Z" } : Jvm.MethodName)) ∈ lw_all := lw_g (lw_at lw_m1 229 rfl) rfl
theorem q374 : (Jvm.Cond.methodLink "FrostBoxLaw" (29 : Nat) ({ cls := "FrostBox", name := "fault", desc := "(I)I" } : Jvm.MethodName)) ∈ lw_all := lw_g (lw_at lw_m1 233 rfl) rfl
theorem q720 : (Jvm.Cond.methodLink "FrostBoxLaw" (34 : Nat) ({ cls := "FrostBox", name := "text", desc := "(I)I" } : Jvm.MethodName)) ∈ lw_all := lw_g (lw_at lw_m3 99 rfl) rfl
theorem q733 : (Jvm.Cond.methodLink "FrostBoxLaw" (38 : Nat) ({ cls := "FrostBox", name := "rule", desc := "(I)I" } : Jvm.MethodName)) ∈ lw_all := lw_g (lw_at lw_m3 112 rfl) rfl
theorem q741 : (Jvm.Cond.methodLink "FrostBoxLaw" (42 : Nat) ({ cls := "FrostBox", name := "kind", desc := "(II)I" } : Jvm.MethodName)) ∈ lw_all := lw_g (lw_at lw_m3 120 rfl) rfl
theorem q757 : (Jvm.Cond.methodLink "FrostBoxLaw" (56 : Nat) ({ cls := "FrostBox", name := "law", desc := "(I)Z" } : Jvm.MethodName)) ∈ lw_all := lw_g (lw_at lw_m3 136 rfl) rfl
theorem q761 : (Jvm.Cond.methodLink "FrostBoxLaw" (60 : Nat) ({ cls := "FrostBox", name := "habit", desc := "(I)Z" } : Jvm.MethodName)) ∈ lw_all := lw_g (lw_at lw_m3 140 rfl) rfl
theorem q765 : (Jvm.Cond.methodLink "FrostBoxLaw" (64 : Nat) ({ cls := "FrostBox", name := "put", desc := "(IIZ)I" } : Jvm.MethodName)) ∈ lw_all := lw_g (lw_at lw_m3 144 rfl) rfl
theorem q801 : (Jvm.Cond.methodLink "FrostBoxLaw" (69 : Nat) ({ cls := "FrostBox", name := "take", desc := "(I)I" } : Jvm.MethodName)) ∈ lw_all := lw_g (lw_at lw_m3 180 rfl) rfl
theorem q900 : (Jvm.Cond.methodLink "FrostBoxLaw" (73 : Nat) ({ cls := "FrostBox", name := "label", desc := "(I)Z" } : Jvm.MethodName)) ∈ lw_all := lw_g (lw_at lw_m4 39 rfl) rfl
theorem q916 : (Jvm.Cond.methodLink "FrostBoxLaw" (77 : Nat) ({ cls := "FrostBox", name := "months", desc := "(I)I" } : Jvm.MethodName)) ∈ lw_all := lw_g (lw_at lw_m4 55 rfl) rfl
theorem q932 : (Jvm.Cond.methodLink "FrostBoxLaw" (81 : Nat) ({ cls := "FrostBox", name := "off", desc := "(I)I" } : Jvm.MethodName)) ∈ lw_all := lw_g (lw_at lw_m4 71 rfl) rfl
theorem q944 : (Jvm.Cond.methodLink "FrostBoxLaw" (87 : Nat) ({ cls := "FrostBox", name := "years", desc := "(IJ)I" } : Jvm.MethodName)) ∈ lw_all := lw_g (lw_at lw_m4 83 rfl) rfl
theorem q954 : (Jvm.Cond.methodLink "FrostBoxLaw" (92 : Nat) ({ cls := "FrostBox", name := "undo", desc := "()I" } : Jvm.MethodName)) ∈ lw_all := lw_g (lw_at lw_m4 93 rfl) rfl
theorem q958 : (Jvm.Cond.methodLink "FrostBoxLaw" (96 : Nat) ({ cls := "FrostBox", name := "log", desc := "(II)I" } : Jvm.MethodName)) ∈ lw_all := lw_g (lw_at lw_m4 97 rfl) rfl
theorem q962 : (Jvm.Cond.methodLink "FrostBoxLaw" (100 : Nat) ({ cls := "FrostBox", name := "step", desc := "(III)I" } : Jvm.MethodName)) ∈ lw_all := lw_g (lw_at lw_m4 101 rfl) rfl
theorem q971 : (Jvm.Cond.methodLink "FrostBoxLaw" (105 : Nat) ({ cls := "FrostBox", name := "run", desc := "(II)I" } : Jvm.MethodName)) ∈ lw_all := lw_g (lw_at lw_m4 110 rfl) rfl
theorem q991 : (Jvm.Cond.methodLink "FrostBoxLaw" (109 : Nat) ({ cls := "FrostBox", name := "perform", desc := "(I)I" } : Jvm.MethodName)) ∈ lw_all := lw_g (lw_at lw_m4 130 rfl) rfl
theorem q996 : (Jvm.Cond.methodLink "FrostBoxLaw" (113 : Nat) ({ cls := "FrostBox", name := "dinner", desc := "(II)I" } : Jvm.MethodName)) ∈ lw_all := lw_g (lw_at lw_m4 135 rfl) rfl
theorem q1012 : (Jvm.Cond.methodLink "FrostBoxLaw" (117 : Nat) ({ cls := "FrostBox", name := "eat", desc := "(I)I" } : Jvm.MethodName)) ∈ lw_all := lw_g (lw_at lw_m4 151 rfl) rfl
theorem q1049 : (Jvm.Cond.methodLink "FrostBoxLaw" (121 : Nat) ({ cls := "FrostBox", name := "costs", desc := "(I)I" } : Jvm.MethodName)) ∈ lw_all := lw_g (lw_at lw_m4 188 rfl) rfl
theorem q1057 : (Jvm.Cond.methodLink "FrostBoxLaw" (125 : Nat) ({ cls := "FrostBox", name := "full", desc := "(I)I" } : Jvm.MethodName)) ∈ lw_all := lw_g (lw_at lw_m4 196 rfl) rfl
theorem q1061 : (Jvm.Cond.methodLink "FrostBoxLaw" (129 : Nat) ({ cls := "FrostBox", name := "keep", desc := "(II)I" } : Jvm.MethodName)) ∈ lw_all := lw_g (lw_at lw_m4 200 rfl) rfl
theorem q1065 : (Jvm.Cond.methodLink "FrostBoxLaw" (133 : Nat) ({ cls := "FrostBox", name := "spans", desc := "(II)I" } : Jvm.MethodName)) ∈ lw_all := lw_g (lw_at lw_m4 204 rfl) rfl
theorem q1077 : (Jvm.Cond.methodLink "FrostBoxLaw" (137 : Nat) ({ cls := "FrostBox", name := "nameless", desc := "()I" } : Jvm.MethodName)) ∈ lw_all := lw_g (lw_at lw_m4 216 rfl) rfl
theorem q1085 : (Jvm.Cond.methodLink "FrostBoxLaw" (141 : Nat) ({ cls := "FrostBox", name := "doubles", desc := "(I)I" } : Jvm.MethodName)) ∈ lw_all := lw_g (lw_at lw_m4 224 rfl) rfl
theorem q1093 : (Jvm.Cond.methodLink "FrostBoxLaw" (145 : Nat) ({ cls := "FrostBox", name := "peek", desc := "(II)I" } : Jvm.MethodName)) ∈ lw_all := lw_g (lw_at lw_m4 232 rfl) rfl
theorem q1097 : (Jvm.Cond.methodLink "FrostBoxLaw" (149 : Nat) ({ cls := "FrostBox", name := "what", desc := "(I)I" } : Jvm.MethodName)) ∈ lw_all := lw_g (lw_at lw_m4 236 rfl) rfl
theorem q1111 : (Jvm.Cond.methodLink "FrostBoxLaw" (153 : Nat) ({ cls := "FrostBox", name := "found", desc := "(IIZ)I" } : Jvm.MethodName)) ∈ lw_all := lw_g (lw_at lw_m5 10 rfl) rfl
theorem q1115 : (Jvm.Cond.methodLink "FrostBoxLaw" (157 : Nat) ({ cls := "FrostBox", name := "history", desc := "(II)I" } : Jvm.MethodName)) ∈ lw_all := lw_g (lw_at lw_m5 14 rfl) rfl
theorem q1132 : (Jvm.Cond.methodLink "FrostBoxLaw" (161 : Nat) ({ cls := "FrostBox", name := "share", desc := "(I)I" } : Jvm.MethodName)) ∈ lw_all := lw_g (lw_at lw_m5 31 rfl) rfl
theorem q1136 : (Jvm.Cond.methodLink "FrostBoxLaw" (165 : Nat) ({ cls := "FrostBox", name := "lot", desc := "(I)I" } : Jvm.MethodName)) ∈ lw_all := lw_g (lw_at lw_m5 35 rfl) rfl
theorem q1140 : (Jvm.Cond.methodLink "FrostBoxLaw" (169 : Nat) ({ cls := "FrostBox", name := "labels", desc := "(II)I" } : Jvm.MethodName)) ∈ lw_all := lw_g (lw_at lw_m5 39 rfl) rfl
theorem q1148 : (Jvm.Cond.methodLink "FrostBoxLaw" (173 : Nat) ({ cls := "FrostBox", name := "rests", desc := "(I)I" } : Jvm.MethodName)) ∈ lw_all := lw_g (lw_at lw_m5 47 rfl) rfl
theorem q1152 : (Jvm.Cond.methodLink "FrostBoxLaw" (177 : Nat) ({ cls := "FrostBox", name := "most", desc := "(I)I" } : Jvm.MethodName)) ∈ lw_all := lw_g (lw_at lw_m5 51 rfl) rfl
theorem q1156 : (Jvm.Cond.methodLink "FrostBoxLaw" (181 : Nat) ({ cls := "FrostBox", name := "spoilt", desc := "()I" } : Jvm.MethodName)) ∈ lw_all := lw_g (lw_at lw_m5 55 rfl) rfl
theorem q1160 : (Jvm.Cond.methodLink "FrostBoxLaw" (185 : Nat) ({ cls := "FrostBox", name := "buried", desc := "(I)I" } : Jvm.MethodName)) ∈ lw_all := lw_g (lw_at lw_m5 59 rfl) rfl
theorem q1164 : (Jvm.Cond.methodLink "FrostBoxLaw" (189 : Nat) ({ cls := "FrostBox", name := "goes", desc := "(I)I" } : Jvm.MethodName)) ∈ lw_all := lw_g (lw_at lw_m5 63 rfl) rfl
theorem q1168 : (Jvm.Cond.methodLink "FrostBoxLaw" (193 : Nat) ({ cls := "FrostBox", name := "soonest", desc := "(I)I" } : Jvm.MethodName)) ∈ lw_all := lw_g (lw_at lw_m5 67 rfl) rfl
theorem q1172 : (Jvm.Cond.methodLink "FrostBoxLaw" (197 : Nat) ({ cls := "FrostBox", name := "monthly", desc := "(I)I" } : Jvm.MethodName)) ∈ lw_all := lw_g (lw_at lw_m5 71 rfl) rfl
theorem q1176 : (Jvm.Cond.methodLink "FrostBoxLaw" (201 : Nat) ({ cls := "FrostBox", name := "make", desc := "(II)I" } : Jvm.MethodName)) ∈ lw_all := lw_g (lw_at lw_m5 75 rfl) rfl
theorem q1180 : (Jvm.Cond.methodLink "FrostBoxLaw" (205 : Nat) ({ cls := "FrostBox", name := "image", desc := "()I" } : Jvm.MethodName)) ∈ lw_all := lw_g (lw_at lw_m5 79 rfl) rfl
theorem q1184 : (Jvm.Cond.methodLink "FrostBoxLaw" (209 : Nat) ({ cls := "FrostBox", name := "back", desc := "()I" } : Jvm.MethodName)) ∈ lw_all := lw_g (lw_at lw_m5 83 rfl) rfl
theorem q1188 : (Jvm.Cond.methodLink "FrostBoxLaw" (213 : Nat) ({ cls := "FrostBox", name := "count", desc := "(I)I" } : Jvm.MethodName)) ∈ lw_all := lw_g (lw_at lw_m5 87 rfl) rfl
theorem q1196 : (Jvm.Cond.methodLink "FrostBoxLaw" (46 : Nat) ({ cls := "FrostBoxLaw", name := "box", desc := "(LFrostBox;II[J)I" } : Jvm.MethodName)) ∈ lw_all := lw_g (lw_at lw_m5 95 rfl) rfl
theorem q1197 : (Jvm.Cond.static ({ cls := "FrostBoxLaw", name := "box", desc := "(LFrostBox;II[J)I" } : Jvm.MethodName)) ∈ lw_all := lw_g (lw_at lw_m5 96 rfl) rfl
theorem q1198 : (Jvm.Cond.codeWith ({ cls := "FrostBoxLaw", name := "box", desc := "(LFrostBox;II[J)I" } : Jvm.MethodName) method_3_code (5 : Nat) (Option.some Jvm.ClassFile.FieldType.int) [((0 : Nat), (10 : Nat), (13 : Nat), (13 : Nat))]) ∈ lw_all := lw_g (lw_at lw_m5 97 rfl) rfl
theorem q1199 : (Jvm.Cond.classLink "FrostBoxLaw" (13 : Nat) "java/util/NoSuchElementException") ∈ lw_all := lw_g (lw_at lw_m5 98 rfl) rfl
theorem q1200 : (Jvm.Cond.methodLink "FrostBoxLaw" (7 : Nat) ({ cls := "FrostBox", name := "box", desc := "(II)I" } : Jvm.MethodName)) ∈ lw_all := lw_g (lw_at lw_m5 99 rfl) rfl
theorem q1224 : (Jvm.Cond.classLink "FrostBoxLaw" (16 : Nat) "FrostBoxModel") ∈ lw_all := lw_g (lw_at lw_m5 123 rfl) rfl
theorem q1226 : (Jvm.Cond.methodLink "FrostBoxLaw" (18 : Nat) ({ cls := "FrostBoxModel", name := "<init>", desc := "()V" } : Jvm.MethodName)) ∈ lw_all := lw_g (lw_at lw_m5 125 rfl) rfl
theorem q1402 : (Jvm.Cond.methodLink "FrostBoxLaw" (52 : Nat) ({ cls := "FrostBoxModel", name := "thrown", desc := "()I" } : Jvm.MethodName)) ∈ lw_all := lw_g (lw_at lw_m6 61 rfl) rfl
theorem q1406 : (Jvm.Cond.methodLink "FrostBoxLaw" (23 : Nat) ({ cls := "FrostBoxModel", name := "feed", desc := "(IIIII)I" } : Jvm.MethodName)) ∈ lw_all := lw_g (lw_at lw_m6 65 rfl) rfl
theorem q1417 : (Jvm.Cond.methodLink "FrostBoxLaw" (28 : Nat) ({ cls := "FrostBoxModel", name := "end", desc := "(I)Z" } : Jvm.MethodName)) ∈ lw_all := lw_g (lw_at lw_m6 76 rfl) rfl
theorem q1421 : (Jvm.Cond.methodLink "FrostBoxLaw" (33 : Nat) ({ cls := "FrostBoxModel", name := "fault", desc := "(I)I" } : Jvm.MethodName)) ∈ lw_all := lw_g (lw_at lw_m6 80 rfl) rfl
theorem q1559 : (Jvm.Cond.methodLink "FrostBoxLaw" (37 : Nat) ({ cls := "FrostBoxModel", name := "text", desc := "(I)I" } : Jvm.MethodName)) ∈ lw_all := lw_g (lw_at lw_m6 218 rfl) rfl
theorem q1564 : (Jvm.Cond.methodLink "FrostBoxLaw" (41 : Nat) ({ cls := "FrostBoxModel", name := "rule", desc := "(I)I" } : Jvm.MethodName)) ∈ lw_all := lw_g (lw_at lw_m6 223 rfl) rfl
theorem q1569 : (Jvm.Cond.methodLink "FrostBoxLaw" (45 : Nat) ({ cls := "FrostBoxModel", name := "kind", desc := "(II)I" } : Jvm.MethodName)) ∈ lw_all := lw_g (lw_at lw_m6 228 rfl) rfl
theorem q1582 : (Jvm.Cond.methodLink "FrostBoxLaw" (51 : Nat) ({ cls := "FrostBoxModel", name := "box", desc := "(II)I" } : Jvm.MethodName)) ∈ lw_all := lw_g (lw_at lw_m7 1 rfl) rfl
theorem q1618 : (Jvm.Cond.methodLink "FrostBoxLaw" (59 : Nat) ({ cls := "FrostBoxModel", name := "law", desc := "(I)Z" } : Jvm.MethodName)) ∈ lw_all := lw_g (lw_at lw_m7 37 rfl) rfl
theorem q1622 : (Jvm.Cond.methodLink "FrostBoxLaw" (63 : Nat) ({ cls := "FrostBoxModel", name := "habit", desc := "(I)Z" } : Jvm.MethodName)) ∈ lw_all := lw_g (lw_at lw_m7 41 rfl) rfl
theorem q1627 : (Jvm.Cond.methodLink "FrostBoxLaw" (68 : Nat) ({ cls := "FrostBoxModel", name := "put", desc := "(IIZ)I" } : Jvm.MethodName)) ∈ lw_all := lw_g (lw_at lw_m7 46 rfl) rfl
theorem q1646 : (Jvm.Cond.methodLink "FrostBoxLaw" (72 : Nat) ({ cls := "FrostBoxModel", name := "take", desc := "(I)I" } : Jvm.MethodName)) ∈ lw_all := lw_g (lw_at lw_m7 65 rfl) rfl
theorem q1657 : (Jvm.Cond.methodLink "FrostBoxLaw" (76 : Nat) ({ cls := "FrostBoxModel", name := "label", desc := "(I)Z" } : Jvm.MethodName)) ∈ lw_all := lw_g (lw_at lw_m7 76 rfl) rfl
theorem q1668 : (Jvm.Cond.methodLink "FrostBoxLaw" (80 : Nat) ({ cls := "FrostBoxModel", name := "months", desc := "(I)I" } : Jvm.MethodName)) ∈ lw_all := lw_g (lw_at lw_m7 87 rfl) rfl
theorem q1684 : (Jvm.Cond.methodLink "FrostBoxLaw" (84 : Nat) ({ cls := "FrostBoxModel", name := "off", desc := "(I)I" } : Jvm.MethodName)) ∈ lw_all := lw_g (lw_at lw_m7 103 rfl) rfl
theorem q1697 : (Jvm.Cond.methodLink "FrostBoxLaw" (91 : Nat) ({ cls := "FrostBoxModel", name := "years", desc := "(IJ)I" } : Jvm.MethodName)) ∈ lw_all := lw_g (lw_at lw_m7 116 rfl) rfl
theorem q1707 : (Jvm.Cond.methodLink "FrostBoxLaw" (95 : Nat) ({ cls := "FrostBoxModel", name := "undo", desc := "()I" } : Jvm.MethodName)) ∈ lw_all := lw_g (lw_at lw_m7 126 rfl) rfl
theorem q1711 : (Jvm.Cond.methodLink "FrostBoxLaw" (99 : Nat) ({ cls := "FrostBoxModel", name := "log", desc := "(II)I" } : Jvm.MethodName)) ∈ lw_all := lw_g (lw_at lw_m7 130 rfl) rfl
theorem q1715 : (Jvm.Cond.methodLink "FrostBoxLaw" (104 : Nat) ({ cls := "FrostBoxModel", name := "step", desc := "(III)I" } : Jvm.MethodName)) ∈ lw_all := lw_g (lw_at lw_m7 134 rfl) rfl
theorem q1724 : (Jvm.Cond.methodLink "FrostBoxLaw" (108 : Nat) ({ cls := "FrostBoxModel", name := "run", desc := "(II)I" } : Jvm.MethodName)) ∈ lw_all := lw_g (lw_at lw_m7 143 rfl) rfl
theorem q1743 : (Jvm.Cond.methodLink "FrostBoxLaw" (112 : Nat) ({ cls := "FrostBoxModel", name := "perform", desc := "(I)I" } : Jvm.MethodName)) ∈ lw_all := lw_g (lw_at lw_m7 162 rfl) rfl
theorem q1747 : (Jvm.Cond.methodLink "FrostBoxLaw" (116 : Nat) ({ cls := "FrostBoxModel", name := "dinner", desc := "(II)I" } : Jvm.MethodName)) ∈ lw_all := lw_g (lw_at lw_m7 166 rfl) rfl
theorem q1764 : (Jvm.Cond.methodLink "FrostBoxLaw" (120 : Nat) ({ cls := "FrostBoxModel", name := "eat", desc := "(I)I" } : Jvm.MethodName)) ∈ lw_all := lw_g (lw_at lw_m7 183 rfl) rfl
theorem q1777 : (Jvm.Cond.methodLink "FrostBoxLaw" (124 : Nat) ({ cls := "FrostBoxModel", name := "costs", desc := "(I)I" } : Jvm.MethodName)) ∈ lw_all := lw_g (lw_at lw_m7 196 rfl) rfl
theorem q1785 : (Jvm.Cond.methodLink "FrostBoxLaw" (128 : Nat) ({ cls := "FrostBoxModel", name := "full", desc := "(I)I" } : Jvm.MethodName)) ∈ lw_all := lw_g (lw_at lw_m7 204 rfl) rfl
theorem q1789 : (Jvm.Cond.methodLink "FrostBoxLaw" (132 : Nat) ({ cls := "FrostBoxModel", name := "keep", desc := "(II)I" } : Jvm.MethodName)) ∈ lw_all := lw_g (lw_at lw_m7 208 rfl) rfl
theorem q1793 : (Jvm.Cond.methodLink "FrostBoxLaw" (136 : Nat) ({ cls := "FrostBoxModel", name := "spans", desc := "(II)I" } : Jvm.MethodName)) ∈ lw_all := lw_g (lw_at lw_m7 212 rfl) rfl
theorem q1805 : (Jvm.Cond.methodLink "FrostBoxLaw" (140 : Nat) ({ cls := "FrostBoxModel", name := "nameless", desc := "()I" } : Jvm.MethodName)) ∈ lw_all := lw_g (lw_at lw_m7 224 rfl) rfl
theorem q1809 : (Jvm.Cond.methodLink "FrostBoxLaw" (144 : Nat) ({ cls := "FrostBoxModel", name := "doubles", desc := "(I)I" } : Jvm.MethodName)) ∈ lw_all := lw_g (lw_at lw_m7 228 rfl) rfl
theorem q1813 : (Jvm.Cond.methodLink "FrostBoxLaw" (148 : Nat) ({ cls := "FrostBoxModel", name := "peek", desc := "(II)I" } : Jvm.MethodName)) ∈ lw_all := lw_g (lw_at lw_m7 232 rfl) rfl
theorem q1817 : (Jvm.Cond.methodLink "FrostBoxLaw" (152 : Nat) ({ cls := "FrostBoxModel", name := "what", desc := "(I)I" } : Jvm.MethodName)) ∈ lw_all := lw_g (lw_at lw_m7 236 rfl) rfl
theorem q1830 : (Jvm.Cond.methodLink "FrostBoxLaw" (156 : Nat) ({ cls := "FrostBoxModel", name := "found", desc := "(IIZ)I" } : Jvm.MethodName)) ∈ lw_all := lw_g (lw_at lw_m8 9 rfl) rfl
theorem q1834 : (Jvm.Cond.methodLink "FrostBoxLaw" (160 : Nat) ({ cls := "FrostBoxModel", name := "history", desc := "(II)I" } : Jvm.MethodName)) ∈ lw_all := lw_g (lw_at lw_m8 13 rfl) rfl
theorem q1851 : (Jvm.Cond.methodLink "FrostBoxLaw" (164 : Nat) ({ cls := "FrostBoxModel", name := "share", desc := "(I)I" } : Jvm.MethodName)) ∈ lw_all := lw_g (lw_at lw_m8 30 rfl) rfl
theorem q1855 : (Jvm.Cond.methodLink "FrostBoxLaw" (168 : Nat) ({ cls := "FrostBoxModel", name := "lot", desc := "(I)I" } : Jvm.MethodName)) ∈ lw_all := lw_g (lw_at lw_m8 34 rfl) rfl
theorem q1859 : (Jvm.Cond.methodLink "FrostBoxLaw" (172 : Nat) ({ cls := "FrostBoxModel", name := "labels", desc := "(II)I" } : Jvm.MethodName)) ∈ lw_all := lw_g (lw_at lw_m8 38 rfl) rfl
theorem q1868 : (Jvm.Cond.methodLink "FrostBoxLaw" (176 : Nat) ({ cls := "FrostBoxModel", name := "rests", desc := "(I)I" } : Jvm.MethodName)) ∈ lw_all := lw_g (lw_at lw_m8 47 rfl) rfl
theorem q1872 : (Jvm.Cond.methodLink "FrostBoxLaw" (180 : Nat) ({ cls := "FrostBoxModel", name := "most", desc := "(I)I" } : Jvm.MethodName)) ∈ lw_all := lw_g (lw_at lw_m8 51 rfl) rfl
theorem q1876 : (Jvm.Cond.methodLink "FrostBoxLaw" (184 : Nat) ({ cls := "FrostBoxModel", name := "spoilt", desc := "()I" } : Jvm.MethodName)) ∈ lw_all := lw_g (lw_at lw_m8 55 rfl) rfl
theorem q1880 : (Jvm.Cond.methodLink "FrostBoxLaw" (188 : Nat) ({ cls := "FrostBoxModel", name := "buried", desc := "(I)I" } : Jvm.MethodName)) ∈ lw_all := lw_g (lw_at lw_m8 59 rfl) rfl
theorem q1884 : (Jvm.Cond.methodLink "FrostBoxLaw" (192 : Nat) ({ cls := "FrostBoxModel", name := "goes", desc := "(I)I" } : Jvm.MethodName)) ∈ lw_all := lw_g (lw_at lw_m8 63 rfl) rfl
theorem q1888 : (Jvm.Cond.methodLink "FrostBoxLaw" (196 : Nat) ({ cls := "FrostBoxModel", name := "soonest", desc := "(I)I" } : Jvm.MethodName)) ∈ lw_all := lw_g (lw_at lw_m8 67 rfl) rfl
theorem q1892 : (Jvm.Cond.methodLink "FrostBoxLaw" (200 : Nat) ({ cls := "FrostBoxModel", name := "monthly", desc := "(I)I" } : Jvm.MethodName)) ∈ lw_all := lw_g (lw_at lw_m8 71 rfl) rfl
theorem q1897 : (Jvm.Cond.methodLink "FrostBoxLaw" (204 : Nat) ({ cls := "FrostBoxModel", name := "make", desc := "(II)I" } : Jvm.MethodName)) ∈ lw_all := lw_g (lw_at lw_m8 76 rfl) rfl
theorem q1902 : (Jvm.Cond.methodLink "FrostBoxLaw" (208 : Nat) ({ cls := "FrostBoxModel", name := "image", desc := "()I" } : Jvm.MethodName)) ∈ lw_all := lw_g (lw_at lw_m8 81 rfl) rfl
theorem q1906 : (Jvm.Cond.methodLink "FrostBoxLaw" (212 : Nat) ({ cls := "FrostBoxModel", name := "back", desc := "()I" } : Jvm.MethodName)) ∈ lw_all := lw_g (lw_at lw_m8 85 rfl) rfl
theorem q1910 : (Jvm.Cond.methodLink "FrostBoxLaw" (216 : Nat) ({ cls := "FrostBoxModel", name := "count", desc := "(I)I" } : Jvm.MethodName)) ∈ lw_all := lw_g (lw_at lw_m8 89 rfl) rfl
theorem q1914 : (Jvm.Cond.constantLong "FrostBoxLaw" (85 : Nat) (4294967295 : Int64)) ∈ lw_all := lw_g (lw_at lw_m8 93 rfl) rfl
/-! FrostBox$Fault -/
set_option maxRecDepth 100000
def RX2 : String := "FrostBox$Fault"
def TX2 : u_T := fun k => match k with
  | 0 => ("java/lang/Throwable", "cause", "Ljava/lang/Throwable;", false)
  | 1 => ("java/lang/Throwable", "stackTrace", "[Ljava/lang/StackTraceElement;", false)
  | 2 => ("java/lang/Throwable", "suppressedExceptions", "Ljava/util/List;", false)
  | 3 => ("java/lang/Throwable", "detailMessage", "Ljava/lang/String;", false)
  | 4 => ("java/lang/Throwable", "backtrace", "Ljava/lang/Object;", false)
  | _ => ("java/lang/Throwable", "depth", "I", false)
def tyX2 : Nat → FieldType := fun k => match k with
  | 0 => .object "java/lang/Throwable"
  | 1 => .array (.object "java/lang/StackTraceElement")
  | 2 => .object "java/util/List"
  | 3 => .object "java/lang/String"
  | 4 => .object "java/lang/Object"
  | _ => .int
abbrev wsX20 : List Cond := u_ws RX2 TX2 6
theorem nmX2 : ∀ a, a < 6 → ∀ b, b < 6 → a ≠ b → (TX2 a).2.1 ≠ (TX2 b).2.1 := by decide +kernel
theorem tyX2_ok : ∀ k, k < 6 → parseFieldDescriptor (TX2 k).2.2.1 = some (tyX2 k) := by decide +kernel
abbrev cX2_init : ByteArray := prog_6_method_1_code
def yX2_init : MethodName := ⟨RX2, "<init>", "()V"⟩
theorem dX2_init_0 : decode cX2_init 0 = .ok (.aload_n 0, 1) := by decide +kernel
theorem dX2_init_1 : decode cX2_init 1 = .ok (.invokespecial 1, 3) := by decide +kernel
theorem dX2_init_4 : decode cX2_init 4 = .ok (.return_, 1) := by decide +kernel
theorem q145 : (Jvm.Cond.initialized "FrostBox$Fault") ∈ lw_all := lw_g (lw_at lw_m1 4 rfl) rfl
theorem q175 : (Jvm.Cond.instantiable "FrostBox$Fault" (6 : Nat)) ∈ lw_all := lw_g (lw_at lw_m1 34 rfl) rfl
theorem q176 : (Jvm.Cond.castable "FrostBox$Fault" "FrostBox$Fault") ∈ lw_tbl := lw_at lw_m1 35 rfl
theorem q181 : (Jvm.Cond.selects "FrostBox$Fault" ({ cls := "java/lang/Throwable", name := "fillInStackTrace", desc := "(I)Ljava/lang/Throwable;" } : Jvm.MethodName) ({ cls := "java/lang/Throwable", name := "fillInStackTrace", desc := "(I)Ljava/lang/Throwable;" } : Jvm.MethodName)) ∈ lw_all := lw_g (lw_at lw_m1 40 rfl) rfl
theorem q182 : (Jvm.Cond.selects "FrostBox$Fault" ({ cls := "java/lang/Throwable", name := "fillInStackTrace", desc := "()Ljava/lang/Throwable;" } : Jvm.MethodName) ({ cls := "java/lang/Throwable", name := "fillInStackTrace", desc := "()Ljava/lang/Throwable;" } : Jvm.MethodName)) ∈ lw_all := lw_g (lw_at lw_m1 41 rfl) rfl
theorem q183 : (Jvm.Cond.lays "FrostBox$Fault" "java/lang/Throwable" "cause" "Ljava/lang/Throwable;") ∈ lw_all := lw_g (lw_at lw_m1 42 rfl) rfl
theorem q185 : (Jvm.Cond.lays "FrostBox$Fault" "java/lang/Throwable" "stackTrace" "[Ljava/lang/StackTraceElement;") ∈ lw_all := lw_g (lw_at lw_m1 44 rfl) rfl
theorem q187 : (Jvm.Cond.lays "FrostBox$Fault" "java/lang/Throwable" "suppressedExceptions" "Ljava/util/List;") ∈ lw_all := lw_g (lw_at lw_m1 46 rfl) rfl
theorem q189 : (Jvm.Cond.lays "FrostBox$Fault" "java/lang/Throwable" "detailMessage" "Ljava/lang/String;") ∈ lw_all := lw_g (lw_at lw_m1 48 rfl) rfl
theorem q191 : (Jvm.Cond.lays "FrostBox$Fault" "java/lang/Throwable" "backtrace" "Ljava/lang/Object;") ∈ lw_all := lw_g (lw_at lw_m1 50 rfl) rfl
theorem q213 : (Jvm.Cond.instanceMethod ({ cls := "FrostBox$Fault", name := "<init>", desc := "()V" } : Jvm.MethodName)) ∈ lw_all := lw_g (lw_at lw_m1 72 rfl) rfl
theorem q214 : (Jvm.Cond.code ({ cls := "FrostBox$Fault", name := "<init>", desc := "()V" } : Jvm.MethodName) prog_6_method_1_code (1 : Nat) (Option.none : Option Jvm.ClassFile.FieldType)) ∈ lw_all := lw_g (lw_at lw_m1 73 rfl) rfl
theorem q215 : (Jvm.Cond.methodLink "FrostBox$Fault" (1 : Nat) ({ cls := "java/lang/Exception", name := "<init>", desc := "()V" } : Jvm.MethodName)) ∈ lw_all := lw_g (lw_at lw_m1 74 rfl) rfl
theorem q227 : (Jvm.Cond.lays "FrostBox$Fault" "java/lang/Throwable" "depth" "I") ∈ lw_all := lw_g (lw_at lw_m1 86 rfl) rfl
theorem q230 : (Jvm.Cond.superclass "FrostBox$Fault" "java/lang/Exception") ∈ lw_all := lw_g (lw_at lw_m1 89 rfl) rfl
theorem q1917 : (Jvm.Cond.castable "FrostBox$Fault" "java/lang/Object") ∈ lw_tbl := lw_at lw_m8 96 rfl
theorem in_X2 : ∀ w ∈ wsX20, w ∈ lw_all := lw_in wsX20 [183, 185, 187, 189, 191, 227] (by decide +kernel) (by decide +kernel)
/-! FrostBox$Sum -/
set_option maxRecDepth 100000
def RX4 : String := "FrostBox$Sum"
abbrev cX4_init : ByteArray := prog_11_method_1_code
def yX4_init : MethodName := ⟨RX4, "<init>", "()V"⟩
theorem dX4_init_0 : decode cX4_init 0 = .ok (.aload_n 0, 1) := by decide +kernel
theorem dX4_init_1 : decode cX4_init 1 = .ok (.invokespecial 1, 3) := by decide +kernel
theorem dX4_init_4 : decode cX4_init 4 = .ok (.return_, 1) := by decide +kernel
theorem q153 : (Jvm.Cond.initialized "FrostBox$Sum") ∈ lw_all := lw_g (lw_at lw_m1 12 rfl) rfl
theorem q512 : (Jvm.Cond.instanceMethod ({ cls := "FrostBox$Sum", name := "<init>", desc := "()V" } : Jvm.MethodName)) ∈ lw_all := lw_g (lw_at lw_m2 131 rfl) rfl
theorem q513 : (Jvm.Cond.code ({ cls := "FrostBox$Sum", name := "<init>", desc := "()V" } : Jvm.MethodName) prog_11_method_1_code (1 : Nat) (Option.none : Option Jvm.ClassFile.FieldType)) ∈ lw_all := lw_g (lw_at lw_m2 132 rfl) rfl
theorem q514 : (Jvm.Cond.methodLink "FrostBox$Sum" (1 : Nat) ({ cls := "java/lang/Object", name := "<init>", desc := "()V" } : Jvm.MethodName)) ∈ lw_all := lw_g (lw_at lw_m2 133 rfl) rfl
theorem q866 : (Jvm.Cond.declares ({ cls := "FrostBox$Sum", name := "value", desc := "([I)I" } : Jvm.MethodName)) ∈ lw_tbl := lw_at lw_m4 5 rfl
theorem q867 : (Jvm.Cond.sameMethod "FrostBox$Sum" "FrostBox$Sum" "value" "([I)I") ∈ lw_all := lw_g (lw_at lw_m4 6 rfl) rfl
/-! FrostBox$Letter -/
set_option maxRecDepth 100000
def RX5 : String := "FrostBox$Letter"
def TX5 : u_T := fun k => match k with
  | _ => ("FrostBox$Letter", "c", "I", true)
def tyX5 : Nat → FieldType := fun k => match k with
  | _ => .int
abbrev wsX50 : List Cond := u_ws RX5 TX5 1
theorem nmX5 : ∀ a, a < 1 → ∀ b, b < 1 → a ≠ b → (TX5 a).2.1 ≠ (TX5 b).2.1 := by decide +kernel
theorem tyX5_ok : ∀ k, k < 1 → parseFieldDescriptor (TX5 k).2.2.1 = some (tyX5 k) := by decide +kernel
abbrev cX5_init : ByteArray := prog_7_method_1_code
def yX5_init : MethodName := ⟨RX5, "<init>", "(I)V"⟩
def dkwX5_init_0 : List UInt8 := [42, 183, 0, 1, 42, 27, 181, 0, 7, 177]
abbrev dktX5_init_0 : List UInt8 := dkwX5_init_0 ++ []
theorem dksX5_init_0 : cX5_init.data.toList.drop 0 = dktX5_init_0 := by decide +kernel
theorem dX5_init_0 : decode cX5_init 0 = .ok (.aload_n 0, 1) := dk_42 (dk_at dksX5_init_0 0 rfl rfl)
theorem dX5_init_1 : decode cX5_init 1 = .ok (.invokespecial 1, 3) := dk_183 0 1 (dk_at dksX5_init_0 1 rfl rfl)
theorem dX5_init_4 : decode cX5_init 4 = .ok (.aload_n 0, 1) := dk_42 (dk_at dksX5_init_0 4 rfl rfl)
theorem dX5_init_5 : decode cX5_init 5 = .ok (.iload_n 1, 1) := dk_27 (dk_at dksX5_init_0 5 rfl rfl)
theorem dX5_init_6 : decode cX5_init 6 = .ok (.putfield 7, 3) := dk_181 0 7 (dk_at dksX5_init_0 6 rfl rfl)
theorem dX5_init_9 : decode cX5_init 9 = .ok (.return_, 1) := dk_177 (dk_at dksX5_init_0 9 rfl rfl)
abbrev cX5_value : ByteArray := prog_7_method_2_code
def yX5_value : MethodName := ⟨RX5, "value", "([I)I"⟩
def dkwX5_value_0 : List UInt8 := [43, 42, 180, 0, 7, 46, 172]
abbrev dktX5_value_0 : List UInt8 := dkwX5_value_0 ++ []
theorem dksX5_value_0 : cX5_value.data.toList.drop 0 = dktX5_value_0 := by decide +kernel
theorem dX5_value_0 : decode cX5_value 0 = .ok (.aload_n 1, 1) := dk_43 (dk_at dksX5_value_0 0 rfl rfl)
theorem dX5_value_1 : decode cX5_value 1 = .ok (.aload_n 0, 1) := dk_42 (dk_at dksX5_value_0 1 rfl rfl)
theorem dX5_value_2 : decode cX5_value 2 = .ok (.getfield 7, 3) := dk_180 0 7 (dk_at dksX5_value_0 2 rfl rfl)
theorem dX5_value_5 : decode cX5_value 5 = .ok (.iaload, 1) := dk_46 (dk_at dksX5_value_0 5 rfl rfl)
theorem dX5_value_6 : decode cX5_value 6 = .ok (.ireturn, 1) := dk_172 (dk_at dksX5_value_0 6 rfl rfl)
theorem q154 : (Jvm.Cond.initialized "FrostBox$Letter") ∈ lw_all := lw_g (lw_at lw_m1 13 rfl) rfl
theorem q507 : (Jvm.Cond.instantiable "FrostBox$Letter" (1 : Nat)) ∈ lw_all := lw_g (lw_at lw_m2 126 rfl) rfl
theorem q509 : (Jvm.Cond.instanceMethod ({ cls := "FrostBox$Letter", name := "<init>", desc := "(I)V" } : Jvm.MethodName)) ∈ lw_all := lw_g (lw_at lw_m2 128 rfl) rfl
theorem q510 : (Jvm.Cond.code ({ cls := "FrostBox$Letter", name := "<init>", desc := "(I)V" } : Jvm.MethodName) prog_7_method_1_code (2 : Nat) (Option.none : Option Jvm.ClassFile.FieldType)) ∈ lw_all := lw_g (lw_at lw_m2 129 rfl) rfl
theorem q511 : (Jvm.Cond.methodLinkNest "FrostBox$Letter" (1 : Nat) ({ cls := "FrostBox$Sum", name := "<init>", desc := "()V" } : Jvm.MethodName) "FrostBox") ∈ lw_tbl := lw_at lw_m2 130 rfl
theorem q515 : (Jvm.Cond.fieldLink "FrostBox$Letter" (7 : Nat) "FrostBox$Letter" "c" "I") ∈ lw_all := lw_g (lw_at lw_m2 134 rfl) rfl
theorem q516 : (Jvm.Cond.laysFinal "FrostBox$Letter" "FrostBox$Letter" "c" "I") ∈ lw_all := lw_g (lw_at lw_m2 135 rfl) rfl
theorem q517 : (Jvm.Cond.soleField "FrostBox$Letter" "c") ∈ lw_all := lw_g (lw_at lw_m2 136 rfl) rfl
theorem q518 : (Jvm.Cond.superclass "FrostBox$Letter" "FrostBox$Sum") ∈ lw_all := lw_g (lw_at lw_m2 137 rfl) rfl
theorem q874 : (Jvm.Cond.instanceMethod ({ cls := "FrostBox$Letter", name := "value", desc := "([I)I" } : Jvm.MethodName)) ∈ lw_all := lw_g (lw_at lw_m4 13 rfl) rfl
theorem q875 : (Jvm.Cond.code ({ cls := "FrostBox$Letter", name := "value", desc := "([I)I" } : Jvm.MethodName) prog_7_method_2_code (2 : Nat) (Option.some Jvm.ClassFile.FieldType.int)) ∈ lw_all := lw_g (lw_at lw_m4 14 rfl) rfl
theorem q890 : (Jvm.Cond.selects "FrostBox$Letter" ({ cls := "FrostBox$Sum", name := "value", desc := "([I)I" } : Jvm.MethodName) ({ cls := "FrostBox$Letter", name := "value", desc := "([I)I" } : Jvm.MethodName)) ∈ lw_all := lw_g (lw_at lw_m4 29 rfl) rfl
theorem q1919 : (Jvm.Cond.castable "FrostBox$Letter" "java/lang/Object") ∈ lw_tbl := lw_at lw_m8 98 rfl
theorem in_X5 : ∀ w ∈ wsX50, w ∈ lw_all := lw_in wsX50 [516] (by decide +kernel) (by decide +kernel)
/-! FrostBox$Constant -/
set_option maxRecDepth 100000
def RX6 : String := "FrostBox$Constant"
def TX6 : u_T := fun k => match k with
  | _ => ("FrostBox$Constant", "v", "I", true)
def tyX6 : Nat → FieldType := fun k => match k with
  | _ => .int
abbrev wsX60 : List Cond := u_ws RX6 TX6 1
theorem nmX6 : ∀ a, a < 1 → ∀ b, b < 1 → a ≠ b → (TX6 a).2.1 ≠ (TX6 b).2.1 := by decide +kernel
theorem tyX6_ok : ∀ k, k < 1 → parseFieldDescriptor (TX6 k).2.2.1 = some (tyX6 k) := by decide +kernel
abbrev cX6_init : ByteArray := prog_5_method_1_code
def yX6_init : MethodName := ⟨RX6, "<init>", "(I)V"⟩
def dkwX6_init_0 : List UInt8 := [42, 183, 0, 1, 42, 27, 181, 0, 7, 177]
abbrev dktX6_init_0 : List UInt8 := dkwX6_init_0 ++ []
theorem dksX6_init_0 : cX6_init.data.toList.drop 0 = dktX6_init_0 := by decide +kernel
theorem dX6_init_0 : decode cX6_init 0 = .ok (.aload_n 0, 1) := dk_42 (dk_at dksX6_init_0 0 rfl rfl)
theorem dX6_init_1 : decode cX6_init 1 = .ok (.invokespecial 1, 3) := dk_183 0 1 (dk_at dksX6_init_0 1 rfl rfl)
theorem dX6_init_4 : decode cX6_init 4 = .ok (.aload_n 0, 1) := dk_42 (dk_at dksX6_init_0 4 rfl rfl)
theorem dX6_init_5 : decode cX6_init 5 = .ok (.iload_n 1, 1) := dk_27 (dk_at dksX6_init_0 5 rfl rfl)
theorem dX6_init_6 : decode cX6_init 6 = .ok (.putfield 7, 3) := dk_181 0 7 (dk_at dksX6_init_0 6 rfl rfl)
theorem dX6_init_9 : decode cX6_init 9 = .ok (.return_, 1) := dk_177 (dk_at dksX6_init_0 9 rfl rfl)
abbrev cX6_value : ByteArray := prog_5_method_2_code
def yX6_value : MethodName := ⟨RX6, "value", "([I)I"⟩
theorem dX6_value_0 : decode cX6_value 0 = .ok (.aload_n 0, 1) := by decide +kernel
theorem dX6_value_1 : decode cX6_value 1 = .ok (.getfield 7, 3) := by decide +kernel
theorem dX6_value_4 : decode cX6_value 4 = .ok (.ireturn, 1) := by decide +kernel
theorem q155 : (Jvm.Cond.initialized "FrostBox$Constant") ∈ lw_all := lw_g (lw_at lw_m1 14 rfl) rfl
theorem q523 : (Jvm.Cond.instantiable "FrostBox$Constant" (1 : Nat)) ∈ lw_all := lw_g (lw_at lw_m2 142 rfl) rfl
theorem q525 : (Jvm.Cond.instanceMethod ({ cls := "FrostBox$Constant", name := "<init>", desc := "(I)V" } : Jvm.MethodName)) ∈ lw_all := lw_g (lw_at lw_m2 144 rfl) rfl
theorem q526 : (Jvm.Cond.code ({ cls := "FrostBox$Constant", name := "<init>", desc := "(I)V" } : Jvm.MethodName) prog_5_method_1_code (2 : Nat) (Option.none : Option Jvm.ClassFile.FieldType)) ∈ lw_all := lw_g (lw_at lw_m2 145 rfl) rfl
theorem q527 : (Jvm.Cond.methodLinkNest "FrostBox$Constant" (1 : Nat) ({ cls := "FrostBox$Sum", name := "<init>", desc := "()V" } : Jvm.MethodName) "FrostBox") ∈ lw_tbl := lw_at lw_m2 146 rfl
theorem q528 : (Jvm.Cond.fieldLink "FrostBox$Constant" (7 : Nat) "FrostBox$Constant" "v" "I") ∈ lw_all := lw_g (lw_at lw_m2 147 rfl) rfl
theorem q529 : (Jvm.Cond.laysFinal "FrostBox$Constant" "FrostBox$Constant" "v" "I") ∈ lw_all := lw_g (lw_at lw_m2 148 rfl) rfl
theorem q530 : (Jvm.Cond.soleField "FrostBox$Constant" "v") ∈ lw_all := lw_g (lw_at lw_m2 149 rfl) rfl
theorem q531 : (Jvm.Cond.superclass "FrostBox$Constant" "FrostBox$Sum") ∈ lw_all := lw_g (lw_at lw_m2 150 rfl) rfl
theorem q872 : (Jvm.Cond.instanceMethod ({ cls := "FrostBox$Constant", name := "value", desc := "([I)I" } : Jvm.MethodName)) ∈ lw_all := lw_g (lw_at lw_m4 11 rfl) rfl
theorem q873 : (Jvm.Cond.code ({ cls := "FrostBox$Constant", name := "value", desc := "([I)I" } : Jvm.MethodName) prog_5_method_2_code (2 : Nat) (Option.some Jvm.ClassFile.FieldType.int)) ∈ lw_all := lw_g (lw_at lw_m4 12 rfl) rfl
theorem q889 : (Jvm.Cond.selects "FrostBox$Constant" ({ cls := "FrostBox$Sum", name := "value", desc := "([I)I" } : Jvm.MethodName) ({ cls := "FrostBox$Constant", name := "value", desc := "([I)I" } : Jvm.MethodName)) ∈ lw_all := lw_g (lw_at lw_m4 28 rfl) rfl
theorem q1920 : (Jvm.Cond.castable "FrostBox$Constant" "java/lang/Object") ∈ lw_tbl := lw_at lw_m8 99 rfl
theorem in_X6 : ∀ w ∈ wsX60, w ∈ lw_all := lw_in wsX60 [529] (by decide +kernel) (by decide +kernel)
/-! FrostBox$Chain -/
set_option maxRecDepth 100000
def RX7 : String := "FrostBox$Chain"
def TX7 : u_T := fun k => match k with
  | 0 => ("FrostBox$Chain", "first", "LFrostBox$Sum;", true)
  | 1 => ("FrostBox$Chain", "links", "LFrostBox$Link;", false)
  | _ => ("FrostBox$Chain", "last", "LFrostBox$Link;", false)
def tyX7 : Nat → FieldType := fun k => match k with
  | 0 => .object "FrostBox$Sum"
  | 1 => .object "FrostBox$Link"
  | _ => .object "FrostBox$Link"
abbrev wsX70 : List Cond := u_ws RX7 TX7 3
theorem nmX7 : ∀ a, a < 3 → ∀ b, b < 3 → a ≠ b → (TX7 a).2.1 ≠ (TX7 b).2.1 := by decide +kernel
theorem tyX7_ok : ∀ k, k < 3 → parseFieldDescriptor (TX7 k).2.2.1 = some (tyX7 k) := by decide +kernel
abbrev cX7_init : ByteArray := prog_2_method_1_code
def yX7_init : MethodName := ⟨RX7, "<init>", "(LFrostBox$Sum;)V"⟩
def dkwX7_init_0 : List UInt8 := [42, 183, 0, 3, 42, 43, 181, 0, 9, 177]
abbrev dktX7_init_0 : List UInt8 := dkwX7_init_0 ++ []
theorem dksX7_init_0 : cX7_init.data.toList.drop 0 = dktX7_init_0 := by decide +kernel
theorem dX7_init_0 : decode cX7_init 0 = .ok (.aload_n 0, 1) := dk_42 (dk_at dksX7_init_0 0 rfl rfl)
theorem dX7_init_1 : decode cX7_init 1 = .ok (.invokespecial 3, 3) := dk_183 0 3 (dk_at dksX7_init_0 1 rfl rfl)
theorem dX7_init_4 : decode cX7_init 4 = .ok (.aload_n 0, 1) := dk_42 (dk_at dksX7_init_0 4 rfl rfl)
theorem dX7_init_5 : decode cX7_init 5 = .ok (.aload_n 1, 1) := dk_43 (dk_at dksX7_init_0 5 rfl rfl)
theorem dX7_init_6 : decode cX7_init 6 = .ok (.putfield 9, 3) := dk_181 0 9 (dk_at dksX7_init_0 6 rfl rfl)
theorem dX7_init_9 : decode cX7_init 9 = .ok (.return_, 1) := dk_177 (dk_at dksX7_init_0 9 rfl rfl)
abbrev cX7_add : ByteArray := prog_2_method_2_code
def yX7_add : MethodName := ⟨RX7, "add", "(ILFrostBox$Sum;)V"⟩
def dkwX7_add_1 : List UInt8 := [167, 0, 11, 42, 180, 0, 20, 45, 181, 0, 27, 42, 45, 181, 0, 20, 177]
abbrev dktX7_add_1 : List UInt8 := dkwX7_add_1 ++ []
def dkwX7_add_0 : List UInt8 := [187, 0, 15, 89, 27, 44, 183, 0, 17, 78, 42, 180, 0, 20, 199, 0, 11, 42, 45, 181, 0, 24]
abbrev dktX7_add_0 : List UInt8 := dkwX7_add_0 ++ dktX7_add_1
theorem dksX7_add_0 : cX7_add.data.toList.drop 0 = dktX7_add_0 := by decide +kernel
theorem dksX7_add_1 : cX7_add.data.toList.drop 22 = dktX7_add_1 := dk_seg dksX7_add_0 22 rfl rfl
theorem dX7_add_0 : decode cX7_add 0 = .ok (.new 15, 3) := dk_187 0 15 (dk_at dksX7_add_0 0 rfl rfl)
theorem dX7_add_3 : decode cX7_add 3 = .ok (.dup, 1) := dk_89 (dk_at dksX7_add_0 3 rfl rfl)
theorem dX7_add_4 : decode cX7_add 4 = .ok (.iload_n 1, 1) := dk_27 (dk_at dksX7_add_0 4 rfl rfl)
theorem dX7_add_5 : decode cX7_add 5 = .ok (.aload_n 2, 1) := dk_44 (dk_at dksX7_add_0 5 rfl rfl)
theorem dX7_add_6 : decode cX7_add 6 = .ok (.invokespecial 17, 3) := dk_183 0 17 (dk_at dksX7_add_0 6 rfl rfl)
theorem dX7_add_9 : decode cX7_add 9 = .ok (.astore_n 3, 1) := dk_78 (dk_at dksX7_add_0 9 rfl rfl)
theorem dX7_add_10 : decode cX7_add 10 = .ok (.aload_n 0, 1) := dk_42 (dk_at dksX7_add_0 10 rfl rfl)
theorem dX7_add_11 : decode cX7_add 11 = .ok (.getfield 20, 3) := dk_180 0 20 (dk_at dksX7_add_0 11 rfl rfl)
theorem dX7_add_14 : decode cX7_add 14 = .ok (.ifnonnull 11, 3) := dk_199 0 11 (dk_at dksX7_add_0 14 rfl rfl)
theorem dX7_add_17 : decode cX7_add 17 = .ok (.aload_n 0, 1) := dk_42 (dk_at dksX7_add_0 17 rfl rfl)
theorem dX7_add_18 : decode cX7_add 18 = .ok (.aload_n 3, 1) := dk_45 (dk_at dksX7_add_0 18 rfl rfl)
theorem dX7_add_19 : decode cX7_add 19 = .ok (.putfield 24, 3) := dk_181 0 24 (dk_at dksX7_add_0 19 rfl rfl)
theorem dX7_add_22 : decode cX7_add 22 = .ok (.goto 11, 3) := dk_167 0 11 (dk_at dksX7_add_1 0 rfl rfl)
theorem dX7_add_25 : decode cX7_add 25 = .ok (.aload_n 0, 1) := dk_42 (dk_at dksX7_add_1 3 rfl rfl)
theorem dX7_add_26 : decode cX7_add 26 = .ok (.getfield 20, 3) := dk_180 0 20 (dk_at dksX7_add_1 4 rfl rfl)
theorem dX7_add_29 : decode cX7_add 29 = .ok (.aload_n 3, 1) := dk_45 (dk_at dksX7_add_1 7 rfl rfl)
theorem dX7_add_30 : decode cX7_add 30 = .ok (.putfield 27, 3) := dk_181 0 27 (dk_at dksX7_add_1 8 rfl rfl)
theorem dX7_add_33 : decode cX7_add 33 = .ok (.aload_n 0, 1) := dk_42 (dk_at dksX7_add_1 11 rfl rfl)
theorem dX7_add_34 : decode cX7_add 34 = .ok (.aload_n 3, 1) := dk_45 (dk_at dksX7_add_1 12 rfl rfl)
theorem dX7_add_35 : decode cX7_add 35 = .ok (.putfield 20, 3) := dk_181 0 20 (dk_at dksX7_add_1 13 rfl rfl)
theorem dX7_add_38 : decode cX7_add 38 = .ok (.return_, 1) := dk_177 (dk_at dksX7_add_1 16 rfl rfl)
abbrev cX7_value : ByteArray := prog_2_method_3_code
def yX7_value : MethodName := ⟨RX7, "value", "([I)I"⟩
def dkwX7_value_2 : List UInt8 := [167, 255, 224, 32, 136, 172]
abbrev dktX7_value_2 : List UInt8 := dkwX7_value_2 ++ []
def dkwX7_value_1 : List UInt8 := [20, 0, 36, 25, 4, 32, 43, 182, 0, 38, 184, 0, 42, 184, 0, 48, 65, 25, 4, 180, 0, 27, 58, 4]
abbrev dktX7_value_1 : List UInt8 := dkwX7_value_1 ++ dktX7_value_2
def dkwX7_value_0 : List UInt8 := [42, 180, 0, 9, 43, 182, 0, 30, 133, 65, 42, 180, 0, 24, 58, 4, 25, 4, 198, 0, 33, 20, 0, 34]
abbrev dktX7_value_0 : List UInt8 := dkwX7_value_0 ++ dktX7_value_1
theorem dksX7_value_0 : cX7_value.data.toList.drop 0 = dktX7_value_0 := by decide +kernel
theorem dksX7_value_1 : cX7_value.data.toList.drop 24 = dktX7_value_1 := dk_seg dksX7_value_0 24 rfl rfl
theorem dksX7_value_2 : cX7_value.data.toList.drop 48 = dktX7_value_2 := dk_seg dksX7_value_1 24 rfl rfl
theorem dX7_value_0 : decode cX7_value 0 = .ok (.aload_n 0, 1) := dk_42 (dk_at dksX7_value_0 0 rfl rfl)
theorem dX7_value_1 : decode cX7_value 1 = .ok (.getfield 9, 3) := dk_180 0 9 (dk_at dksX7_value_0 1 rfl rfl)
theorem dX7_value_4 : decode cX7_value 4 = .ok (.aload_n 1, 1) := dk_43 (dk_at dksX7_value_0 4 rfl rfl)
theorem dX7_value_5 : decode cX7_value 5 = .ok (.invokevirtual 30, 3) := dk_182 0 30 (dk_at dksX7_value_0 5 rfl rfl)
theorem dX7_value_8 : decode cX7_value 8 = .ok (.i2l, 1) := dk_133 (dk_at dksX7_value_0 8 rfl rfl)
theorem dX7_value_9 : decode cX7_value 9 = .ok (.lstore_n 2, 1) := dk_65 (dk_at dksX7_value_0 9 rfl rfl)
theorem dX7_value_10 : decode cX7_value 10 = .ok (.aload_n 0, 1) := dk_42 (dk_at dksX7_value_0 10 rfl rfl)
theorem dX7_value_11 : decode cX7_value 11 = .ok (.getfield 24, 3) := dk_180 0 24 (dk_at dksX7_value_0 11 rfl rfl)
theorem dX7_value_14 : decode cX7_value 14 = .ok (.astore 4, 2) := dk_58 4 (dk_at dksX7_value_0 14 rfl rfl)
theorem dX7_value_16 : decode cX7_value 16 = .ok (.aload 4, 2) := dk_25 4 (dk_at dksX7_value_0 16 rfl rfl)
theorem dX7_value_18 : decode cX7_value 18 = .ok (.ifnull 33, 3) := dk_198 0 33 (dk_at dksX7_value_0 18 rfl rfl)
theorem dX7_value_21 : decode cX7_value 21 = .ok (.ldc2_w 34, 3) := dk_20 0 34 (dk_at dksX7_value_0 21 rfl rfl)
theorem dX7_value_24 : decode cX7_value 24 = .ok (.ldc2_w 36, 3) := dk_20 0 36 (dk_at dksX7_value_1 0 rfl rfl)
theorem dX7_value_27 : decode cX7_value 27 = .ok (.aload 4, 2) := dk_25 4 (dk_at dksX7_value_1 3 rfl rfl)
theorem dX7_value_29 : decode cX7_value 29 = .ok (.lload_n 2, 1) := dk_32 (dk_at dksX7_value_1 5 rfl rfl)
theorem dX7_value_30 : decode cX7_value 30 = .ok (.aload_n 1, 1) := dk_43 (dk_at dksX7_value_1 6 rfl rfl)
theorem dX7_value_31 : decode cX7_value 31 = .ok (.invokevirtual 38, 3) := dk_182 0 38 (dk_at dksX7_value_1 7 rfl rfl)
theorem dX7_value_34 : decode cX7_value 34 = .ok (.invokestatic 42, 3) := dk_184 0 42 (dk_at dksX7_value_1 10 rfl rfl)
theorem dX7_value_37 : decode cX7_value 37 = .ok (.invokestatic 48, 3) := dk_184 0 48 (dk_at dksX7_value_1 13 rfl rfl)
theorem dX7_value_40 : decode cX7_value 40 = .ok (.lstore_n 2, 1) := dk_65 (dk_at dksX7_value_1 16 rfl rfl)
theorem dX7_value_41 : decode cX7_value 41 = .ok (.aload 4, 2) := dk_25 4 (dk_at dksX7_value_1 17 rfl rfl)
theorem dX7_value_43 : decode cX7_value 43 = .ok (.getfield 27, 3) := dk_180 0 27 (dk_at dksX7_value_1 19 rfl rfl)
theorem dX7_value_46 : decode cX7_value 46 = .ok (.astore 4, 2) := dk_58 4 (dk_at dksX7_value_1 22 rfl rfl)
theorem dX7_value_48 : decode cX7_value 48 = .ok (.goto (-32), 3) := dk_167 255 224 (dk_at dksX7_value_2 0 rfl rfl)
theorem dX7_value_51 : decode cX7_value 51 = .ok (.lload_n 2, 1) := dk_32 (dk_at dksX7_value_2 3 rfl rfl)
theorem dX7_value_52 : decode cX7_value 52 = .ok (.l2i, 1) := dk_136 (dk_at dksX7_value_2 4 rfl rfl)
theorem dX7_value_53 : decode cX7_value 53 = .ok (.ireturn, 1) := dk_172 (dk_at dksX7_value_2 5 rfl rfl)
theorem q156 : (Jvm.Cond.initialized "FrostBox$Chain") ∈ lw_all := lw_g (lw_at lw_m1 15 rfl) rfl
theorem q533 : (Jvm.Cond.instantiable "FrostBox$Chain" (3 : Nat)) ∈ lw_all := lw_g (lw_at lw_m2 152 rfl) rfl
theorem q535 : (Jvm.Cond.instanceMethod ({ cls := "FrostBox$Chain", name := "<init>", desc := "(LFrostBox$Sum;)V" } : Jvm.MethodName)) ∈ lw_all := lw_g (lw_at lw_m2 154 rfl) rfl
theorem q536 : (Jvm.Cond.code ({ cls := "FrostBox$Chain", name := "<init>", desc := "(LFrostBox$Sum;)V" } : Jvm.MethodName) prog_2_method_1_code (2 : Nat) (Option.none : Option Jvm.ClassFile.FieldType)) ∈ lw_all := lw_g (lw_at lw_m2 155 rfl) rfl
theorem q537 : (Jvm.Cond.methodLinkNest "FrostBox$Chain" (3 : Nat) ({ cls := "FrostBox$Sum", name := "<init>", desc := "()V" } : Jvm.MethodName) "FrostBox") ∈ lw_tbl := lw_at lw_m2 156 rfl
theorem q538 : (Jvm.Cond.fieldLink "FrostBox$Chain" (9 : Nat) "FrostBox$Chain" "first" "LFrostBox$Sum;") ∈ lw_all := lw_g (lw_at lw_m2 157 rfl) rfl
theorem q539 : (Jvm.Cond.fieldLink "FrostBox$Chain" (24 : Nat) "FrostBox$Chain" "links" "LFrostBox$Link;") ∈ lw_all := lw_g (lw_at lw_m2 158 rfl) rfl
theorem q540 : (Jvm.Cond.fieldLink "FrostBox$Chain" (20 : Nat) "FrostBox$Chain" "last" "LFrostBox$Link;") ∈ lw_all := lw_g (lw_at lw_m2 159 rfl) rfl
theorem q541 : (Jvm.Cond.laysFinal "FrostBox$Chain" "FrostBox$Chain" "first" "LFrostBox$Sum;") ∈ lw_all := lw_g (lw_at lw_m2 160 rfl) rfl
theorem q542 : (Jvm.Cond.soleField "FrostBox$Chain" "first") ∈ lw_all := lw_g (lw_at lw_m2 161 rfl) rfl
theorem q543 : (Jvm.Cond.lays "FrostBox$Chain" "FrostBox$Chain" "links" "LFrostBox$Link;") ∈ lw_all := lw_g (lw_at lw_m2 162 rfl) rfl
theorem q544 : (Jvm.Cond.soleField "FrostBox$Chain" "links") ∈ lw_all := lw_g (lw_at lw_m2 163 rfl) rfl
theorem q545 : (Jvm.Cond.lays "FrostBox$Chain" "FrostBox$Chain" "last" "LFrostBox$Link;") ∈ lw_all := lw_g (lw_at lw_m2 164 rfl) rfl
theorem q546 : (Jvm.Cond.soleField "FrostBox$Chain" "last") ∈ lw_all := lw_g (lw_at lw_m2 165 rfl) rfl
theorem q547 : (Jvm.Cond.superclass "FrostBox$Chain" "FrostBox$Sum") ∈ lw_all := lw_g (lw_at lw_m2 166 rfl) rfl
theorem q549 : (Jvm.Cond.instanceMethod ({ cls := "FrostBox$Chain", name := "add", desc := "(ILFrostBox$Sum;)V" } : Jvm.MethodName)) ∈ lw_all := lw_g (lw_at lw_m2 168 rfl) rfl
theorem q550 : (Jvm.Cond.selects "FrostBox$Chain" ({ cls := "FrostBox$Chain", name := "add", desc := "(ILFrostBox$Sum;)V" } : Jvm.MethodName) ({ cls := "FrostBox$Chain", name := "add", desc := "(ILFrostBox$Sum;)V" } : Jvm.MethodName)) ∈ lw_all := lw_g (lw_at lw_m2 169 rfl) rfl
theorem q551 : (Jvm.Cond.code ({ cls := "FrostBox$Chain", name := "add", desc := "(ILFrostBox$Sum;)V" } : Jvm.MethodName) prog_2_method_2_code (4 : Nat) (Option.none : Option Jvm.ClassFile.FieldType)) ∈ lw_all := lw_g (lw_at lw_m2 170 rfl) rfl
theorem q552 : (Jvm.Cond.classLink "FrostBox$Chain" (15 : Nat) "FrostBox$Link") ∈ lw_all := lw_g (lw_at lw_m2 171 rfl) rfl
theorem q554 : (Jvm.Cond.methodLink "FrostBox$Chain" (17 : Nat) ({ cls := "FrostBox$Link", name := "<init>", desc := "(ILFrostBox$Sum;)V" } : Jvm.MethodName)) ∈ lw_all := lw_g (lw_at lw_m2 173 rfl) rfl
theorem q560 : (Jvm.Cond.fieldLinkNest "FrostBox$Chain" (27 : Nat) "FrostBox$Link" "next" "LFrostBox$Link;" "FrostBox") ∈ lw_tbl := lw_at lw_m2 179 rfl
theorem q868 : (Jvm.Cond.selects "FrostBox$Chain" ({ cls := "FrostBox$Sum", name := "value", desc := "([I)I" } : Jvm.MethodName) ({ cls := "FrostBox$Chain", name := "value", desc := "([I)I" } : Jvm.MethodName)) ∈ lw_all := lw_g (lw_at lw_m4 7 rfl) rfl
theorem q869 : (Jvm.Cond.instanceMethod ({ cls := "FrostBox$Chain", name := "value", desc := "([I)I" } : Jvm.MethodName)) ∈ lw_all := lw_g (lw_at lw_m4 8 rfl) rfl
theorem q870 : (Jvm.Cond.code ({ cls := "FrostBox$Chain", name := "value", desc := "([I)I" } : Jvm.MethodName) prog_2_method_3_code (5 : Nat) (Option.some Jvm.ClassFile.FieldType.int)) ∈ lw_all := lw_g (lw_at lw_m4 9 rfl) rfl
theorem q871 : (Jvm.Cond.methodLink "FrostBox$Chain" (30 : Nat) ({ cls := "FrostBox$Sum", name := "value", desc := "([I)I" } : Jvm.MethodName)) ∈ lw_all := lw_g (lw_at lw_m4 10 rfl) rfl
theorem q876 : (Jvm.Cond.constantLong "FrostBox$Chain" (34 : Nat) (-1000000 : Int64)) ∈ lw_all := lw_g (lw_at lw_m4 15 rfl) rfl
theorem q877 : (Jvm.Cond.constantLong "FrostBox$Chain" (36 : Nat) (1000000 : Int64)) ∈ lw_all := lw_g (lw_at lw_m4 16 rfl) rfl
theorem q878 : (Jvm.Cond.methodLink "FrostBox$Chain" (38 : Nat) ({ cls := "FrostBox$Link", name := "on", desc := "(J[I)J" } : Jvm.MethodName)) ∈ lw_all := lw_g (lw_at lw_m4 17 rfl) rfl
theorem q883 : (Jvm.Cond.methodLink "FrostBox$Chain" (42 : Nat) ({ cls := "java/lang/Math", name := "min", desc := "(JJ)J" } : Jvm.MethodName)) ∈ lw_all := lw_g (lw_at lw_m4 22 rfl) rfl
theorem q886 : (Jvm.Cond.methodLink "FrostBox$Chain" (48 : Nat) ({ cls := "java/lang/Math", name := "max", desc := "(JJ)J" } : Jvm.MethodName)) ∈ lw_all := lw_g (lw_at lw_m4 25 rfl) rfl
theorem q1921 : (Jvm.Cond.castable "FrostBox$Chain" "java/lang/Object") ∈ lw_tbl := lw_at lw_m8 100 rfl
theorem in_X7 : ∀ w ∈ wsX70, w ∈ lw_all := lw_in wsX70 [541, 543, 545] (by decide +kernel) (by decide +kernel)
/-! FrostBox$Link -/
set_option maxRecDepth 100000
def RX8 : String := "FrostBox$Link"
def TX8 : u_T := fun k => match k with
  | 0 => ("FrostBox$Link", "sign", "I", true)
  | 1 => ("FrostBox$Link", "sum", "LFrostBox$Sum;", true)
  | _ => ("FrostBox$Link", "next", "LFrostBox$Link;", false)
def tyX8 : Nat → FieldType := fun k => match k with
  | 0 => .int
  | 1 => .object "FrostBox$Sum"
  | _ => .object "FrostBox$Link"
abbrev wsX80 : List Cond := u_ws RX8 TX8 3
theorem nmX8 : ∀ a, a < 3 → ∀ b, b < 3 → a ≠ b → (TX8 a).2.1 ≠ (TX8 b).2.1 := by decide +kernel
theorem tyX8_ok : ∀ k, k < 3 → parseFieldDescriptor (TX8 k).2.2.1 = some (tyX8 k) := by decide +kernel
abbrev cX8_init : ByteArray := prog_8_method_1_code
def yX8_init : MethodName := ⟨RX8, "<init>", "(ILFrostBox$Sum;)V"⟩
def dkwX8_init_0 : List UInt8 := [42, 183, 0, 1, 42, 27, 181, 0, 7, 42, 44, 181, 0, 13, 177]
abbrev dktX8_init_0 : List UInt8 := dkwX8_init_0 ++ []
theorem dksX8_init_0 : cX8_init.data.toList.drop 0 = dktX8_init_0 := by decide +kernel
theorem dX8_init_0 : decode cX8_init 0 = .ok (.aload_n 0, 1) := dk_42 (dk_at dksX8_init_0 0 rfl rfl)
theorem dX8_init_1 : decode cX8_init 1 = .ok (.invokespecial 1, 3) := dk_183 0 1 (dk_at dksX8_init_0 1 rfl rfl)
theorem dX8_init_4 : decode cX8_init 4 = .ok (.aload_n 0, 1) := dk_42 (dk_at dksX8_init_0 4 rfl rfl)
theorem dX8_init_5 : decode cX8_init 5 = .ok (.iload_n 1, 1) := dk_27 (dk_at dksX8_init_0 5 rfl rfl)
theorem dX8_init_6 : decode cX8_init 6 = .ok (.putfield 7, 3) := dk_181 0 7 (dk_at dksX8_init_0 6 rfl rfl)
theorem dX8_init_9 : decode cX8_init 9 = .ok (.aload_n 0, 1) := dk_42 (dk_at dksX8_init_0 9 rfl rfl)
theorem dX8_init_10 : decode cX8_init 10 = .ok (.aload_n 2, 1) := dk_44 (dk_at dksX8_init_0 10 rfl rfl)
theorem dX8_init_11 : decode cX8_init 11 = .ok (.putfield 13, 3) := dk_181 0 13 (dk_at dksX8_init_0 11 rfl rfl)
theorem dX8_init_14 : decode cX8_init 14 = .ok (.return_, 1) := dk_177 (dk_at dksX8_init_0 14 rfl rfl)
abbrev cX8_on : ByteArray := prog_8_method_2_code
def yX8_on : MethodName := ⟨RX8, "on", "(J[I)J"⟩
def dkwX8_on_3 : List UInt8 := [167, 0, 7, 31, 22, 4, 109, 173]
abbrev dktX8_on_3 : List UInt8 := dkwX8_on_3 ++ []
def dkwX8_on_2 : List UInt8 := [31, 22, 4, 97, 173, 31, 22, 4, 101, 173, 31, 22, 4, 105, 173, 22, 4, 9, 148, 154, 0, 7, 9]
abbrev dktX8_on_2 : List UInt8 := dkwX8_on_2 ++ dktX8_on_3
def dkwX8_on_1 : List UInt8 := [170, 0, 0, 0, 44, 0, 0, 0, 42, 0, 0, 0, 45, 0, 0, 0, 39, 0, 0, 0, 29, 0, 0, 0, 44, 0, 0, 0, 34]
abbrev dktX8_on_1 : List UInt8 := dkwX8_on_1 ++ dktX8_on_2
def dkwX8_on_0 : List UInt8 := [42, 180, 0, 13, 45, 182, 0, 17, 133, 55, 4, 42, 180, 0, 7]
abbrev dktX8_on_0 : List UInt8 := dkwX8_on_0 ++ dktX8_on_1
theorem dksX8_on_0 : cX8_on.data.toList.drop 0 = dktX8_on_0 := by decide +kernel
theorem dksX8_on_1 : cX8_on.data.toList.drop 15 = dktX8_on_1 := dk_seg dksX8_on_0 15 rfl rfl
theorem dksX8_on_2 : cX8_on.data.toList.drop 44 = dktX8_on_2 := dk_seg dksX8_on_1 29 rfl rfl
theorem dksX8_on_3 : cX8_on.data.toList.drop 67 = dktX8_on_3 := dk_seg dksX8_on_2 23 rfl rfl
theorem dX8_on_0 : decode cX8_on 0 = .ok (.aload_n 0, 1) := dk_42 (dk_at dksX8_on_0 0 rfl rfl)
theorem dX8_on_1 : decode cX8_on 1 = .ok (.getfield 13, 3) := dk_180 0 13 (dk_at dksX8_on_0 1 rfl rfl)
theorem dX8_on_4 : decode cX8_on 4 = .ok (.aload_n 3, 1) := dk_45 (dk_at dksX8_on_0 4 rfl rfl)
theorem dX8_on_5 : decode cX8_on 5 = .ok (.invokevirtual 17, 3) := dk_182 0 17 (dk_at dksX8_on_0 5 rfl rfl)
theorem dX8_on_8 : decode cX8_on 8 = .ok (.i2l, 1) := dk_133 (dk_at dksX8_on_0 8 rfl rfl)
theorem dX8_on_9 : decode cX8_on 9 = .ok (.lstore 4, 2) := dk_55 4 (dk_at dksX8_on_0 9 rfl rfl)
theorem dX8_on_11 : decode cX8_on 11 = .ok (.aload_n 0, 1) := dk_42 (dk_at dksX8_on_0 11 rfl rfl)
theorem dX8_on_12 : decode cX8_on 12 = .ok (.getfield 7, 3) := dk_180 0 7 (dk_at dksX8_on_0 12 rfl rfl)
theorem dX8_on_15 : decode cX8_on 15 = .ok (.tableswitch 44 42 45 #[39, 29, 44, 34], 29) := by decide +kernel
theorem dX8_on_44 : decode cX8_on 44 = .ok (.lload_n 1, 1) := dk_31 (dk_at dksX8_on_2 0 rfl rfl)
theorem dX8_on_45 : decode cX8_on 45 = .ok (.lload 4, 2) := dk_22 4 (dk_at dksX8_on_2 1 rfl rfl)
theorem dX8_on_47 : decode cX8_on 47 = .ok (.ladd, 1) := dk_97 (dk_at dksX8_on_2 3 rfl rfl)
theorem dX8_on_48 : decode cX8_on 48 = .ok (.lreturn, 1) := dk_173 (dk_at dksX8_on_2 4 rfl rfl)
theorem dX8_on_49 : decode cX8_on 49 = .ok (.lload_n 1, 1) := dk_31 (dk_at dksX8_on_2 5 rfl rfl)
theorem dX8_on_50 : decode cX8_on 50 = .ok (.lload 4, 2) := dk_22 4 (dk_at dksX8_on_2 6 rfl rfl)
theorem dX8_on_52 : decode cX8_on 52 = .ok (.lsub, 1) := dk_101 (dk_at dksX8_on_2 8 rfl rfl)
theorem dX8_on_53 : decode cX8_on 53 = .ok (.lreturn, 1) := dk_173 (dk_at dksX8_on_2 9 rfl rfl)
theorem dX8_on_54 : decode cX8_on 54 = .ok (.lload_n 1, 1) := dk_31 (dk_at dksX8_on_2 10 rfl rfl)
theorem dX8_on_55 : decode cX8_on 55 = .ok (.lload 4, 2) := dk_22 4 (dk_at dksX8_on_2 11 rfl rfl)
theorem dX8_on_57 : decode cX8_on 57 = .ok (.lmul, 1) := dk_105 (dk_at dksX8_on_2 13 rfl rfl)
theorem dX8_on_58 : decode cX8_on 58 = .ok (.lreturn, 1) := dk_173 (dk_at dksX8_on_2 14 rfl rfl)
theorem dX8_on_59 : decode cX8_on 59 = .ok (.lload 4, 2) := dk_22 4 (dk_at dksX8_on_2 15 rfl rfl)
theorem dX8_on_61 : decode cX8_on 61 = .ok (.lconst 0, 1) := dk_9 (dk_at dksX8_on_2 17 rfl rfl)
theorem dX8_on_62 : decode cX8_on 62 = .ok (.lcmp, 1) := dk_148 (dk_at dksX8_on_2 18 rfl rfl)
theorem dX8_on_63 : decode cX8_on 63 = .ok (.ifCond .ne 7, 3) := dk_154 0 7 (dk_at dksX8_on_2 19 rfl rfl)
theorem dX8_on_66 : decode cX8_on 66 = .ok (.lconst 0, 1) := dk_9 (dk_at dksX8_on_2 22 rfl rfl)
theorem dX8_on_67 : decode cX8_on 67 = .ok (.goto 7, 3) := dk_167 0 7 (dk_at dksX8_on_3 0 rfl rfl)
theorem dX8_on_70 : decode cX8_on 70 = .ok (.lload_n 1, 1) := dk_31 (dk_at dksX8_on_3 3 rfl rfl)
theorem dX8_on_71 : decode cX8_on 71 = .ok (.lload 4, 2) := dk_22 4 (dk_at dksX8_on_3 4 rfl rfl)
theorem dX8_on_73 : decode cX8_on 73 = .ok (.ldiv, 1) := dk_109 (dk_at dksX8_on_3 6 rfl rfl)
theorem dX8_on_74 : decode cX8_on 74 = .ok (.lreturn, 1) := dk_173 (dk_at dksX8_on_3 7 rfl rfl)
theorem q157 : (Jvm.Cond.initialized "FrostBox$Link") ∈ lw_all := lw_g (lw_at lw_m1 16 rfl) rfl
theorem q553 : (Jvm.Cond.instantiable "FrostBox$Link" (3 : Nat)) ∈ lw_all := lw_g (lw_at lw_m2 172 rfl) rfl
theorem q555 : (Jvm.Cond.instanceMethod ({ cls := "FrostBox$Link", name := "<init>", desc := "(ILFrostBox$Sum;)V" } : Jvm.MethodName)) ∈ lw_all := lw_g (lw_at lw_m2 174 rfl) rfl
theorem q556 : (Jvm.Cond.code ({ cls := "FrostBox$Link", name := "<init>", desc := "(ILFrostBox$Sum;)V" } : Jvm.MethodName) prog_8_method_1_code (3 : Nat) (Option.none : Option Jvm.ClassFile.FieldType)) ∈ lw_all := lw_g (lw_at lw_m2 175 rfl) rfl
theorem q557 : (Jvm.Cond.methodLink "FrostBox$Link" (1 : Nat) ({ cls := "java/lang/Object", name := "<init>", desc := "()V" } : Jvm.MethodName)) ∈ lw_all := lw_g (lw_at lw_m2 176 rfl) rfl
theorem q558 : (Jvm.Cond.fieldLink "FrostBox$Link" (7 : Nat) "FrostBox$Link" "sign" "I") ∈ lw_all := lw_g (lw_at lw_m2 177 rfl) rfl
theorem q559 : (Jvm.Cond.fieldLink "FrostBox$Link" (13 : Nat) "FrostBox$Link" "sum" "LFrostBox$Sum;") ∈ lw_all := lw_g (lw_at lw_m2 178 rfl) rfl
theorem q561 : (Jvm.Cond.laysFinal "FrostBox$Link" "FrostBox$Link" "sign" "I") ∈ lw_all := lw_g (lw_at lw_m2 180 rfl) rfl
theorem q562 : (Jvm.Cond.soleField "FrostBox$Link" "sign") ∈ lw_all := lw_g (lw_at lw_m2 181 rfl) rfl
theorem q563 : (Jvm.Cond.laysFinal "FrostBox$Link" "FrostBox$Link" "sum" "LFrostBox$Sum;") ∈ lw_all := lw_g (lw_at lw_m2 182 rfl) rfl
theorem q564 : (Jvm.Cond.soleField "FrostBox$Link" "sum") ∈ lw_all := lw_g (lw_at lw_m2 183 rfl) rfl
theorem q565 : (Jvm.Cond.lays "FrostBox$Link" "FrostBox$Link" "next" "LFrostBox$Link;") ∈ lw_all := lw_g (lw_at lw_m2 184 rfl) rfl
theorem q566 : (Jvm.Cond.soleField "FrostBox$Link" "next") ∈ lw_all := lw_g (lw_at lw_m2 185 rfl) rfl
theorem q567 : (Jvm.Cond.superclass "FrostBox$Link" "java/lang/Object") ∈ lw_all := lw_g (lw_at lw_m2 186 rfl) rfl
theorem q879 : (Jvm.Cond.instanceMethod ({ cls := "FrostBox$Link", name := "on", desc := "(J[I)J" } : Jvm.MethodName)) ∈ lw_all := lw_g (lw_at lw_m4 18 rfl) rfl
theorem q880 : (Jvm.Cond.selects "FrostBox$Link" ({ cls := "FrostBox$Link", name := "on", desc := "(J[I)J" } : Jvm.MethodName) ({ cls := "FrostBox$Link", name := "on", desc := "(J[I)J" } : Jvm.MethodName)) ∈ lw_all := lw_g (lw_at lw_m4 19 rfl) rfl
theorem q881 : (Jvm.Cond.code ({ cls := "FrostBox$Link", name := "on", desc := "(J[I)J" } : Jvm.MethodName) prog_8_method_2_code (6 : Nat) (Option.some Jvm.ClassFile.FieldType.long)) ∈ lw_all := lw_g (lw_at lw_m4 20 rfl) rfl
theorem q882 : (Jvm.Cond.methodLink "FrostBox$Link" (17 : Nat) ({ cls := "FrostBox$Sum", name := "value", desc := "([I)I" } : Jvm.MethodName)) ∈ lw_all := lw_g (lw_at lw_m4 21 rfl) rfl
theorem q1922 : (Jvm.Cond.castable "FrostBox$Link" "java/lang/Object") ∈ lw_tbl := lw_at lw_m8 101 rfl
theorem in_X8 : ∀ w ∈ wsX80, w ∈ lw_all := lw_in wsX80 [561, 563, 565] (by decide +kernel) (by decide +kernel)
/-! FrostBox$Clause -/
set_option maxRecDepth 100000
def RX9 : String := "FrostBox$Clause"
def TX9 : u_T := fun k => match k with
  | 0 => ("FrostBox$Clause", "label", "I", true)
  | 1 => ("FrostBox$Clause", "test", "LFrostBox$Test;", true)
  | 2 => ("FrostBox$Clause", "sum", "LFrostBox$Sum;", true)
  | _ => ("FrostBox$Clause", "next", "LFrostBox$Clause;", false)
def tyX9 : Nat → FieldType := fun k => match k with
  | 0 => .int
  | 1 => .object "FrostBox$Test"
  | 2 => .object "FrostBox$Sum"
  | _ => .object "FrostBox$Clause"
abbrev wsX90 : List Cond := u_ws RX9 TX9 4
theorem nmX9 : ∀ a, a < 4 → ∀ b, b < 4 → a ≠ b → (TX9 a).2.1 ≠ (TX9 b).2.1 := by decide +kernel
theorem tyX9_ok : ∀ k, k < 4 → parseFieldDescriptor (TX9 k).2.2.1 = some (tyX9 k) := by decide +kernel
abbrev cX9_init : ByteArray := prog_3_method_1_code
def yX9_init : MethodName := ⟨RX9, "<init>", "(ILFrostBox$Test;LFrostBox$Sum;)V"⟩
def dkwX9_init_0 : List UInt8 := [42, 183, 0, 1, 42, 27, 181, 0, 7, 42, 44, 181, 0, 13, 42, 45, 181, 0, 17, 177]
abbrev dktX9_init_0 : List UInt8 := dkwX9_init_0 ++ []
theorem dksX9_init_0 : cX9_init.data.toList.drop 0 = dktX9_init_0 := by decide +kernel
theorem dX9_init_0 : decode cX9_init 0 = .ok (.aload_n 0, 1) := dk_42 (dk_at dksX9_init_0 0 rfl rfl)
theorem dX9_init_1 : decode cX9_init 1 = .ok (.invokespecial 1, 3) := dk_183 0 1 (dk_at dksX9_init_0 1 rfl rfl)
theorem dX9_init_4 : decode cX9_init 4 = .ok (.aload_n 0, 1) := dk_42 (dk_at dksX9_init_0 4 rfl rfl)
theorem dX9_init_5 : decode cX9_init 5 = .ok (.iload_n 1, 1) := dk_27 (dk_at dksX9_init_0 5 rfl rfl)
theorem dX9_init_6 : decode cX9_init 6 = .ok (.putfield 7, 3) := dk_181 0 7 (dk_at dksX9_init_0 6 rfl rfl)
theorem dX9_init_9 : decode cX9_init 9 = .ok (.aload_n 0, 1) := dk_42 (dk_at dksX9_init_0 9 rfl rfl)
theorem dX9_init_10 : decode cX9_init 10 = .ok (.aload_n 2, 1) := dk_44 (dk_at dksX9_init_0 10 rfl rfl)
theorem dX9_init_11 : decode cX9_init 11 = .ok (.putfield 13, 3) := dk_181 0 13 (dk_at dksX9_init_0 11 rfl rfl)
theorem dX9_init_14 : decode cX9_init 14 = .ok (.aload_n 0, 1) := dk_42 (dk_at dksX9_init_0 14 rfl rfl)
theorem dX9_init_15 : decode cX9_init 15 = .ok (.aload_n 3, 1) := dk_45 (dk_at dksX9_init_0 15 rfl rfl)
theorem dX9_init_16 : decode cX9_init 16 = .ok (.putfield 17, 3) := dk_181 0 17 (dk_at dksX9_init_0 16 rfl rfl)
theorem dX9_init_19 : decode cX9_init 19 = .ok (.return_, 1) := dk_177 (dk_at dksX9_init_0 19 rfl rfl)
theorem q158 : (Jvm.Cond.initialized "FrostBox$Clause") ∈ lw_all := lw_g (lw_at lw_m1 17 rfl) rfl
theorem q571 : (Jvm.Cond.instantiable "FrostBox$Clause" (4 : Nat)) ∈ lw_all := lw_g (lw_at lw_m2 190 rfl) rfl
theorem q573 : (Jvm.Cond.instanceMethod ({ cls := "FrostBox$Clause", name := "<init>", desc := "(ILFrostBox$Test;LFrostBox$Sum;)V" } : Jvm.MethodName)) ∈ lw_all := lw_g (lw_at lw_m2 192 rfl) rfl
theorem q574 : (Jvm.Cond.code ({ cls := "FrostBox$Clause", name := "<init>", desc := "(ILFrostBox$Test;LFrostBox$Sum;)V" } : Jvm.MethodName) prog_3_method_1_code (4 : Nat) (Option.none : Option Jvm.ClassFile.FieldType)) ∈ lw_all := lw_g (lw_at lw_m2 193 rfl) rfl
theorem q575 : (Jvm.Cond.methodLink "FrostBox$Clause" (1 : Nat) ({ cls := "java/lang/Object", name := "<init>", desc := "()V" } : Jvm.MethodName)) ∈ lw_all := lw_g (lw_at lw_m2 194 rfl) rfl
theorem q576 : (Jvm.Cond.fieldLink "FrostBox$Clause" (7 : Nat) "FrostBox$Clause" "label" "I") ∈ lw_all := lw_g (lw_at lw_m2 195 rfl) rfl
theorem q578 : (Jvm.Cond.fieldLink "FrostBox$Clause" (13 : Nat) "FrostBox$Clause" "test" "LFrostBox$Test;") ∈ lw_all := lw_g (lw_at lw_m2 197 rfl) rfl
theorem q580 : (Jvm.Cond.fieldLink "FrostBox$Clause" (17 : Nat) "FrostBox$Clause" "sum" "LFrostBox$Sum;") ∈ lw_all := lw_g (lw_at lw_m2 199 rfl) rfl
theorem q583 : (Jvm.Cond.laysFinal "FrostBox$Clause" "FrostBox$Clause" "label" "I") ∈ lw_all := lw_g (lw_at lw_m2 202 rfl) rfl
theorem q584 : (Jvm.Cond.soleField "FrostBox$Clause" "label") ∈ lw_all := lw_g (lw_at lw_m2 203 rfl) rfl
theorem q585 : (Jvm.Cond.laysFinal "FrostBox$Clause" "FrostBox$Clause" "test" "LFrostBox$Test;") ∈ lw_all := lw_g (lw_at lw_m2 204 rfl) rfl
theorem q586 : (Jvm.Cond.soleField "FrostBox$Clause" "test") ∈ lw_all := lw_g (lw_at lw_m2 205 rfl) rfl
theorem q587 : (Jvm.Cond.laysFinal "FrostBox$Clause" "FrostBox$Clause" "sum" "LFrostBox$Sum;") ∈ lw_all := lw_g (lw_at lw_m2 206 rfl) rfl
theorem q588 : (Jvm.Cond.soleField "FrostBox$Clause" "sum") ∈ lw_all := lw_g (lw_at lw_m2 207 rfl) rfl
theorem q589 : (Jvm.Cond.lays "FrostBox$Clause" "FrostBox$Clause" "next" "LFrostBox$Clause;") ∈ lw_all := lw_g (lw_at lw_m2 208 rfl) rfl
theorem q590 : (Jvm.Cond.soleField "FrostBox$Clause" "next") ∈ lw_all := lw_g (lw_at lw_m2 209 rfl) rfl
theorem q591 : (Jvm.Cond.superclass "FrostBox$Clause" "java/lang/Object") ∈ lw_all := lw_g (lw_at lw_m2 210 rfl) rfl
theorem q1923 : (Jvm.Cond.castable "FrostBox$Clause" "java/lang/Object") ∈ lw_tbl := lw_at lw_m8 102 rfl
theorem in_X9 : ∀ w ∈ wsX90, w ∈ lw_all := lw_in wsX90 [583, 585, 587, 589] (by decide +kernel) (by decide +kernel)
/-! FrostBox$Test -/
set_option maxRecDepth 100000
def RX10 : String := "FrostBox$Test"
abbrev cX10_init : ByteArray := prog_12_method_1_code
def yX10_init : MethodName := ⟨RX10, "<init>", "()V"⟩
theorem dX10_init_0 : decode cX10_init 0 = .ok (.aload_n 0, 1) := by decide +kernel
theorem dX10_init_1 : decode cX10_init 1 = .ok (.invokespecial 1, 3) := by decide +kernel
theorem dX10_init_4 : decode cX10_init 4 = .ok (.return_, 1) := by decide +kernel
theorem q159 : (Jvm.Cond.initialized "FrostBox$Test") ∈ lw_all := lw_g (lw_at lw_m1 18 rfl) rfl
theorem q610 : (Jvm.Cond.instanceMethod ({ cls := "FrostBox$Test", name := "<init>", desc := "()V" } : Jvm.MethodName)) ∈ lw_all := lw_g (lw_at lw_m2 229 rfl) rfl
theorem q611 : (Jvm.Cond.code ({ cls := "FrostBox$Test", name := "<init>", desc := "()V" } : Jvm.MethodName) prog_12_method_1_code (1 : Nat) (Option.none : Option Jvm.ClassFile.FieldType)) ∈ lw_all := lw_g (lw_at lw_m2 230 rfl) rfl
theorem q612 : (Jvm.Cond.methodLink "FrostBox$Test" (1 : Nat) ({ cls := "java/lang/Object", name := "<init>", desc := "()V" } : Jvm.MethodName)) ∈ lw_all := lw_g (lw_at lw_m2 231 rfl) rfl
theorem q618 : (Jvm.Cond.soleField "FrostBox$Test" "next") ∈ lw_all := lw_g (lw_at lw_m2 237 rfl) rfl
theorem q860 : (Jvm.Cond.declares ({ cls := "FrostBox$Test", name := "holds", desc := "([I)Z" } : Jvm.MethodName)) ∈ lw_tbl := lw_at lw_m3 239 rfl
theorem q861 : (Jvm.Cond.sameMethod "FrostBox$Test" "FrostBox$Test" "holds" "([I)Z") ∈ lw_all := lw_g (lw_at lw_m4 0 rfl) rfl
/-! FrostBox$Not -/
set_option maxRecDepth 100000
def RX11 : String := "FrostBox$Not"
def TX11 : u_T := fun k => match k with
  | 0 => ("FrostBox$Test", "next", "LFrostBox$Test;", false)
  | _ => ("FrostBox$Not", "test", "LFrostBox$Test;", true)
def tyX11 : Nat → FieldType := fun k => match k with
  | 0 => .object "FrostBox$Test"
  | _ => .object "FrostBox$Test"
abbrev wsX110 : List Cond := u_ws RX11 TX11 2
theorem nmX11 : ∀ a, a < 2 → ∀ b, b < 2 → a ≠ b → (TX11 a).2.1 ≠ (TX11 b).2.1 := by decide +kernel
theorem tyX11_ok : ∀ k, k < 2 → parseFieldDescriptor (TX11 k).2.2.1 = some (tyX11 k) := by decide +kernel
abbrev cX11_init : ByteArray := prog_9_method_1_code
def yX11_init : MethodName := ⟨RX11, "<init>", "(LFrostBox$Test;)V"⟩
def dkwX11_init_0 : List UInt8 := [42, 183, 0, 1, 42, 43, 181, 0, 7, 177]
abbrev dktX11_init_0 : List UInt8 := dkwX11_init_0 ++ []
theorem dksX11_init_0 : cX11_init.data.toList.drop 0 = dktX11_init_0 := by decide +kernel
theorem dX11_init_0 : decode cX11_init 0 = .ok (.aload_n 0, 1) := dk_42 (dk_at dksX11_init_0 0 rfl rfl)
theorem dX11_init_1 : decode cX11_init 1 = .ok (.invokespecial 1, 3) := dk_183 0 1 (dk_at dksX11_init_0 1 rfl rfl)
theorem dX11_init_4 : decode cX11_init 4 = .ok (.aload_n 0, 1) := dk_42 (dk_at dksX11_init_0 4 rfl rfl)
theorem dX11_init_5 : decode cX11_init 5 = .ok (.aload_n 1, 1) := dk_43 (dk_at dksX11_init_0 5 rfl rfl)
theorem dX11_init_6 : decode cX11_init 6 = .ok (.putfield 7, 3) := dk_181 0 7 (dk_at dksX11_init_0 6 rfl rfl)
theorem dX11_init_9 : decode cX11_init 9 = .ok (.return_, 1) := dk_177 (dk_at dksX11_init_0 9 rfl rfl)
abbrev cX11_holds : ByteArray := prog_9_method_2_code
def yX11_holds : MethodName := ⟨RX11, "holds", "([I)Z"⟩
def dkwX11_holds_0 : List UInt8 := [42, 180, 0, 7, 43, 182, 0, 13, 154, 0, 7, 4, 167, 0, 4, 3, 172]
abbrev dktX11_holds_0 : List UInt8 := dkwX11_holds_0 ++ []
theorem dksX11_holds_0 : cX11_holds.data.toList.drop 0 = dktX11_holds_0 := by decide +kernel
theorem dX11_holds_0 : decode cX11_holds 0 = .ok (.aload_n 0, 1) := dk_42 (dk_at dksX11_holds_0 0 rfl rfl)
theorem dX11_holds_1 : decode cX11_holds 1 = .ok (.getfield 7, 3) := dk_180 0 7 (dk_at dksX11_holds_0 1 rfl rfl)
theorem dX11_holds_4 : decode cX11_holds 4 = .ok (.aload_n 1, 1) := dk_43 (dk_at dksX11_holds_0 4 rfl rfl)
theorem dX11_holds_5 : decode cX11_holds 5 = .ok (.invokevirtual 13, 3) := dk_182 0 13 (dk_at dksX11_holds_0 5 rfl rfl)
theorem dX11_holds_8 : decode cX11_holds 8 = .ok (.ifCond .ne 7, 3) := dk_154 0 7 (dk_at dksX11_holds_0 8 rfl rfl)
theorem dX11_holds_11 : decode cX11_holds 11 = .ok (.iconst 1, 1) := dk_4 (dk_at dksX11_holds_0 11 rfl rfl)
theorem dX11_holds_12 : decode cX11_holds 12 = .ok (.goto 4, 3) := dk_167 0 4 (dk_at dksX11_holds_0 12 rfl rfl)
theorem dX11_holds_15 : decode cX11_holds 15 = .ok (.iconst 0, 1) := dk_3 (dk_at dksX11_holds_0 15 rfl rfl)
theorem dX11_holds_16 : decode cX11_holds 16 = .ok (.ireturn, 1) := dk_172 (dk_at dksX11_holds_0 16 rfl rfl)
theorem q160 : (Jvm.Cond.initialized "FrostBox$Not") ∈ lw_all := lw_g (lw_at lw_m1 19 rfl) rfl
theorem q605 : (Jvm.Cond.instantiable "FrostBox$Not" (2 : Nat)) ∈ lw_all := lw_g (lw_at lw_m2 224 rfl) rfl
theorem q607 : (Jvm.Cond.instanceMethod ({ cls := "FrostBox$Not", name := "<init>", desc := "(LFrostBox$Test;)V" } : Jvm.MethodName)) ∈ lw_all := lw_g (lw_at lw_m2 226 rfl) rfl
theorem q608 : (Jvm.Cond.code ({ cls := "FrostBox$Not", name := "<init>", desc := "(LFrostBox$Test;)V" } : Jvm.MethodName) prog_9_method_1_code (2 : Nat) (Option.none : Option Jvm.ClassFile.FieldType)) ∈ lw_all := lw_g (lw_at lw_m2 227 rfl) rfl
theorem q609 : (Jvm.Cond.methodLinkNest "FrostBox$Not" (1 : Nat) ({ cls := "FrostBox$Test", name := "<init>", desc := "()V" } : Jvm.MethodName) "FrostBox") ∈ lw_tbl := lw_at lw_m2 228 rfl
theorem q613 : (Jvm.Cond.fieldLink "FrostBox$Not" (7 : Nat) "FrostBox$Not" "test" "LFrostBox$Test;") ∈ lw_all := lw_g (lw_at lw_m2 232 rfl) rfl
theorem q615 : (Jvm.Cond.laysFinal "FrostBox$Not" "FrostBox$Not" "test" "LFrostBox$Test;") ∈ lw_all := lw_g (lw_at lw_m2 234 rfl) rfl
theorem q616 : (Jvm.Cond.soleField "FrostBox$Not" "test") ∈ lw_all := lw_g (lw_at lw_m2 235 rfl) rfl
theorem q617 : (Jvm.Cond.lays "FrostBox$Not" "FrostBox$Test" "next" "LFrostBox$Test;") ∈ lw_all := lw_g (lw_at lw_m2 236 rfl) rfl
theorem q619 : (Jvm.Cond.superclass "FrostBox$Not" "FrostBox$Test") ∈ lw_all := lw_g (lw_at lw_m2 238 rfl) rfl
theorem q891 : (Jvm.Cond.selects "FrostBox$Not" ({ cls := "FrostBox$Test", name := "holds", desc := "([I)Z" } : Jvm.MethodName) ({ cls := "FrostBox$Not", name := "holds", desc := "([I)Z" } : Jvm.MethodName)) ∈ lw_all := lw_g (lw_at lw_m4 30 rfl) rfl
theorem q892 : (Jvm.Cond.instanceMethod ({ cls := "FrostBox$Not", name := "holds", desc := "([I)Z" } : Jvm.MethodName)) ∈ lw_all := lw_g (lw_at lw_m4 31 rfl) rfl
theorem q893 : (Jvm.Cond.code ({ cls := "FrostBox$Not", name := "holds", desc := "([I)Z" } : Jvm.MethodName) prog_9_method_2_code (2 : Nat) (Option.some Jvm.ClassFile.FieldType.boolean)) ∈ lw_all := lw_g (lw_at lw_m4 32 rfl) rfl
theorem q894 : (Jvm.Cond.methodLink "FrostBox$Not" (13 : Nat) ({ cls := "FrostBox$Test", name := "holds", desc := "([I)Z" } : Jvm.MethodName)) ∈ lw_all := lw_g (lw_at lw_m4 33 rfl) rfl
theorem q1924 : (Jvm.Cond.castable "FrostBox$Not" "java/lang/Object") ∈ lw_tbl := lw_at lw_m8 103 rfl
theorem in_X11 : ∀ w ∈ wsX110, w ∈ lw_all := lw_in wsX110 [617, 615] (by decide +kernel) (by decide +kernel)
/-! FrostBox$Compare -/
set_option maxRecDepth 100000
def RX12 : String := "FrostBox$Compare"
def TX12 : u_T := fun k => match k with
  | 0 => ("FrostBox$Test", "next", "LFrostBox$Test;", false)
  | 1 => ("FrostBox$Compare", "sign", "I", true)
  | 2 => ("FrostBox$Compare", "one", "LFrostBox$Sum;", true)
  | _ => ("FrostBox$Compare", "other", "LFrostBox$Sum;", true)
def tyX12 : Nat → FieldType := fun k => match k with
  | 0 => .object "FrostBox$Test"
  | 1 => .int
  | 2 => .object "FrostBox$Sum"
  | _ => .object "FrostBox$Sum"
abbrev wsX120 : List Cond := u_ws RX12 TX12 4
theorem nmX12 : ∀ a, a < 4 → ∀ b, b < 4 → a ≠ b → (TX12 a).2.1 ≠ (TX12 b).2.1 := by decide +kernel
theorem tyX12_ok : ∀ k, k < 4 → parseFieldDescriptor (TX12 k).2.2.1 = some (tyX12 k) := by decide +kernel
abbrev cX12_init : ByteArray := prog_4_method_1_code
def yX12_init : MethodName := ⟨RX12, "<init>", "(ILFrostBox$Sum;LFrostBox$Sum;)V"⟩
def dkwX12_init_0 : List UInt8 := [42, 183, 0, 1, 42, 27, 181, 0, 7, 42, 44, 181, 0, 13, 42, 45, 181, 0, 17, 177]
abbrev dktX12_init_0 : List UInt8 := dkwX12_init_0 ++ []
theorem dksX12_init_0 : cX12_init.data.toList.drop 0 = dktX12_init_0 := by decide +kernel
theorem dX12_init_0 : decode cX12_init 0 = .ok (.aload_n 0, 1) := dk_42 (dk_at dksX12_init_0 0 rfl rfl)
theorem dX12_init_1 : decode cX12_init 1 = .ok (.invokespecial 1, 3) := dk_183 0 1 (dk_at dksX12_init_0 1 rfl rfl)
theorem dX12_init_4 : decode cX12_init 4 = .ok (.aload_n 0, 1) := dk_42 (dk_at dksX12_init_0 4 rfl rfl)
theorem dX12_init_5 : decode cX12_init 5 = .ok (.iload_n 1, 1) := dk_27 (dk_at dksX12_init_0 5 rfl rfl)
theorem dX12_init_6 : decode cX12_init 6 = .ok (.putfield 7, 3) := dk_181 0 7 (dk_at dksX12_init_0 6 rfl rfl)
theorem dX12_init_9 : decode cX12_init 9 = .ok (.aload_n 0, 1) := dk_42 (dk_at dksX12_init_0 9 rfl rfl)
theorem dX12_init_10 : decode cX12_init 10 = .ok (.aload_n 2, 1) := dk_44 (dk_at dksX12_init_0 10 rfl rfl)
theorem dX12_init_11 : decode cX12_init 11 = .ok (.putfield 13, 3) := dk_181 0 13 (dk_at dksX12_init_0 11 rfl rfl)
theorem dX12_init_14 : decode cX12_init 14 = .ok (.aload_n 0, 1) := dk_42 (dk_at dksX12_init_0 14 rfl rfl)
theorem dX12_init_15 : decode cX12_init 15 = .ok (.aload_n 3, 1) := dk_45 (dk_at dksX12_init_0 15 rfl rfl)
theorem dX12_init_16 : decode cX12_init 16 = .ok (.putfield 17, 3) := dk_181 0 17 (dk_at dksX12_init_0 16 rfl rfl)
theorem dX12_init_19 : decode cX12_init 19 = .ok (.return_, 1) := dk_177 (dk_at dksX12_init_0 19 rfl rfl)
abbrev cX12_holds : ByteArray := prog_4_method_2_code
def yX12_holds : MethodName := ⟨RX12, "holds", "([I)Z"⟩
def dkwX12_holds_3 : List UInt8 := [167, 0, 4, 3, 172]
abbrev dktX12_holds_3 : List UInt8 := dkwX12_holds_3 ++ []
def dkwX12_holds_2 : List UInt8 := [160, 0, 16, 28, 29, 162, 0, 7, 4, 167, 0, 17, 3, 167, 0, 13, 28, 29, 164, 0, 7, 4]
abbrev dktX12_holds_2 : List UInt8 := dkwX12_holds_2 ++ dktX12_holds_3
def dkwX12_holds_1 : List UInt8 := [160, 0, 16, 28, 29, 160, 0, 7, 4, 167, 0, 39, 3, 167, 0, 35, 42, 180, 0, 7, 16, 60]
abbrev dktX12_holds_1 : List UInt8 := dkwX12_holds_1 ++ dktX12_holds_2
def dkwX12_holds_0 : List UInt8 := [42, 180, 0, 13, 43, 182, 0, 20, 61, 42, 180, 0, 17, 43, 182, 0, 20, 62, 42, 180, 0, 7, 16, 61]
abbrev dktX12_holds_0 : List UInt8 := dkwX12_holds_0 ++ dktX12_holds_1
theorem dksX12_holds_0 : cX12_holds.data.toList.drop 0 = dktX12_holds_0 := by decide +kernel
theorem dksX12_holds_1 : cX12_holds.data.toList.drop 24 = dktX12_holds_1 := dk_seg dksX12_holds_0 24 rfl rfl
theorem dksX12_holds_2 : cX12_holds.data.toList.drop 46 = dktX12_holds_2 := dk_seg dksX12_holds_1 22 rfl rfl
theorem dksX12_holds_3 : cX12_holds.data.toList.drop 68 = dktX12_holds_3 := dk_seg dksX12_holds_2 22 rfl rfl
theorem dX12_holds_0 : decode cX12_holds 0 = .ok (.aload_n 0, 1) := dk_42 (dk_at dksX12_holds_0 0 rfl rfl)
theorem dX12_holds_1 : decode cX12_holds 1 = .ok (.getfield 13, 3) := dk_180 0 13 (dk_at dksX12_holds_0 1 rfl rfl)
theorem dX12_holds_4 : decode cX12_holds 4 = .ok (.aload_n 1, 1) := dk_43 (dk_at dksX12_holds_0 4 rfl rfl)
theorem dX12_holds_5 : decode cX12_holds 5 = .ok (.invokevirtual 20, 3) := dk_182 0 20 (dk_at dksX12_holds_0 5 rfl rfl)
theorem dX12_holds_8 : decode cX12_holds 8 = .ok (.istore_n 2, 1) := dk_61 (dk_at dksX12_holds_0 8 rfl rfl)
theorem dX12_holds_9 : decode cX12_holds 9 = .ok (.aload_n 0, 1) := dk_42 (dk_at dksX12_holds_0 9 rfl rfl)
theorem dX12_holds_10 : decode cX12_holds 10 = .ok (.getfield 17, 3) := dk_180 0 17 (dk_at dksX12_holds_0 10 rfl rfl)
theorem dX12_holds_13 : decode cX12_holds 13 = .ok (.aload_n 1, 1) := dk_43 (dk_at dksX12_holds_0 13 rfl rfl)
theorem dX12_holds_14 : decode cX12_holds 14 = .ok (.invokevirtual 20, 3) := dk_182 0 20 (dk_at dksX12_holds_0 14 rfl rfl)
theorem dX12_holds_17 : decode cX12_holds 17 = .ok (.istore_n 3, 1) := dk_62 (dk_at dksX12_holds_0 17 rfl rfl)
theorem dX12_holds_18 : decode cX12_holds 18 = .ok (.aload_n 0, 1) := dk_42 (dk_at dksX12_holds_0 18 rfl rfl)
theorem dX12_holds_19 : decode cX12_holds 19 = .ok (.getfield 7, 3) := dk_180 0 7 (dk_at dksX12_holds_0 19 rfl rfl)
theorem dX12_holds_22 : decode cX12_holds 22 = .ok (.bipush 61, 2) := dk_16 61 (dk_at dksX12_holds_0 22 rfl rfl)
theorem dX12_holds_24 : decode cX12_holds 24 = .ok (.if_icmp .ne 16, 3) := dk_160 0 16 (dk_at dksX12_holds_1 0 rfl rfl)
theorem dX12_holds_27 : decode cX12_holds 27 = .ok (.iload_n 2, 1) := dk_28 (dk_at dksX12_holds_1 3 rfl rfl)
theorem dX12_holds_28 : decode cX12_holds 28 = .ok (.iload_n 3, 1) := dk_29 (dk_at dksX12_holds_1 4 rfl rfl)
theorem dX12_holds_29 : decode cX12_holds 29 = .ok (.if_icmp .ne 7, 3) := dk_160 0 7 (dk_at dksX12_holds_1 5 rfl rfl)
theorem dX12_holds_32 : decode cX12_holds 32 = .ok (.iconst 1, 1) := dk_4 (dk_at dksX12_holds_1 8 rfl rfl)
theorem dX12_holds_33 : decode cX12_holds 33 = .ok (.goto 39, 3) := dk_167 0 39 (dk_at dksX12_holds_1 9 rfl rfl)
theorem dX12_holds_36 : decode cX12_holds 36 = .ok (.iconst 0, 1) := dk_3 (dk_at dksX12_holds_1 12 rfl rfl)
theorem dX12_holds_37 : decode cX12_holds 37 = .ok (.goto 35, 3) := dk_167 0 35 (dk_at dksX12_holds_1 13 rfl rfl)
theorem dX12_holds_40 : decode cX12_holds 40 = .ok (.aload_n 0, 1) := dk_42 (dk_at dksX12_holds_1 16 rfl rfl)
theorem dX12_holds_41 : decode cX12_holds 41 = .ok (.getfield 7, 3) := dk_180 0 7 (dk_at dksX12_holds_1 17 rfl rfl)
theorem dX12_holds_44 : decode cX12_holds 44 = .ok (.bipush 60, 2) := dk_16 60 (dk_at dksX12_holds_1 20 rfl rfl)
theorem dX12_holds_46 : decode cX12_holds 46 = .ok (.if_icmp .ne 16, 3) := dk_160 0 16 (dk_at dksX12_holds_2 0 rfl rfl)
theorem dX12_holds_49 : decode cX12_holds 49 = .ok (.iload_n 2, 1) := dk_28 (dk_at dksX12_holds_2 3 rfl rfl)
theorem dX12_holds_50 : decode cX12_holds 50 = .ok (.iload_n 3, 1) := dk_29 (dk_at dksX12_holds_2 4 rfl rfl)
theorem dX12_holds_51 : decode cX12_holds 51 = .ok (.if_icmp .ge 7, 3) := dk_162 0 7 (dk_at dksX12_holds_2 5 rfl rfl)
theorem dX12_holds_54 : decode cX12_holds 54 = .ok (.iconst 1, 1) := dk_4 (dk_at dksX12_holds_2 8 rfl rfl)
theorem dX12_holds_55 : decode cX12_holds 55 = .ok (.goto 17, 3) := dk_167 0 17 (dk_at dksX12_holds_2 9 rfl rfl)
theorem dX12_holds_58 : decode cX12_holds 58 = .ok (.iconst 0, 1) := dk_3 (dk_at dksX12_holds_2 12 rfl rfl)
theorem dX12_holds_59 : decode cX12_holds 59 = .ok (.goto 13, 3) := dk_167 0 13 (dk_at dksX12_holds_2 13 rfl rfl)
theorem dX12_holds_62 : decode cX12_holds 62 = .ok (.iload_n 2, 1) := dk_28 (dk_at dksX12_holds_2 16 rfl rfl)
theorem dX12_holds_63 : decode cX12_holds 63 = .ok (.iload_n 3, 1) := dk_29 (dk_at dksX12_holds_2 17 rfl rfl)
theorem dX12_holds_64 : decode cX12_holds 64 = .ok (.if_icmp .le 7, 3) := dk_164 0 7 (dk_at dksX12_holds_2 18 rfl rfl)
theorem dX12_holds_67 : decode cX12_holds 67 = .ok (.iconst 1, 1) := dk_4 (dk_at dksX12_holds_2 21 rfl rfl)
theorem dX12_holds_68 : decode cX12_holds 68 = .ok (.goto 4, 3) := dk_167 0 4 (dk_at dksX12_holds_3 0 rfl rfl)
theorem dX12_holds_71 : decode cX12_holds 71 = .ok (.iconst 0, 1) := dk_3 (dk_at dksX12_holds_3 3 rfl rfl)
theorem dX12_holds_72 : decode cX12_holds 72 = .ok (.ireturn, 1) := dk_172 (dk_at dksX12_holds_3 4 rfl rfl)
theorem q161 : (Jvm.Cond.initialized "FrostBox$Compare") ∈ lw_all := lw_g (lw_at lw_m1 20 rfl) rfl
theorem q625 : (Jvm.Cond.instantiable "FrostBox$Compare" (4 : Nat)) ∈ lw_all := lw_g (lw_at lw_m3 4 rfl) rfl
theorem q627 : (Jvm.Cond.instanceMethod ({ cls := "FrostBox$Compare", name := "<init>", desc := "(ILFrostBox$Sum;LFrostBox$Sum;)V" } : Jvm.MethodName)) ∈ lw_all := lw_g (lw_at lw_m3 6 rfl) rfl
theorem q628 : (Jvm.Cond.code ({ cls := "FrostBox$Compare", name := "<init>", desc := "(ILFrostBox$Sum;LFrostBox$Sum;)V" } : Jvm.MethodName) prog_4_method_1_code (4 : Nat) (Option.none : Option Jvm.ClassFile.FieldType)) ∈ lw_all := lw_g (lw_at lw_m3 7 rfl) rfl
theorem q629 : (Jvm.Cond.methodLinkNest "FrostBox$Compare" (1 : Nat) ({ cls := "FrostBox$Test", name := "<init>", desc := "()V" } : Jvm.MethodName) "FrostBox") ∈ lw_tbl := lw_at lw_m3 8 rfl
theorem q630 : (Jvm.Cond.fieldLink "FrostBox$Compare" (7 : Nat) "FrostBox$Compare" "sign" "I") ∈ lw_all := lw_g (lw_at lw_m3 9 rfl) rfl
theorem q631 : (Jvm.Cond.fieldLink "FrostBox$Compare" (13 : Nat) "FrostBox$Compare" "one" "LFrostBox$Sum;") ∈ lw_all := lw_g (lw_at lw_m3 10 rfl) rfl
theorem q632 : (Jvm.Cond.fieldLink "FrostBox$Compare" (17 : Nat) "FrostBox$Compare" "other" "LFrostBox$Sum;") ∈ lw_all := lw_g (lw_at lw_m3 11 rfl) rfl
theorem q633 : (Jvm.Cond.laysFinal "FrostBox$Compare" "FrostBox$Compare" "sign" "I") ∈ lw_all := lw_g (lw_at lw_m3 12 rfl) rfl
theorem q634 : (Jvm.Cond.soleField "FrostBox$Compare" "sign") ∈ lw_all := lw_g (lw_at lw_m3 13 rfl) rfl
theorem q635 : (Jvm.Cond.laysFinal "FrostBox$Compare" "FrostBox$Compare" "one" "LFrostBox$Sum;") ∈ lw_all := lw_g (lw_at lw_m3 14 rfl) rfl
theorem q636 : (Jvm.Cond.soleField "FrostBox$Compare" "one") ∈ lw_all := lw_g (lw_at lw_m3 15 rfl) rfl
theorem q637 : (Jvm.Cond.laysFinal "FrostBox$Compare" "FrostBox$Compare" "other" "LFrostBox$Sum;") ∈ lw_all := lw_g (lw_at lw_m3 16 rfl) rfl
theorem q638 : (Jvm.Cond.soleField "FrostBox$Compare" "other") ∈ lw_all := lw_g (lw_at lw_m3 17 rfl) rfl
theorem q639 : (Jvm.Cond.lays "FrostBox$Compare" "FrostBox$Test" "next" "LFrostBox$Test;") ∈ lw_all := lw_g (lw_at lw_m3 18 rfl) rfl
theorem q640 : (Jvm.Cond.superclass "FrostBox$Compare" "FrostBox$Test") ∈ lw_all := lw_g (lw_at lw_m3 19 rfl) rfl
theorem q862 : (Jvm.Cond.selects "FrostBox$Compare" ({ cls := "FrostBox$Test", name := "holds", desc := "([I)Z" } : Jvm.MethodName) ({ cls := "FrostBox$Compare", name := "holds", desc := "([I)Z" } : Jvm.MethodName)) ∈ lw_all := lw_g (lw_at lw_m4 1 rfl) rfl
theorem q863 : (Jvm.Cond.instanceMethod ({ cls := "FrostBox$Compare", name := "holds", desc := "([I)Z" } : Jvm.MethodName)) ∈ lw_all := lw_g (lw_at lw_m4 2 rfl) rfl
theorem q864 : (Jvm.Cond.code ({ cls := "FrostBox$Compare", name := "holds", desc := "([I)Z" } : Jvm.MethodName) prog_4_method_2_code (4 : Nat) (Option.some Jvm.ClassFile.FieldType.boolean)) ∈ lw_all := lw_g (lw_at lw_m4 3 rfl) rfl
theorem q865 : (Jvm.Cond.methodLink "FrostBox$Compare" (20 : Nat) ({ cls := "FrostBox$Sum", name := "value", desc := "([I)I" } : Jvm.MethodName)) ∈ lw_all := lw_g (lw_at lw_m4 4 rfl) rfl
theorem q1925 : (Jvm.Cond.castable "FrostBox$Compare" "java/lang/Object") ∈ lw_tbl := lw_at lw_m8 104 rfl
theorem in_X12 : ∀ w ∈ wsX120, w ∈ lw_all := lw_in wsX120 [639, 633, 635, 637] (by decide +kernel) (by decide +kernel)
/-! FrostBox$Several -/
set_option maxRecDepth 100000
def RX13 : String := "FrostBox$Several"
def TX13 : u_T := fun k => match k with
  | 0 => ("FrostBox$Test", "next", "LFrostBox$Test;", false)
  | 1 => ("FrostBox$Several", "isAll", "Z", true)
  | 2 => ("FrostBox$Several", "first", "LFrostBox$Test;", false)
  | _ => ("FrostBox$Several", "last", "LFrostBox$Test;", false)
def tyX13 : Nat → FieldType := fun k => match k with
  | 0 => .object "FrostBox$Test"
  | 1 => .boolean
  | 2 => .object "FrostBox$Test"
  | _ => .object "FrostBox$Test"
abbrev wsX130 : List Cond := u_ws RX13 TX13 4
theorem nmX13 : ∀ a, a < 4 → ∀ b, b < 4 → a ≠ b → (TX13 a).2.1 ≠ (TX13 b).2.1 := by decide +kernel
theorem tyX13_ok : ∀ k, k < 4 → parseFieldDescriptor (TX13 k).2.2.1 = some (tyX13 k) := by decide +kernel
abbrev cX13_init : ByteArray := prog_10_method_1_code
def yX13_init : MethodName := ⟨RX13, "<init>", "(ZLFrostBox$Test;)V"⟩
def dkwX13_init_0 : List UInt8 := [42, 183, 0, 1, 42, 27, 181, 0, 7, 42, 44, 181, 0, 13, 42, 44, 181, 0, 17, 177]
abbrev dktX13_init_0 : List UInt8 := dkwX13_init_0 ++ []
theorem dksX13_init_0 : cX13_init.data.toList.drop 0 = dktX13_init_0 := by decide +kernel
theorem dX13_init_0 : decode cX13_init 0 = .ok (.aload_n 0, 1) := dk_42 (dk_at dksX13_init_0 0 rfl rfl)
theorem dX13_init_1 : decode cX13_init 1 = .ok (.invokespecial 1, 3) := dk_183 0 1 (dk_at dksX13_init_0 1 rfl rfl)
theorem dX13_init_4 : decode cX13_init 4 = .ok (.aload_n 0, 1) := dk_42 (dk_at dksX13_init_0 4 rfl rfl)
theorem dX13_init_5 : decode cX13_init 5 = .ok (.iload_n 1, 1) := dk_27 (dk_at dksX13_init_0 5 rfl rfl)
theorem dX13_init_6 : decode cX13_init 6 = .ok (.putfield 7, 3) := dk_181 0 7 (dk_at dksX13_init_0 6 rfl rfl)
theorem dX13_init_9 : decode cX13_init 9 = .ok (.aload_n 0, 1) := dk_42 (dk_at dksX13_init_0 9 rfl rfl)
theorem dX13_init_10 : decode cX13_init 10 = .ok (.aload_n 2, 1) := dk_44 (dk_at dksX13_init_0 10 rfl rfl)
theorem dX13_init_11 : decode cX13_init 11 = .ok (.putfield 13, 3) := dk_181 0 13 (dk_at dksX13_init_0 11 rfl rfl)
theorem dX13_init_14 : decode cX13_init 14 = .ok (.aload_n 0, 1) := dk_42 (dk_at dksX13_init_0 14 rfl rfl)
theorem dX13_init_15 : decode cX13_init 15 = .ok (.aload_n 2, 1) := dk_44 (dk_at dksX13_init_0 15 rfl rfl)
theorem dX13_init_16 : decode cX13_init 16 = .ok (.putfield 17, 3) := dk_181 0 17 (dk_at dksX13_init_0 16 rfl rfl)
theorem dX13_init_19 : decode cX13_init 19 = .ok (.return_, 1) := dk_177 (dk_at dksX13_init_0 19 rfl rfl)
abbrev cX13_add : ByteArray := prog_10_method_2_code
def yX13_add : MethodName := ⟨RX13, "add", "(LFrostBox$Test;)V"⟩
def dkwX13_add_0 : List UInt8 := [42, 180, 0, 17, 43, 181, 0, 20, 42, 43, 181, 0, 17, 177]
abbrev dktX13_add_0 : List UInt8 := dkwX13_add_0 ++ []
theorem dksX13_add_0 : cX13_add.data.toList.drop 0 = dktX13_add_0 := by decide +kernel
theorem dX13_add_0 : decode cX13_add 0 = .ok (.aload_n 0, 1) := dk_42 (dk_at dksX13_add_0 0 rfl rfl)
theorem dX13_add_1 : decode cX13_add 1 = .ok (.getfield 17, 3) := dk_180 0 17 (dk_at dksX13_add_0 1 rfl rfl)
theorem dX13_add_4 : decode cX13_add 4 = .ok (.aload_n 1, 1) := dk_43 (dk_at dksX13_add_0 4 rfl rfl)
theorem dX13_add_5 : decode cX13_add 5 = .ok (.putfield 20, 3) := dk_181 0 20 (dk_at dksX13_add_0 5 rfl rfl)
theorem dX13_add_8 : decode cX13_add 8 = .ok (.aload_n 0, 1) := dk_42 (dk_at dksX13_add_0 8 rfl rfl)
theorem dX13_add_9 : decode cX13_add 9 = .ok (.aload_n 1, 1) := dk_43 (dk_at dksX13_add_0 9 rfl rfl)
theorem dX13_add_10 : decode cX13_add 10 = .ok (.putfield 17, 3) := dk_181 0 17 (dk_at dksX13_add_0 10 rfl rfl)
theorem dX13_add_13 : decode cX13_add 13 = .ok (.return_, 1) := dk_177 (dk_at dksX13_add_0 13 rfl rfl)
abbrev cX13_holds : ByteArray := prog_10_method_3_code
def yX13_holds : MethodName := ⟨RX13, "holds", "([I)Z"⟩
def dkwX13_holds_2 : List UInt8 := [172]
abbrev dktX13_holds_2 : List UInt8 := dkwX13_holds_2 ++ []
def dkwX13_holds_1 : List UInt8 := [180, 0, 7, 154, 0, 7, 4, 167, 0, 4, 3, 172, 44, 180, 0, 20, 77, 167, 255, 222, 42, 180, 0, 7]
abbrev dktX13_holds_1 : List UInt8 := dkwX13_holds_1 ++ dktX13_holds_2
def dkwX13_holds_0 : List UInt8 := [42, 180, 0, 13, 77, 44, 198, 0, 36, 44, 43, 182, 0, 23, 42, 180, 0, 7, 159, 0, 16, 42]
abbrev dktX13_holds_0 : List UInt8 := dkwX13_holds_0 ++ dktX13_holds_1
theorem dksX13_holds_0 : cX13_holds.data.toList.drop 0 = dktX13_holds_0 := by decide +kernel
theorem dksX13_holds_1 : cX13_holds.data.toList.drop 22 = dktX13_holds_1 := dk_seg dksX13_holds_0 22 rfl rfl
theorem dksX13_holds_2 : cX13_holds.data.toList.drop 46 = dktX13_holds_2 := dk_seg dksX13_holds_1 24 rfl rfl
theorem dX13_holds_0 : decode cX13_holds 0 = .ok (.aload_n 0, 1) := dk_42 (dk_at dksX13_holds_0 0 rfl rfl)
theorem dX13_holds_1 : decode cX13_holds 1 = .ok (.getfield 13, 3) := dk_180 0 13 (dk_at dksX13_holds_0 1 rfl rfl)
theorem dX13_holds_4 : decode cX13_holds 4 = .ok (.astore_n 2, 1) := dk_77 (dk_at dksX13_holds_0 4 rfl rfl)
theorem dX13_holds_5 : decode cX13_holds 5 = .ok (.aload_n 2, 1) := dk_44 (dk_at dksX13_holds_0 5 rfl rfl)
theorem dX13_holds_6 : decode cX13_holds 6 = .ok (.ifnull 36, 3) := dk_198 0 36 (dk_at dksX13_holds_0 6 rfl rfl)
theorem dX13_holds_9 : decode cX13_holds 9 = .ok (.aload_n 2, 1) := dk_44 (dk_at dksX13_holds_0 9 rfl rfl)
theorem dX13_holds_10 : decode cX13_holds 10 = .ok (.aload_n 1, 1) := dk_43 (dk_at dksX13_holds_0 10 rfl rfl)
theorem dX13_holds_11 : decode cX13_holds 11 = .ok (.invokevirtual 23, 3) := dk_182 0 23 (dk_at dksX13_holds_0 11 rfl rfl)
theorem dX13_holds_14 : decode cX13_holds 14 = .ok (.aload_n 0, 1) := dk_42 (dk_at dksX13_holds_0 14 rfl rfl)
theorem dX13_holds_15 : decode cX13_holds 15 = .ok (.getfield 7, 3) := dk_180 0 7 (dk_at dksX13_holds_0 15 rfl rfl)
theorem dX13_holds_18 : decode cX13_holds 18 = .ok (.if_icmp .eq 16, 3) := dk_159 0 16 (dk_at dksX13_holds_0 18 rfl rfl)
theorem dX13_holds_21 : decode cX13_holds 21 = .ok (.aload_n 0, 1) := dk_42 (dk_at dksX13_holds_0 21 rfl rfl)
theorem dX13_holds_22 : decode cX13_holds 22 = .ok (.getfield 7, 3) := dk_180 0 7 (dk_at dksX13_holds_1 0 rfl rfl)
theorem dX13_holds_25 : decode cX13_holds 25 = .ok (.ifCond .ne 7, 3) := dk_154 0 7 (dk_at dksX13_holds_1 3 rfl rfl)
theorem dX13_holds_28 : decode cX13_holds 28 = .ok (.iconst 1, 1) := dk_4 (dk_at dksX13_holds_1 6 rfl rfl)
theorem dX13_holds_29 : decode cX13_holds 29 = .ok (.goto 4, 3) := dk_167 0 4 (dk_at dksX13_holds_1 7 rfl rfl)
theorem dX13_holds_32 : decode cX13_holds 32 = .ok (.iconst 0, 1) := dk_3 (dk_at dksX13_holds_1 10 rfl rfl)
theorem dX13_holds_33 : decode cX13_holds 33 = .ok (.ireturn, 1) := dk_172 (dk_at dksX13_holds_1 11 rfl rfl)
theorem dX13_holds_34 : decode cX13_holds 34 = .ok (.aload_n 2, 1) := dk_44 (dk_at dksX13_holds_1 12 rfl rfl)
theorem dX13_holds_35 : decode cX13_holds 35 = .ok (.getfield 20, 3) := dk_180 0 20 (dk_at dksX13_holds_1 13 rfl rfl)
theorem dX13_holds_38 : decode cX13_holds 38 = .ok (.astore_n 2, 1) := dk_77 (dk_at dksX13_holds_1 16 rfl rfl)
theorem dX13_holds_39 : decode cX13_holds 39 = .ok (.goto (-34), 3) := dk_167 255 222 (dk_at dksX13_holds_1 17 rfl rfl)
theorem dX13_holds_42 : decode cX13_holds 42 = .ok (.aload_n 0, 1) := dk_42 (dk_at dksX13_holds_1 20 rfl rfl)
theorem dX13_holds_43 : decode cX13_holds 43 = .ok (.getfield 7, 3) := dk_180 0 7 (dk_at dksX13_holds_1 21 rfl rfl)
theorem dX13_holds_46 : decode cX13_holds 46 = .ok (.ireturn, 1) := dk_172 (dk_at dksX13_holds_2 0 rfl rfl)
theorem q162 : (Jvm.Cond.initialized "FrostBox$Several") ∈ lw_all := lw_g (lw_at lw_m1 21 rfl) rfl
theorem q614 : (Jvm.Cond.fieldLinkNest "FrostBox$Several" (20 : Nat) "FrostBox$Test" "next" "LFrostBox$Test;" "FrostBox") ∈ lw_tbl := lw_at lw_m2 233 rfl
theorem q642 : (Jvm.Cond.instantiable "FrostBox$Several" (4 : Nat)) ∈ lw_all := lw_g (lw_at lw_m3 21 rfl) rfl
theorem q644 : (Jvm.Cond.instanceMethod ({ cls := "FrostBox$Several", name := "<init>", desc := "(ZLFrostBox$Test;)V" } : Jvm.MethodName)) ∈ lw_all := lw_g (lw_at lw_m3 23 rfl) rfl
theorem q645 : (Jvm.Cond.code ({ cls := "FrostBox$Several", name := "<init>", desc := "(ZLFrostBox$Test;)V" } : Jvm.MethodName) prog_10_method_1_code (3 : Nat) (Option.none : Option Jvm.ClassFile.FieldType)) ∈ lw_all := lw_g (lw_at lw_m3 24 rfl) rfl
theorem q646 : (Jvm.Cond.methodLinkNest "FrostBox$Several" (1 : Nat) ({ cls := "FrostBox$Test", name := "<init>", desc := "()V" } : Jvm.MethodName) "FrostBox") ∈ lw_tbl := lw_at lw_m3 25 rfl
theorem q647 : (Jvm.Cond.fieldLink "FrostBox$Several" (7 : Nat) "FrostBox$Several" "isAll" "Z") ∈ lw_all := lw_g (lw_at lw_m3 26 rfl) rfl
theorem q648 : (Jvm.Cond.fieldLink "FrostBox$Several" (13 : Nat) "FrostBox$Several" "first" "LFrostBox$Test;") ∈ lw_all := lw_g (lw_at lw_m3 27 rfl) rfl
theorem q649 : (Jvm.Cond.fieldLink "FrostBox$Several" (17 : Nat) "FrostBox$Several" "last" "LFrostBox$Test;") ∈ lw_all := lw_g (lw_at lw_m3 28 rfl) rfl
theorem q650 : (Jvm.Cond.laysFinal "FrostBox$Several" "FrostBox$Several" "isAll" "Z") ∈ lw_all := lw_g (lw_at lw_m3 29 rfl) rfl
theorem q651 : (Jvm.Cond.soleField "FrostBox$Several" "isAll") ∈ lw_all := lw_g (lw_at lw_m3 30 rfl) rfl
theorem q652 : (Jvm.Cond.lays "FrostBox$Several" "FrostBox$Several" "first" "LFrostBox$Test;") ∈ lw_all := lw_g (lw_at lw_m3 31 rfl) rfl
theorem q653 : (Jvm.Cond.soleField "FrostBox$Several" "first") ∈ lw_all := lw_g (lw_at lw_m3 32 rfl) rfl
theorem q654 : (Jvm.Cond.lays "FrostBox$Several" "FrostBox$Several" "last" "LFrostBox$Test;") ∈ lw_all := lw_g (lw_at lw_m3 33 rfl) rfl
theorem q655 : (Jvm.Cond.soleField "FrostBox$Several" "last") ∈ lw_all := lw_g (lw_at lw_m3 34 rfl) rfl
theorem q656 : (Jvm.Cond.lays "FrostBox$Several" "FrostBox$Test" "next" "LFrostBox$Test;") ∈ lw_all := lw_g (lw_at lw_m3 35 rfl) rfl
theorem q657 : (Jvm.Cond.superclass "FrostBox$Several" "FrostBox$Test") ∈ lw_all := lw_g (lw_at lw_m3 36 rfl) rfl
theorem q659 : (Jvm.Cond.instanceMethod ({ cls := "FrostBox$Several", name := "add", desc := "(LFrostBox$Test;)V" } : Jvm.MethodName)) ∈ lw_all := lw_g (lw_at lw_m3 38 rfl) rfl
theorem q660 : (Jvm.Cond.selects "FrostBox$Several" ({ cls := "FrostBox$Several", name := "add", desc := "(LFrostBox$Test;)V" } : Jvm.MethodName) ({ cls := "FrostBox$Several", name := "add", desc := "(LFrostBox$Test;)V" } : Jvm.MethodName)) ∈ lw_all := lw_g (lw_at lw_m3 39 rfl) rfl
theorem q661 : (Jvm.Cond.code ({ cls := "FrostBox$Several", name := "add", desc := "(LFrostBox$Test;)V" } : Jvm.MethodName) prog_10_method_2_code (2 : Nat) (Option.none : Option Jvm.ClassFile.FieldType)) ∈ lw_all := lw_g (lw_at lw_m3 40 rfl) rfl
theorem q895 : (Jvm.Cond.instanceMethod ({ cls := "FrostBox$Several", name := "holds", desc := "([I)Z" } : Jvm.MethodName)) ∈ lw_all := lw_g (lw_at lw_m4 34 rfl) rfl
theorem q896 : (Jvm.Cond.code ({ cls := "FrostBox$Several", name := "holds", desc := "([I)Z" } : Jvm.MethodName) prog_10_method_3_code (3 : Nat) (Option.some Jvm.ClassFile.FieldType.boolean)) ∈ lw_all := lw_g (lw_at lw_m4 35 rfl) rfl
theorem q897 : (Jvm.Cond.methodLink "FrostBox$Several" (23 : Nat) ({ cls := "FrostBox$Test", name := "holds", desc := "([I)Z" } : Jvm.MethodName)) ∈ lw_all := lw_g (lw_at lw_m4 36 rfl) rfl
theorem q898 : (Jvm.Cond.selects "FrostBox$Several" ({ cls := "FrostBox$Test", name := "holds", desc := "([I)Z" } : Jvm.MethodName) ({ cls := "FrostBox$Several", name := "holds", desc := "([I)Z" } : Jvm.MethodName)) ∈ lw_all := lw_g (lw_at lw_m4 37 rfl) rfl
theorem q1926 : (Jvm.Cond.castable "FrostBox$Several" "java/lang/Object") ∈ lw_tbl := lw_at lw_m8 105 rfl
theorem in_X13 : ∀ w ∈ wsX130, w ∈ lw_all := lw_in wsX130 [656, 650, 652, 654] (by decide +kernel) (by decide +kernel)
/-! java/lang/Throwable -/
set_option maxRecDepth 100000
def RJ0 : String := "java/lang/Throwable"
def TJ0 : u_T := fun k => match k with
  | 0 => ("java/lang/Throwable", "cause", "Ljava/lang/Throwable;", false)
  | 1 => ("java/lang/Throwable", "stackTrace", "[Ljava/lang/StackTraceElement;", false)
  | 2 => ("java/lang/Throwable", "suppressedExceptions", "Ljava/util/List;", false)
  | 3 => ("java/lang/Throwable", "detailMessage", "Ljava/lang/String;", false)
  | _ => ("java/lang/Throwable", "backtrace", "Ljava/lang/Object;", false)
def tyJ0 : Nat → FieldType := fun k => match k with
  | 0 => .object "java/lang/Throwable"
  | 1 => .array (.object "java/lang/StackTraceElement")
  | 2 => .object "java/util/List"
  | 3 => .object "java/lang/String"
  | _ => .object "java/lang/Object"
abbrev wsJ00 : List Cond := u_ws RJ0 TJ0 5
theorem nmJ0 : ∀ a, a < 5 → ∀ b, b < 5 → a ≠ b → (TJ0 a).2.1 ≠ (TJ0 b).2.1 := by decide +kernel
theorem tyJ0_ok : ∀ k, k < 5 → parseFieldDescriptor (TJ0 k).2.2.1 = some (tyJ0 k) := by decide +kernel
abbrev cJ0_init : ByteArray := prog_26_method_1_code
def yJ0_init : MethodName := ⟨RJ0, "<init>", "()V"⟩
def dkwJ0_init_1 : List UInt8 := [182, 0, 27, 87, 177]
abbrev dktJ0_init_1 : List UInt8 := dkwJ0_init_1 ++ []
def dkwJ0_init_0 : List UInt8 := [42, 183, 0, 1, 42, 42, 181, 0, 7, 42, 178, 0, 13, 181, 0, 17, 42, 178, 0, 20, 181, 0, 24, 42]
abbrev dktJ0_init_0 : List UInt8 := dkwJ0_init_0 ++ dktJ0_init_1
theorem dksJ0_init_0 : cJ0_init.data.toList.drop 0 = dktJ0_init_0 := by decide +kernel
theorem dksJ0_init_1 : cJ0_init.data.toList.drop 24 = dktJ0_init_1 := dk_seg dksJ0_init_0 24 rfl rfl
theorem dJ0_init_0 : decode cJ0_init 0 = .ok (.aload_n 0, 1) := dk_42 (dk_at dksJ0_init_0 0 rfl rfl)
theorem dJ0_init_1 : decode cJ0_init 1 = .ok (.invokespecial 1, 3) := dk_183 0 1 (dk_at dksJ0_init_0 1 rfl rfl)
theorem dJ0_init_4 : decode cJ0_init 4 = .ok (.aload_n 0, 1) := dk_42 (dk_at dksJ0_init_0 4 rfl rfl)
theorem dJ0_init_5 : decode cJ0_init 5 = .ok (.aload_n 0, 1) := dk_42 (dk_at dksJ0_init_0 5 rfl rfl)
theorem dJ0_init_6 : decode cJ0_init 6 = .ok (.putfield 7, 3) := dk_181 0 7 (dk_at dksJ0_init_0 6 rfl rfl)
theorem dJ0_init_9 : decode cJ0_init 9 = .ok (.aload_n 0, 1) := dk_42 (dk_at dksJ0_init_0 9 rfl rfl)
theorem dJ0_init_10 : decode cJ0_init 10 = .ok (.getstatic 13, 3) := dk_178 0 13 (dk_at dksJ0_init_0 10 rfl rfl)
theorem dJ0_init_13 : decode cJ0_init 13 = .ok (.putfield 17, 3) := dk_181 0 17 (dk_at dksJ0_init_0 13 rfl rfl)
theorem dJ0_init_16 : decode cJ0_init 16 = .ok (.aload_n 0, 1) := dk_42 (dk_at dksJ0_init_0 16 rfl rfl)
theorem dJ0_init_17 : decode cJ0_init 17 = .ok (.getstatic 20, 3) := dk_178 0 20 (dk_at dksJ0_init_0 17 rfl rfl)
theorem dJ0_init_20 : decode cJ0_init 20 = .ok (.putfield 24, 3) := dk_181 0 24 (dk_at dksJ0_init_0 20 rfl rfl)
theorem dJ0_init_23 : decode cJ0_init 23 = .ok (.aload_n 0, 1) := dk_42 (dk_at dksJ0_init_0 23 rfl rfl)
theorem dJ0_init_24 : decode cJ0_init 24 = .ok (.invokevirtual 27, 3) := dk_182 0 27 (dk_at dksJ0_init_1 0 rfl rfl)
theorem dJ0_init_27 : decode cJ0_init 27 = .ok (.pop, 1) := dk_87 (dk_at dksJ0_init_1 3 rfl rfl)
theorem dJ0_init_28 : decode cJ0_init 28 = .ok (.return_, 1) := dk_177 (dk_at dksJ0_init_1 4 rfl rfl)
theorem q143 : (Jvm.Cond.initialized "java/lang/Throwable") ∈ lw_all := lw_g (lw_at lw_m1 2 rfl) rfl
theorem q179 : (Jvm.Cond.declares ({ cls := "java/lang/Throwable", name := "<init>", desc := "()V" } : Jvm.MethodName)) ∈ lw_tbl := lw_at lw_m1 38 rfl
theorem q180 : (Jvm.Cond.declares ({ cls := "java/lang/Throwable", name := "<init>", desc := "(Ljava/lang/String;)V" } : Jvm.MethodName)) ∈ lw_tbl := lw_at lw_m1 39 rfl
theorem q184 : (Jvm.Cond.lays "java/lang/Throwable" "java/lang/Throwable" "cause" "Ljava/lang/Throwable;") ∈ lw_all := lw_g (lw_at lw_m1 43 rfl) rfl
theorem q186 : (Jvm.Cond.lays "java/lang/Throwable" "java/lang/Throwable" "stackTrace" "[Ljava/lang/StackTraceElement;") ∈ lw_all := lw_g (lw_at lw_m1 45 rfl) rfl
theorem q188 : (Jvm.Cond.lays "java/lang/Throwable" "java/lang/Throwable" "suppressedExceptions" "Ljava/util/List;") ∈ lw_all := lw_g (lw_at lw_m1 47 rfl) rfl
theorem q190 : (Jvm.Cond.lays "java/lang/Throwable" "java/lang/Throwable" "detailMessage" "Ljava/lang/String;") ∈ lw_all := lw_g (lw_at lw_m1 49 rfl) rfl
theorem q192 : (Jvm.Cond.lays "java/lang/Throwable" "java/lang/Throwable" "backtrace" "Ljava/lang/Object;") ∈ lw_all := lw_g (lw_at lw_m1 51 rfl) rfl
theorem q193 : (Jvm.Cond.fieldLink "java/lang/Throwable" (198 : Nat) "java/lang/Throwable" "backtrace" "Ljava/lang/Object;") ∈ lw_all := lw_g (lw_at lw_m1 52 rfl) rfl
theorem q194 : (Jvm.Cond.superclass "java/lang/Throwable" "java/lang/Object") ∈ lw_all := lw_g (lw_at lw_m1 53 rfl) rfl
theorem q195 : (Jvm.Cond.instanceMethod ({ cls := "java/lang/Throwable", name := "<init>", desc := "()V" } : Jvm.MethodName)) ∈ lw_all := lw_g (lw_at lw_m1 54 rfl) rfl
theorem q196 : (Jvm.Cond.code ({ cls := "java/lang/Throwable", name := "<init>", desc := "()V" } : Jvm.MethodName) prog_26_method_1_code (1 : Nat) (Option.none : Option Jvm.ClassFile.FieldType)) ∈ lw_all := lw_g (lw_at lw_m1 55 rfl) rfl
theorem q197 : (Jvm.Cond.methodLink "java/lang/Throwable" (1 : Nat) ({ cls := "java/lang/Object", name := "<init>", desc := "()V" } : Jvm.MethodName)) ∈ lw_all := lw_g (lw_at lw_m1 56 rfl) rfl
theorem q198 : (Jvm.Cond.fieldLink "java/lang/Throwable" (13 : Nat) "java/lang/Throwable" "UNASSIGNED_STACK" "[Ljava/lang/StackTraceElement;") ∈ lw_all := lw_g (lw_at lw_m1 57 rfl) rfl
theorem q199 : (Jvm.Cond.laysStatic "java/lang/Throwable" "UNASSIGNED_STACK" "[Ljava/lang/StackTraceElement;") ∈ lw_tbl := lw_at lw_m1 58 rfl
theorem q200 : (Jvm.Cond.fieldLink "java/lang/Throwable" (20 : Nat) "java/lang/Throwable" "SUPPRESSED_SENTINEL" "Ljava/util/List;") ∈ lw_all := lw_g (lw_at lw_m1 59 rfl) rfl
theorem q201 : (Jvm.Cond.laysStatic "java/lang/Throwable" "SUPPRESSED_SENTINEL" "Ljava/util/List;") ∈ lw_tbl := lw_at lw_m1 60 rfl
theorem q202 : (Jvm.Cond.methodLink "java/lang/Throwable" (27 : Nat) ({ cls := "java/lang/Throwable", name := "fillInStackTrace", desc := "()Ljava/lang/Throwable;" } : Jvm.MethodName)) ∈ lw_all := lw_g (lw_at lw_m1 61 rfl) rfl
theorem q203 : (Jvm.Cond.instanceMethod ({ cls := "java/lang/Throwable", name := "fillInStackTrace", desc := "()Ljava/lang/Throwable;" } : Jvm.MethodName)) ∈ lw_all := lw_g (lw_at lw_m1 62 rfl) rfl
theorem q204 : (Jvm.Cond.sameMethod "java/lang/Throwable" "java/lang/Throwable" "fillInStackTrace" "()Ljava/lang/Throwable;") ∈ lw_all := lw_g (lw_at lw_m1 63 rfl) rfl
theorem q206 : (Jvm.Cond.codeSync ({ cls := "java/lang/Throwable", name := "fillInStackTrace", desc := "()Ljava/lang/Throwable;" } : Jvm.MethodName) prog_26_method_18_code (1 : Nat) (Option.some (Jvm.ClassFile.FieldType.object "java/lang/Throwable"))) ∈ lw_all := lw_g (lw_at lw_m1 65 rfl) rfl
theorem q207 : (Jvm.Cond.methodLink "java/lang/Throwable" (202 : Nat) ({ cls := "java/lang/Throwable", name := "fillInStackTrace", desc := "(I)Ljava/lang/Throwable;" } : Jvm.MethodName)) ∈ lw_all := lw_g (lw_at lw_m1 66 rfl) rfl
theorem q208 : (Jvm.Cond.privateMethod ({ cls := "java/lang/Throwable", name := "fillInStackTrace", desc := "(I)Ljava/lang/Throwable;" } : Jvm.MethodName)) ∈ lw_tbl := lw_at lw_m1 67 rfl
theorem q209 : (Jvm.Cond.instanceMethod ({ cls := "java/lang/Throwable", name := "fillInStackTrace", desc := "(I)Ljava/lang/Throwable;" } : Jvm.MethodName)) ∈ lw_all := lw_g (lw_at lw_m1 68 rfl) rfl
theorem q210 : (Jvm.Cond.instantiable "java/lang/Throwable" (6 : Nat)) ∈ lw_all := lw_g (lw_at lw_m1 69 rfl) rfl
theorem q211 : (Jvm.Cond.native ({ cls := "java/lang/Throwable", name := "fillInStackTrace", desc := "(I)Ljava/lang/Throwable;" } : Jvm.MethodName)) ∈ lw_all := lw_g (lw_at lw_m1 70 rfl) rfl
theorem q219 : (Jvm.Cond.fieldLink "java/lang/Throwable" (198 : Nat) "java/lang/Throwable" "backtrace" "Ljava/lang/Object;") ∈ lw_all := lw_g (lw_at lw_m1 78 rfl) rfl
theorem q220 : (Jvm.Cond.fieldLink "java/lang/Throwable" (7 : Nat) "java/lang/Throwable" "cause" "Ljava/lang/Throwable;") ∈ lw_all := lw_g (lw_at lw_m1 79 rfl) rfl
theorem q221 : (Jvm.Cond.fieldLink "java/lang/Throwable" (17 : Nat) "java/lang/Throwable" "stackTrace" "[Ljava/lang/StackTraceElement;") ∈ lw_all := lw_g (lw_at lw_m1 80 rfl) rfl
theorem q222 : (Jvm.Cond.fieldLink "java/lang/Throwable" (24 : Nat) "java/lang/Throwable" "suppressedExceptions" "Ljava/util/List;") ∈ lw_all := lw_g (lw_at lw_m1 81 rfl) rfl
theorem q223 : (Jvm.Cond.soleField "java/lang/Throwable" "backtrace") ∈ lw_all := lw_g (lw_at lw_m1 82 rfl) rfl
theorem q224 : (Jvm.Cond.soleField "java/lang/Throwable" "detailMessage") ∈ lw_all := lw_g (lw_at lw_m1 83 rfl) rfl
theorem q225 : (Jvm.Cond.soleField "java/lang/Throwable" "cause") ∈ lw_all := lw_g (lw_at lw_m1 84 rfl) rfl
theorem q226 : (Jvm.Cond.soleField "java/lang/Throwable" "stackTrace") ∈ lw_all := lw_g (lw_at lw_m1 85 rfl) rfl
theorem q228 : (Jvm.Cond.soleField "java/lang/Throwable" "depth") ∈ lw_all := lw_g (lw_at lw_m1 87 rfl) rfl
theorem q229 : (Jvm.Cond.soleField "java/lang/Throwable" "suppressedExceptions") ∈ lw_all := lw_g (lw_at lw_m1 88 rfl) rfl
theorem q1915 : (Jvm.Cond.sameMethod "java/lang/Throwable" "java/lang/Throwable" "fillInStackTrace" "(I)Ljava/lang/Throwable;") ∈ lw_all := lw_g (lw_at lw_m8 94 rfl) rfl
theorem q1928 : (Jvm.Cond.castable "java/lang/Throwable" "java/lang/Object") ∈ lw_tbl := lw_at lw_m8 107 rfl
theorem in_J0 : ∀ w ∈ wsJ00, w ∈ lw_all := lw_in wsJ00 [184, 186, 188, 190, 192] (by decide +kernel) (by decide +kernel)
/-! java/lang/Exception -/
set_option maxRecDepth 100000
def RJ1 : String := "java/lang/Exception"
abbrev cJ1_init : ByteArray := prog_19_method_1_code
def yJ1_init : MethodName := ⟨RJ1, "<init>", "()V"⟩
theorem dJ1_init_0 : decode cJ1_init 0 = .ok (.aload_n 0, 1) := by decide +kernel
theorem dJ1_init_1 : decode cJ1_init 1 = .ok (.invokespecial 1, 3) := by decide +kernel
theorem dJ1_init_4 : decode cJ1_init 4 = .ok (.return_, 1) := by decide +kernel
theorem q144 : (Jvm.Cond.initialized "java/lang/Exception") ∈ lw_all := lw_g (lw_at lw_m1 3 rfl) rfl
theorem q177 : (Jvm.Cond.declares ({ cls := "java/lang/Exception", name := "<init>", desc := "()V" } : Jvm.MethodName)) ∈ lw_tbl := lw_at lw_m1 36 rfl
theorem q178 : (Jvm.Cond.declares ({ cls := "java/lang/Exception", name := "<init>", desc := "(Ljava/lang/String;)V" } : Jvm.MethodName)) ∈ lw_tbl := lw_at lw_m1 37 rfl
theorem q216 : (Jvm.Cond.instanceMethod ({ cls := "java/lang/Exception", name := "<init>", desc := "()V" } : Jvm.MethodName)) ∈ lw_all := lw_g (lw_at lw_m1 75 rfl) rfl
theorem q217 : (Jvm.Cond.code ({ cls := "java/lang/Exception", name := "<init>", desc := "()V" } : Jvm.MethodName) prog_19_method_1_code (1 : Nat) (Option.none : Option Jvm.ClassFile.FieldType)) ∈ lw_all := lw_g (lw_at lw_m1 76 rfl) rfl
theorem q218 : (Jvm.Cond.methodLink "java/lang/Exception" (1 : Nat) ({ cls := "java/lang/Throwable", name := "<init>", desc := "()V" } : Jvm.MethodName)) ∈ lw_all := lw_g (lw_at lw_m1 77 rfl) rfl
/-! java/lang/String -/
set_option maxRecDepth 100000
def RJ2 : String := "java/lang/String"
abbrev cJ2_indexOf : ByteArray := prog_23_method_79_code
def yJ2_indexOf : MethodName := ⟨RJ2, "indexOf", "(I)I"⟩
def dkwJ2_indexOf_0 : List UInt8 := [42, 27, 3, 182, 2, 121, 172]
abbrev dktJ2_indexOf_0 : List UInt8 := dkwJ2_indexOf_0 ++ []
theorem dksJ2_indexOf_0 : cJ2_indexOf.data.toList.drop 0 = dktJ2_indexOf_0 := by decide +kernel
theorem dJ2_indexOf_0 : decode cJ2_indexOf 0 = .ok (.aload_n 0, 1) := dk_42 (dk_at dksJ2_indexOf_0 0 rfl rfl)
theorem dJ2_indexOf_1 : decode cJ2_indexOf 1 = .ok (.iload_n 1, 1) := dk_27 (dk_at dksJ2_indexOf_0 1 rfl rfl)
theorem dJ2_indexOf_2 : decode cJ2_indexOf 2 = .ok (.iconst 0, 1) := dk_3 (dk_at dksJ2_indexOf_0 2 rfl rfl)
theorem dJ2_indexOf_3 : decode cJ2_indexOf 3 = .ok (.invokevirtual 633, 3) := dk_182 2 121 (dk_at dksJ2_indexOf_0 3 rfl rfl)
theorem dJ2_indexOf_6 : decode cJ2_indexOf 6 = .ok (.ireturn, 1) := dk_172 (dk_at dksJ2_indexOf_0 6 rfl rfl)
abbrev cJ2_indexOf_2 : ByteArray := prog_23_method_80_code
def yJ2_indexOf_2 : MethodName := ⟨RJ2, "indexOf", "(II)I"⟩
def dkwJ2_indexOf_2_1 : List UInt8 := [180, 0, 9, 27, 28, 42, 182, 1, 249, 184, 2, 128, 172]
abbrev dktJ2_indexOf_2_1 : List UInt8 := dkwJ2_indexOf_2_1 ++ []
def dkwJ2_indexOf_2_0 : List UInt8 := [42, 182, 1, 236, 153, 0, 19, 42, 180, 0, 9, 27, 28, 42, 182, 1, 249, 184, 2, 125, 167, 0, 16, 42]
abbrev dktJ2_indexOf_2_0 : List UInt8 := dkwJ2_indexOf_2_0 ++ dktJ2_indexOf_2_1
theorem dksJ2_indexOf_2_0 : cJ2_indexOf_2.data.toList.drop 0 = dktJ2_indexOf_2_0 := by decide +kernel
theorem dksJ2_indexOf_2_1 : cJ2_indexOf_2.data.toList.drop 24 = dktJ2_indexOf_2_1 := dk_seg dksJ2_indexOf_2_0 24 rfl rfl
theorem dJ2_indexOf_2_0 : decode cJ2_indexOf_2 0 = .ok (.aload_n 0, 1) := dk_42 (dk_at dksJ2_indexOf_2_0 0 rfl rfl)
theorem dJ2_indexOf_2_1 : decode cJ2_indexOf_2 1 = .ok (.invokevirtual 492, 3) := dk_182 1 236 (dk_at dksJ2_indexOf_2_0 1 rfl rfl)
theorem dJ2_indexOf_2_4 : decode cJ2_indexOf_2 4 = .ok (.ifCond .eq 19, 3) := dk_153 0 19 (dk_at dksJ2_indexOf_2_0 4 rfl rfl)
theorem dJ2_indexOf_2_7 : decode cJ2_indexOf_2 7 = .ok (.aload_n 0, 1) := dk_42 (dk_at dksJ2_indexOf_2_0 7 rfl rfl)
theorem dJ2_indexOf_2_8 : decode cJ2_indexOf_2 8 = .ok (.getfield 9, 3) := dk_180 0 9 (dk_at dksJ2_indexOf_2_0 8 rfl rfl)
theorem dJ2_indexOf_2_11 : decode cJ2_indexOf_2 11 = .ok (.iload_n 1, 1) := dk_27 (dk_at dksJ2_indexOf_2_0 11 rfl rfl)
theorem dJ2_indexOf_2_12 : decode cJ2_indexOf_2 12 = .ok (.iload_n 2, 1) := dk_28 (dk_at dksJ2_indexOf_2_0 12 rfl rfl)
theorem dJ2_indexOf_2_13 : decode cJ2_indexOf_2 13 = .ok (.aload_n 0, 1) := dk_42 (dk_at dksJ2_indexOf_2_0 13 rfl rfl)
theorem dJ2_indexOf_2_14 : decode cJ2_indexOf_2 14 = .ok (.invokevirtual 505, 3) := dk_182 1 249 (dk_at dksJ2_indexOf_2_0 14 rfl rfl)
theorem dJ2_indexOf_2_17 : decode cJ2_indexOf_2 17 = .ok (.invokestatic 637, 3) := dk_184 2 125 (dk_at dksJ2_indexOf_2_0 17 rfl rfl)
theorem dJ2_indexOf_2_20 : decode cJ2_indexOf_2 20 = .ok (.goto 16, 3) := dk_167 0 16 (dk_at dksJ2_indexOf_2_0 20 rfl rfl)
theorem dJ2_indexOf_2_23 : decode cJ2_indexOf_2 23 = .ok (.aload_n 0, 1) := dk_42 (dk_at dksJ2_indexOf_2_0 23 rfl rfl)
theorem dJ2_indexOf_2_24 : decode cJ2_indexOf_2 24 = .ok (.getfield 9, 3) := dk_180 0 9 (dk_at dksJ2_indexOf_2_1 0 rfl rfl)
theorem dJ2_indexOf_2_27 : decode cJ2_indexOf_2 27 = .ok (.iload_n 1, 1) := dk_27 (dk_at dksJ2_indexOf_2_1 3 rfl rfl)
theorem dJ2_indexOf_2_28 : decode cJ2_indexOf_2 28 = .ok (.iload_n 2, 1) := dk_28 (dk_at dksJ2_indexOf_2_1 4 rfl rfl)
theorem dJ2_indexOf_2_29 : decode cJ2_indexOf_2 29 = .ok (.aload_n 0, 1) := dk_42 (dk_at dksJ2_indexOf_2_1 5 rfl rfl)
theorem dJ2_indexOf_2_30 : decode cJ2_indexOf_2 30 = .ok (.invokevirtual 505, 3) := dk_182 1 249 (dk_at dksJ2_indexOf_2_1 6 rfl rfl)
theorem dJ2_indexOf_2_33 : decode cJ2_indexOf_2 33 = .ok (.invokestatic 640, 3) := dk_184 2 128 (dk_at dksJ2_indexOf_2_1 9 rfl rfl)
theorem dJ2_indexOf_2_36 : decode cJ2_indexOf_2 36 = .ok (.ireturn, 1) := dk_172 (dk_at dksJ2_indexOf_2_1 12 rfl rfl)
abbrev cJ2_isLatin1 : ByteArray := prog_23_method_154_code
def yJ2_isLatin1 : MethodName := ⟨RJ2, "isLatin1", "()Z"⟩
def dkwJ2_isLatin1_0 : List UInt8 := [178, 0, 38, 153, 0, 14, 42, 180, 0, 15, 154, 0, 7, 4, 167, 0, 4, 3, 172]
abbrev dktJ2_isLatin1_0 : List UInt8 := dkwJ2_isLatin1_0 ++ []
theorem dksJ2_isLatin1_0 : cJ2_isLatin1.data.toList.drop 0 = dktJ2_isLatin1_0 := by decide +kernel
theorem dJ2_isLatin1_0 : decode cJ2_isLatin1 0 = .ok (.getstatic 38, 3) := dk_178 0 38 (dk_at dksJ2_isLatin1_0 0 rfl rfl)
theorem dJ2_isLatin1_3 : decode cJ2_isLatin1 3 = .ok (.ifCond .eq 14, 3) := dk_153 0 14 (dk_at dksJ2_isLatin1_0 3 rfl rfl)
theorem dJ2_isLatin1_6 : decode cJ2_isLatin1 6 = .ok (.aload_n 0, 1) := dk_42 (dk_at dksJ2_isLatin1_0 6 rfl rfl)
theorem dJ2_isLatin1_7 : decode cJ2_isLatin1 7 = .ok (.getfield 15, 3) := dk_180 0 15 (dk_at dksJ2_isLatin1_0 7 rfl rfl)
theorem dJ2_isLatin1_10 : decode cJ2_isLatin1 10 = .ok (.ifCond .ne 7, 3) := dk_154 0 7 (dk_at dksJ2_isLatin1_0 10 rfl rfl)
theorem dJ2_isLatin1_13 : decode cJ2_isLatin1 13 = .ok (.iconst 1, 1) := dk_4 (dk_at dksJ2_isLatin1_0 13 rfl rfl)
theorem dJ2_isLatin1_14 : decode cJ2_isLatin1 14 = .ok (.goto 4, 3) := dk_167 0 4 (dk_at dksJ2_isLatin1_0 14 rfl rfl)
theorem dJ2_isLatin1_17 : decode cJ2_isLatin1 17 = .ok (.iconst 0, 1) := dk_3 (dk_at dksJ2_isLatin1_0 17 rfl rfl)
theorem dJ2_isLatin1_18 : decode cJ2_isLatin1 18 = .ok (.ireturn, 1) := dk_172 (dk_at dksJ2_isLatin1_0 18 rfl rfl)
abbrev cJ2_length : ByteArray := prog_23_method_54_code
def yJ2_length : MethodName := ⟨RJ2, "length", "()I"⟩
def dkwJ2_length_0 : List UInt8 := [42, 180, 0, 9, 190, 42, 182, 1, 79, 122, 172]
abbrev dktJ2_length_0 : List UInt8 := dkwJ2_length_0 ++ []
theorem dksJ2_length_0 : cJ2_length.data.toList.drop 0 = dktJ2_length_0 := by decide +kernel
theorem dJ2_length_0 : decode cJ2_length 0 = .ok (.aload_n 0, 1) := dk_42 (dk_at dksJ2_length_0 0 rfl rfl)
theorem dJ2_length_1 : decode cJ2_length 1 = .ok (.getfield 9, 3) := dk_180 0 9 (dk_at dksJ2_length_0 1 rfl rfl)
theorem dJ2_length_4 : decode cJ2_length 4 = .ok (.arraylength, 1) := dk_190 (dk_at dksJ2_length_0 4 rfl rfl)
theorem dJ2_length_5 : decode cJ2_length 5 = .ok (.aload_n 0, 1) := dk_42 (dk_at dksJ2_length_0 5 rfl rfl)
theorem dJ2_length_6 : decode cJ2_length 6 = .ok (.invokevirtual 335, 3) := dk_182 1 79 (dk_at dksJ2_length_0 6 rfl rfl)
theorem dJ2_length_9 : decode cJ2_length 9 = .ok (.ishr, 1) := dk_122 (dk_at dksJ2_length_0 9 rfl rfl)
theorem dJ2_length_10 : decode cJ2_length 10 = .ok (.ireturn, 1) := dk_172 (dk_at dksJ2_length_0 10 rfl rfl)
abbrev cJ2_coder : ByteArray := prog_23_method_152_code
def yJ2_coder : MethodName := ⟨RJ2, "coder", "()B"⟩
def dkwJ2_coder_0 : List UInt8 := [178, 0, 38, 153, 0, 10, 42, 180, 0, 15, 167, 0, 4, 4, 172]
abbrev dktJ2_coder_0 : List UInt8 := dkwJ2_coder_0 ++ []
theorem dksJ2_coder_0 : cJ2_coder.data.toList.drop 0 = dktJ2_coder_0 := by decide +kernel
theorem dJ2_coder_0 : decode cJ2_coder 0 = .ok (.getstatic 38, 3) := dk_178 0 38 (dk_at dksJ2_coder_0 0 rfl rfl)
theorem dJ2_coder_3 : decode cJ2_coder 3 = .ok (.ifCond .eq 10, 3) := dk_153 0 10 (dk_at dksJ2_coder_0 3 rfl rfl)
theorem dJ2_coder_6 : decode cJ2_coder 6 = .ok (.aload_n 0, 1) := dk_42 (dk_at dksJ2_coder_0 6 rfl rfl)
theorem dJ2_coder_7 : decode cJ2_coder 7 = .ok (.getfield 15, 3) := dk_180 0 15 (dk_at dksJ2_coder_0 7 rfl rfl)
theorem dJ2_coder_10 : decode cJ2_coder 10 = .ok (.goto 4, 3) := dk_167 0 4 (dk_at dksJ2_coder_0 10 rfl rfl)
theorem dJ2_coder_13 : decode cJ2_coder 13 = .ok (.iconst 1, 1) := dk_4 (dk_at dksJ2_coder_0 13 rfl rfl)
theorem dJ2_coder_14 : decode cJ2_coder 14 = .ok (.ireturn, 1) := dk_172 (dk_at dksJ2_coder_0 14 rfl rfl)
abbrev cJ2_checkBoundsBeginEnd : ByteArray := prog_23_method_158_code
def yJ2_checkBoundsBeginEnd : MethodName := ⟨RJ2, "checkBoundsBeginEnd", "(III)V"⟩
def dkwJ2_checkBoundsBeginEnd_0 : List UInt8 := [26, 27, 28, 178, 4, 29, 184, 4, 38, 87, 177]
abbrev dktJ2_checkBoundsBeginEnd_0 : List UInt8 := dkwJ2_checkBoundsBeginEnd_0 ++ []
theorem dksJ2_checkBoundsBeginEnd_0 : cJ2_checkBoundsBeginEnd.data.toList.drop 0 = dktJ2_checkBoundsBeginEnd_0 := by decide +kernel
theorem dJ2_checkBoundsBeginEnd_0 : decode cJ2_checkBoundsBeginEnd 0 = .ok (.iload_n 0, 1) := dk_26 (dk_at dksJ2_checkBoundsBeginEnd_0 0 rfl rfl)
theorem dJ2_checkBoundsBeginEnd_1 : decode cJ2_checkBoundsBeginEnd 1 = .ok (.iload_n 1, 1) := dk_27 (dk_at dksJ2_checkBoundsBeginEnd_0 1 rfl rfl)
theorem dJ2_checkBoundsBeginEnd_2 : decode cJ2_checkBoundsBeginEnd 2 = .ok (.iload_n 2, 1) := dk_28 (dk_at dksJ2_checkBoundsBeginEnd_0 2 rfl rfl)
theorem dJ2_checkBoundsBeginEnd_3 : decode cJ2_checkBoundsBeginEnd 3 = .ok (.getstatic 1053, 3) := dk_178 4 29 (dk_at dksJ2_checkBoundsBeginEnd_0 3 rfl rfl)
theorem dJ2_checkBoundsBeginEnd_6 : decode cJ2_checkBoundsBeginEnd 6 = .ok (.invokestatic 1062, 3) := dk_184 4 38 (dk_at dksJ2_checkBoundsBeginEnd_0 6 rfl rfl)
theorem dJ2_checkBoundsBeginEnd_9 : decode cJ2_checkBoundsBeginEnd 9 = .ok (.pop, 1) := dk_87 (dk_at dksJ2_checkBoundsBeginEnd_0 9 rfl rfl)
theorem dJ2_checkBoundsBeginEnd_10 : decode cJ2_checkBoundsBeginEnd 10 = .ok (.return_, 1) := dk_177 (dk_at dksJ2_checkBoundsBeginEnd_0 10 rfl rfl)
abbrev cJ2_charAt : ByteArray := prog_23_method_56_code
def yJ2_charAt : MethodName := ⟨RJ2, "charAt", "(I)C"⟩
def dkwJ2_charAt_1 : List UInt8 := [172]
abbrev dktJ2_charAt_1 : List UInt8 := dkwJ2_charAt_1 ++ []
def dkwJ2_charAt_0 : List UInt8 := [42, 182, 1, 236, 153, 0, 12, 42, 180, 0, 9, 27, 184, 1, 239, 172, 42, 180, 0, 9, 27, 184, 1, 242]
abbrev dktJ2_charAt_0 : List UInt8 := dkwJ2_charAt_0 ++ dktJ2_charAt_1
theorem dksJ2_charAt_0 : cJ2_charAt.data.toList.drop 0 = dktJ2_charAt_0 := by decide +kernel
theorem dksJ2_charAt_1 : cJ2_charAt.data.toList.drop 24 = dktJ2_charAt_1 := dk_seg dksJ2_charAt_0 24 rfl rfl
theorem dJ2_charAt_0 : decode cJ2_charAt 0 = .ok (.aload_n 0, 1) := dk_42 (dk_at dksJ2_charAt_0 0 rfl rfl)
theorem dJ2_charAt_1 : decode cJ2_charAt 1 = .ok (.invokevirtual 492, 3) := dk_182 1 236 (dk_at dksJ2_charAt_0 1 rfl rfl)
theorem dJ2_charAt_4 : decode cJ2_charAt 4 = .ok (.ifCond .eq 12, 3) := dk_153 0 12 (dk_at dksJ2_charAt_0 4 rfl rfl)
theorem dJ2_charAt_7 : decode cJ2_charAt 7 = .ok (.aload_n 0, 1) := dk_42 (dk_at dksJ2_charAt_0 7 rfl rfl)
theorem dJ2_charAt_8 : decode cJ2_charAt 8 = .ok (.getfield 9, 3) := dk_180 0 9 (dk_at dksJ2_charAt_0 8 rfl rfl)
theorem dJ2_charAt_11 : decode cJ2_charAt 11 = .ok (.iload_n 1, 1) := dk_27 (dk_at dksJ2_charAt_0 11 rfl rfl)
theorem dJ2_charAt_12 : decode cJ2_charAt 12 = .ok (.invokestatic 495, 3) := dk_184 1 239 (dk_at dksJ2_charAt_0 12 rfl rfl)
theorem dJ2_charAt_15 : decode cJ2_charAt 15 = .ok (.ireturn, 1) := dk_172 (dk_at dksJ2_charAt_0 15 rfl rfl)
theorem dJ2_charAt_16 : decode cJ2_charAt 16 = .ok (.aload_n 0, 1) := dk_42 (dk_at dksJ2_charAt_0 16 rfl rfl)
theorem dJ2_charAt_17 : decode cJ2_charAt 17 = .ok (.getfield 9, 3) := dk_180 0 9 (dk_at dksJ2_charAt_0 17 rfl rfl)
theorem dJ2_charAt_20 : decode cJ2_charAt 20 = .ok (.iload_n 1, 1) := dk_27 (dk_at dksJ2_charAt_0 20 rfl rfl)
theorem dJ2_charAt_21 : decode cJ2_charAt 21 = .ok (.invokestatic 498, 3) := dk_184 1 242 (dk_at dksJ2_charAt_0 21 rfl rfl)
theorem dJ2_charAt_24 : decode cJ2_charAt 24 = .ok (.ireturn, 1) := dk_172 (dk_at dksJ2_charAt_1 0 rfl rfl)
abbrev cJ2_checkIndex : ByteArray := prog_23_method_155_code
def yJ2_checkIndex : MethodName := ⟨RJ2, "checkIndex", "(II)V"⟩
def dkwJ2_checkIndex_0 : List UInt8 := [26, 27, 178, 4, 29, 184, 4, 35, 87, 177]
abbrev dktJ2_checkIndex_0 : List UInt8 := dkwJ2_checkIndex_0 ++ []
theorem dksJ2_checkIndex_0 : cJ2_checkIndex.data.toList.drop 0 = dktJ2_checkIndex_0 := by decide +kernel
theorem dJ2_checkIndex_0 : decode cJ2_checkIndex 0 = .ok (.iload_n 0, 1) := dk_26 (dk_at dksJ2_checkIndex_0 0 rfl rfl)
theorem dJ2_checkIndex_1 : decode cJ2_checkIndex 1 = .ok (.iload_n 1, 1) := dk_27 (dk_at dksJ2_checkIndex_0 1 rfl rfl)
theorem dJ2_checkIndex_2 : decode cJ2_checkIndex 2 = .ok (.getstatic 1053, 3) := dk_178 4 29 (dk_at dksJ2_checkIndex_0 2 rfl rfl)
theorem dJ2_checkIndex_5 : decode cJ2_checkIndex 5 = .ok (.invokestatic 1059, 3) := dk_184 4 35 (dk_at dksJ2_checkIndex_0 5 rfl rfl)
theorem dJ2_checkIndex_8 : decode cJ2_checkIndex 8 = .ok (.pop, 1) := dk_87 (dk_at dksJ2_checkIndex_0 8 rfl rfl)
theorem dJ2_checkIndex_9 : decode cJ2_checkIndex 9 = .ok (.return_, 1) := dk_177 (dk_at dksJ2_checkIndex_0 9 rfl rfl)
theorem q147 : (Jvm.Cond.initialized "java/lang/String") ∈ lw_all := lw_g (lw_at lw_m1 6 rfl) rfl
theorem q396 : (Jvm.Cond.instanceMethod ({ cls := "java/lang/String", name := "indexOf", desc := "(I)I" } : Jvm.MethodName)) ∈ lw_all := lw_g (lw_at lw_m2 15 rfl) rfl
theorem q397 : (Jvm.Cond.selects "java/lang/String" ({ cls := "java/lang/String", name := "indexOf", desc := "(I)I" } : Jvm.MethodName) ({ cls := "java/lang/String", name := "indexOf", desc := "(I)I" } : Jvm.MethodName)) ∈ lw_all := lw_g (lw_at lw_m2 16 rfl) rfl
theorem q398 : (Jvm.Cond.code ({ cls := "java/lang/String", name := "indexOf", desc := "(I)I" } : Jvm.MethodName) prog_23_method_79_code (2 : Nat) (Option.some Jvm.ClassFile.FieldType.int)) ∈ lw_all := lw_g (lw_at lw_m2 17 rfl) rfl
theorem q399 : (Jvm.Cond.methodLink "java/lang/String" (633 : Nat) ({ cls := "java/lang/String", name := "indexOf", desc := "(II)I" } : Jvm.MethodName)) ∈ lw_all := lw_g (lw_at lw_m2 18 rfl) rfl
theorem q400 : (Jvm.Cond.instanceMethod ({ cls := "java/lang/String", name := "indexOf", desc := "(II)I" } : Jvm.MethodName)) ∈ lw_all := lw_g (lw_at lw_m2 19 rfl) rfl
theorem q401 : (Jvm.Cond.selects "java/lang/String" ({ cls := "java/lang/String", name := "indexOf", desc := "(II)I" } : Jvm.MethodName) ({ cls := "java/lang/String", name := "indexOf", desc := "(II)I" } : Jvm.MethodName)) ∈ lw_all := lw_g (lw_at lw_m2 20 rfl) rfl
theorem q402 : (Jvm.Cond.code ({ cls := "java/lang/String", name := "indexOf", desc := "(II)I" } : Jvm.MethodName) prog_23_method_80_code (3 : Nat) (Option.some Jvm.ClassFile.FieldType.int)) ∈ lw_all := lw_g (lw_at lw_m2 21 rfl) rfl
theorem q403 : (Jvm.Cond.methodLink "java/lang/String" (492 : Nat) ({ cls := "java/lang/String", name := "isLatin1", desc := "()Z" } : Jvm.MethodName)) ∈ lw_all := lw_g (lw_at lw_m2 22 rfl) rfl
theorem q404 : (Jvm.Cond.instanceMethod ({ cls := "java/lang/String", name := "isLatin1", desc := "()Z" } : Jvm.MethodName)) ∈ lw_all := lw_g (lw_at lw_m2 23 rfl) rfl
theorem q405 : (Jvm.Cond.selects "java/lang/String" ({ cls := "java/lang/String", name := "isLatin1", desc := "()Z" } : Jvm.MethodName) ({ cls := "java/lang/String", name := "isLatin1", desc := "()Z" } : Jvm.MethodName)) ∈ lw_all := lw_g (lw_at lw_m2 24 rfl) rfl
theorem q406 : (Jvm.Cond.code ({ cls := "java/lang/String", name := "isLatin1", desc := "()Z" } : Jvm.MethodName) prog_23_method_154_code (1 : Nat) (Option.some Jvm.ClassFile.FieldType.boolean)) ∈ lw_all := lw_g (lw_at lw_m2 25 rfl) rfl
theorem q407 : (Jvm.Cond.fieldLink "java/lang/String" (38 : Nat) "java/lang/String" "COMPACT_STRINGS" "Z") ∈ lw_all := lw_g (lw_at lw_m2 26 rfl) rfl
theorem q408 : (Jvm.Cond.laysStatic "java/lang/String" "COMPACT_STRINGS" "Z") ∈ lw_tbl := lw_at lw_m2 27 rfl
theorem q409 : (Jvm.Cond.methodLink "java/lang/String" (505 : Nat) ({ cls := "java/lang/String", name := "length", desc := "()I" } : Jvm.MethodName)) ∈ lw_all := lw_g (lw_at lw_m2 28 rfl) rfl
theorem q410 : (Jvm.Cond.instanceMethod ({ cls := "java/lang/String", name := "length", desc := "()I" } : Jvm.MethodName)) ∈ lw_all := lw_g (lw_at lw_m2 29 rfl) rfl
theorem q411 : (Jvm.Cond.selects "java/lang/String" ({ cls := "java/lang/String", name := "length", desc := "()I" } : Jvm.MethodName) ({ cls := "java/lang/String", name := "length", desc := "()I" } : Jvm.MethodName)) ∈ lw_all := lw_g (lw_at lw_m2 30 rfl) rfl
theorem q412 : (Jvm.Cond.code ({ cls := "java/lang/String", name := "length", desc := "()I" } : Jvm.MethodName) prog_23_method_54_code (1 : Nat) (Option.some Jvm.ClassFile.FieldType.int)) ∈ lw_all := lw_g (lw_at lw_m2 31 rfl) rfl
theorem q413 : (Jvm.Cond.methodLink "java/lang/String" (335 : Nat) ({ cls := "java/lang/String", name := "coder", desc := "()B" } : Jvm.MethodName)) ∈ lw_all := lw_g (lw_at lw_m2 32 rfl) rfl
theorem q414 : (Jvm.Cond.instanceMethod ({ cls := "java/lang/String", name := "coder", desc := "()B" } : Jvm.MethodName)) ∈ lw_all := lw_g (lw_at lw_m2 33 rfl) rfl
theorem q415 : (Jvm.Cond.selects "java/lang/String" ({ cls := "java/lang/String", name := "coder", desc := "()B" } : Jvm.MethodName) ({ cls := "java/lang/String", name := "coder", desc := "()B" } : Jvm.MethodName)) ∈ lw_all := lw_g (lw_at lw_m2 34 rfl) rfl
theorem q416 : (Jvm.Cond.code ({ cls := "java/lang/String", name := "coder", desc := "()B" } : Jvm.MethodName) prog_23_method_152_code (1 : Nat) (Option.some Jvm.ClassFile.FieldType.byte)) ∈ lw_all := lw_g (lw_at lw_m2 35 rfl) rfl
theorem q417 : (Jvm.Cond.methodLink "java/lang/String" (637 : Nat) ({ cls := "java/lang/StringLatin1", name := "indexOf", desc := "([BIII)I" } : Jvm.MethodName)) ∈ lw_all := lw_g (lw_at lw_m2 36 rfl) rfl
theorem q432 : (Jvm.Cond.methodLink "java/lang/String" (640 : Nat) ({ cls := "java/lang/StringUTF16", name := "indexOf", desc := "([BIII)I" } : Jvm.MethodName)) ∈ lw_all := lw_g (lw_at lw_m2 51 rfl) rfl
theorem q448 : (Jvm.Cond.static ({ cls := "java/lang/String", name := "checkBoundsBeginEnd", desc := "(III)V" } : Jvm.MethodName)) ∈ lw_all := lw_g (lw_at lw_m2 67 rfl) rfl
theorem q449 : (Jvm.Cond.code ({ cls := "java/lang/String", name := "checkBoundsBeginEnd", desc := "(III)V" } : Jvm.MethodName) prog_23_method_158_code (3 : Nat) (Option.none : Option Jvm.ClassFile.FieldType)) ∈ lw_all := lw_g (lw_at lw_m2 68 rfl) rfl
theorem q450 : (Jvm.Cond.fieldLink "java/lang/String" (1053 : Nat) "jdk/internal/util/Preconditions" "SIOOBE_FORMATTER" "Ljava/util/function/BiFunction;") ∈ lw_all := lw_g (lw_at lw_m2 69 rfl) rfl
theorem q452 : (Jvm.Cond.methodLink "java/lang/String" (1062 : Nat) ({ cls := "jdk/internal/util/Preconditions", name := "checkFromToIndex", desc := "(IIILjava/util/function/BiFunction;)I" } : Jvm.MethodName)) ∈ lw_all := lw_g (lw_at lw_m2 71 rfl) rfl
theorem q837 : (Jvm.Cond.instanceMethod ({ cls := "java/lang/String", name := "charAt", desc := "(I)C" } : Jvm.MethodName)) ∈ lw_all := lw_g (lw_at lw_m3 216 rfl) rfl
theorem q838 : (Jvm.Cond.selects "java/lang/String" ({ cls := "java/lang/String", name := "charAt", desc := "(I)C" } : Jvm.MethodName) ({ cls := "java/lang/String", name := "charAt", desc := "(I)C" } : Jvm.MethodName)) ∈ lw_all := lw_g (lw_at lw_m3 217 rfl) rfl
theorem q839 : (Jvm.Cond.code ({ cls := "java/lang/String", name := "charAt", desc := "(I)C" } : Jvm.MethodName) prog_23_method_56_code (2 : Nat) (Option.some Jvm.ClassFile.FieldType.char)) ∈ lw_all := lw_g (lw_at lw_m3 218 rfl) rfl
theorem q840 : (Jvm.Cond.methodLink "java/lang/String" (495 : Nat) ({ cls := "java/lang/StringLatin1", name := "charAt", desc := "([BI)C" } : Jvm.MethodName)) ∈ lw_all := lw_g (lw_at lw_m3 219 rfl) rfl
theorem q844 : (Jvm.Cond.static ({ cls := "java/lang/String", name := "checkIndex", desc := "(II)V" } : Jvm.MethodName)) ∈ lw_all := lw_g (lw_at lw_m3 223 rfl) rfl
theorem q845 : (Jvm.Cond.code ({ cls := "java/lang/String", name := "checkIndex", desc := "(II)V" } : Jvm.MethodName) prog_23_method_155_code (2 : Nat) (Option.none : Option Jvm.ClassFile.FieldType)) ∈ lw_all := lw_g (lw_at lw_m3 224 rfl) rfl
theorem q846 : (Jvm.Cond.methodLink "java/lang/String" (1059 : Nat) ({ cls := "jdk/internal/util/Preconditions", name := "checkIndex", desc := "(IILjava/util/function/BiFunction;)I" } : Jvm.MethodName)) ∈ lw_all := lw_g (lw_at lw_m3 225 rfl) rfl
theorem q849 : (Jvm.Cond.methodLink "java/lang/String" (498 : Nat) ({ cls := "java/lang/StringUTF16", name := "charAt", desc := "([BI)C" } : Jvm.MethodName)) ∈ lw_all := lw_g (lw_at lw_m3 228 rfl) rfl
theorem q1929 : (Jvm.Cond.castable "java/lang/String" "java/lang/Object") ∈ lw_tbl := lw_at lw_m8 108 rfl
theorem q1930 : (Jvm.Cond.fieldLink "java/lang/String" (15 : Nat) "java/lang/String" "coder" "B") ∈ lw_all := lw_g (lw_at lw_m8 109 rfl) rfl
theorem q1931 : (Jvm.Cond.fieldLink "java/lang/String" (9 : Nat) "java/lang/String" "value" "[B") ∈ lw_all := lw_g (lw_at lw_m8 110 rfl) rfl
/-! java/lang/StringLatin1 -/
set_option maxRecDepth 100000
def RJ3 : String := "java/lang/StringLatin1"
abbrev cJ3_indexOf : ByteArray := prog_24_method_22_code
def yJ3_indexOf : MethodName := ⟨RJ3, "indexOf", "([BIII)I"⟩
def dkwJ3_indexOf_1 : List UInt8 := [161, 0, 5, 2, 172, 42, 27, 28, 29, 184, 0, 95, 172]
abbrev dktJ3_indexOf_1 : List UInt8 := dkwJ3_indexOf_1 ++ []
def dkwJ3_indexOf_0 : List UInt8 := [27, 184, 0, 88, 154, 0, 5, 2, 172, 28, 3, 184, 0, 92, 61, 29, 42, 190, 184, 0, 38, 62, 28, 29]
abbrev dktJ3_indexOf_0 : List UInt8 := dkwJ3_indexOf_0 ++ dktJ3_indexOf_1
theorem dksJ3_indexOf_0 : cJ3_indexOf.data.toList.drop 0 = dktJ3_indexOf_0 := by decide +kernel
theorem dksJ3_indexOf_1 : cJ3_indexOf.data.toList.drop 24 = dktJ3_indexOf_1 := dk_seg dksJ3_indexOf_0 24 rfl rfl
theorem dJ3_indexOf_0 : decode cJ3_indexOf 0 = .ok (.iload_n 1, 1) := dk_27 (dk_at dksJ3_indexOf_0 0 rfl rfl)
theorem dJ3_indexOf_1 : decode cJ3_indexOf 1 = .ok (.invokestatic 88, 3) := dk_184 0 88 (dk_at dksJ3_indexOf_0 1 rfl rfl)
theorem dJ3_indexOf_4 : decode cJ3_indexOf 4 = .ok (.ifCond .ne 5, 3) := dk_154 0 5 (dk_at dksJ3_indexOf_0 4 rfl rfl)
theorem dJ3_indexOf_7 : decode cJ3_indexOf 7 = .ok (.iconst (-1), 1) := dk_2 (dk_at dksJ3_indexOf_0 7 rfl rfl)
theorem dJ3_indexOf_8 : decode cJ3_indexOf 8 = .ok (.ireturn, 1) := dk_172 (dk_at dksJ3_indexOf_0 8 rfl rfl)
theorem dJ3_indexOf_9 : decode cJ3_indexOf 9 = .ok (.iload_n 2, 1) := dk_28 (dk_at dksJ3_indexOf_0 9 rfl rfl)
theorem dJ3_indexOf_10 : decode cJ3_indexOf 10 = .ok (.iconst 0, 1) := dk_3 (dk_at dksJ3_indexOf_0 10 rfl rfl)
theorem dJ3_indexOf_11 : decode cJ3_indexOf 11 = .ok (.invokestatic 92, 3) := dk_184 0 92 (dk_at dksJ3_indexOf_0 11 rfl rfl)
theorem dJ3_indexOf_14 : decode cJ3_indexOf 14 = .ok (.istore_n 2, 1) := dk_61 (dk_at dksJ3_indexOf_0 14 rfl rfl)
theorem dJ3_indexOf_15 : decode cJ3_indexOf 15 = .ok (.iload_n 3, 1) := dk_29 (dk_at dksJ3_indexOf_0 15 rfl rfl)
theorem dJ3_indexOf_16 : decode cJ3_indexOf 16 = .ok (.aload_n 0, 1) := dk_42 (dk_at dksJ3_indexOf_0 16 rfl rfl)
theorem dJ3_indexOf_17 : decode cJ3_indexOf 17 = .ok (.arraylength, 1) := dk_190 (dk_at dksJ3_indexOf_0 17 rfl rfl)
theorem dJ3_indexOf_18 : decode cJ3_indexOf 18 = .ok (.invokestatic 38, 3) := dk_184 0 38 (dk_at dksJ3_indexOf_0 18 rfl rfl)
theorem dJ3_indexOf_21 : decode cJ3_indexOf 21 = .ok (.istore_n 3, 1) := dk_62 (dk_at dksJ3_indexOf_0 21 rfl rfl)
theorem dJ3_indexOf_22 : decode cJ3_indexOf 22 = .ok (.iload_n 2, 1) := dk_28 (dk_at dksJ3_indexOf_0 22 rfl rfl)
theorem dJ3_indexOf_23 : decode cJ3_indexOf 23 = .ok (.iload_n 3, 1) := dk_29 (dk_at dksJ3_indexOf_0 23 rfl rfl)
theorem dJ3_indexOf_24 : decode cJ3_indexOf 24 = .ok (.if_icmp .lt 5, 3) := dk_161 0 5 (dk_at dksJ3_indexOf_1 0 rfl rfl)
theorem dJ3_indexOf_27 : decode cJ3_indexOf 27 = .ok (.iconst (-1), 1) := dk_2 (dk_at dksJ3_indexOf_1 3 rfl rfl)
theorem dJ3_indexOf_28 : decode cJ3_indexOf 28 = .ok (.ireturn, 1) := dk_172 (dk_at dksJ3_indexOf_1 4 rfl rfl)
theorem dJ3_indexOf_29 : decode cJ3_indexOf 29 = .ok (.aload_n 0, 1) := dk_42 (dk_at dksJ3_indexOf_1 5 rfl rfl)
theorem dJ3_indexOf_30 : decode cJ3_indexOf 30 = .ok (.iload_n 1, 1) := dk_27 (dk_at dksJ3_indexOf_1 6 rfl rfl)
theorem dJ3_indexOf_31 : decode cJ3_indexOf 31 = .ok (.iload_n 2, 1) := dk_28 (dk_at dksJ3_indexOf_1 7 rfl rfl)
theorem dJ3_indexOf_32 : decode cJ3_indexOf 32 = .ok (.iload_n 3, 1) := dk_29 (dk_at dksJ3_indexOf_1 8 rfl rfl)
theorem dJ3_indexOf_33 : decode cJ3_indexOf 33 = .ok (.invokestatic 95, 3) := dk_184 0 95 (dk_at dksJ3_indexOf_1 9 rfl rfl)
theorem dJ3_indexOf_36 : decode cJ3_indexOf 36 = .ok (.ireturn, 1) := dk_172 (dk_at dksJ3_indexOf_1 12 rfl rfl)
abbrev cJ3_canEncode : ByteArray := prog_24_method_4_code
def yJ3_canEncode : MethodName := ⟨RJ3, "canEncode", "(I)Z"⟩
def dkwJ3_canEncode_0 : List UInt8 := [26, 155, 0, 14, 26, 17, 0, 255, 163, 0, 7, 4, 167, 0, 4, 3, 172]
abbrev dktJ3_canEncode_0 : List UInt8 := dkwJ3_canEncode_0 ++ []
theorem dksJ3_canEncode_0 : cJ3_canEncode.data.toList.drop 0 = dktJ3_canEncode_0 := by decide +kernel
theorem dJ3_canEncode_0 : decode cJ3_canEncode 0 = .ok (.iload_n 0, 1) := dk_26 (dk_at dksJ3_canEncode_0 0 rfl rfl)
theorem dJ3_canEncode_1 : decode cJ3_canEncode 1 = .ok (.ifCond .lt 14, 3) := dk_155 0 14 (dk_at dksJ3_canEncode_0 1 rfl rfl)
theorem dJ3_canEncode_4 : decode cJ3_canEncode 4 = .ok (.iload_n 0, 1) := dk_26 (dk_at dksJ3_canEncode_0 4 rfl rfl)
theorem dJ3_canEncode_5 : decode cJ3_canEncode 5 = .ok (.sipush 255, 3) := dk_17 0 255 (dk_at dksJ3_canEncode_0 5 rfl rfl)
theorem dJ3_canEncode_8 : decode cJ3_canEncode 8 = .ok (.if_icmp .gt 7, 3) := dk_163 0 7 (dk_at dksJ3_canEncode_0 8 rfl rfl)
theorem dJ3_canEncode_11 : decode cJ3_canEncode 11 = .ok (.iconst 1, 1) := dk_4 (dk_at dksJ3_canEncode_0 11 rfl rfl)
theorem dJ3_canEncode_12 : decode cJ3_canEncode 12 = .ok (.goto 4, 3) := dk_167 0 4 (dk_at dksJ3_canEncode_0 12 rfl rfl)
theorem dJ3_canEncode_15 : decode cJ3_canEncode 15 = .ok (.iconst 0, 1) := dk_3 (dk_at dksJ3_canEncode_0 15 rfl rfl)
theorem dJ3_canEncode_16 : decode cJ3_canEncode 16 = .ok (.ireturn, 1) := dk_172 (dk_at dksJ3_canEncode_0 16 rfl rfl)
abbrev cJ3_indexOfChar : ByteArray := prog_24_method_23_code
def yJ3_indexOfChar : MethodName := ⟨RJ3, "indexOfChar", "([BIII)I"⟩
def dkwJ3_indexOfChar_1 : List UInt8 := [172, 132, 5, 1, 167, 255, 235, 2, 172]
abbrev dktJ3_indexOfChar_1 : List UInt8 := dkwJ3_indexOfChar_1 ++ []
def dkwJ3_indexOfChar_0 : List UInt8 := [27, 145, 54, 4, 28, 54, 5, 21, 5, 29, 162, 0, 21, 42, 21, 5, 51, 21, 4, 160, 0, 6, 21, 5]
abbrev dktJ3_indexOfChar_0 : List UInt8 := dkwJ3_indexOfChar_0 ++ dktJ3_indexOfChar_1
theorem dksJ3_indexOfChar_0 : cJ3_indexOfChar.data.toList.drop 0 = dktJ3_indexOfChar_0 := by decide +kernel
theorem dksJ3_indexOfChar_1 : cJ3_indexOfChar.data.toList.drop 24 = dktJ3_indexOfChar_1 := dk_seg dksJ3_indexOfChar_0 24 rfl rfl
theorem dJ3_indexOfChar_0 : decode cJ3_indexOfChar 0 = .ok (.iload_n 1, 1) := dk_27 (dk_at dksJ3_indexOfChar_0 0 rfl rfl)
theorem dJ3_indexOfChar_1 : decode cJ3_indexOfChar 1 = .ok (.i2b, 1) := dk_145 (dk_at dksJ3_indexOfChar_0 1 rfl rfl)
theorem dJ3_indexOfChar_2 : decode cJ3_indexOfChar 2 = .ok (.istore 4, 2) := dk_54 4 (dk_at dksJ3_indexOfChar_0 2 rfl rfl)
theorem dJ3_indexOfChar_4 : decode cJ3_indexOfChar 4 = .ok (.iload_n 2, 1) := dk_28 (dk_at dksJ3_indexOfChar_0 4 rfl rfl)
theorem dJ3_indexOfChar_5 : decode cJ3_indexOfChar 5 = .ok (.istore 5, 2) := dk_54 5 (dk_at dksJ3_indexOfChar_0 5 rfl rfl)
theorem dJ3_indexOfChar_7 : decode cJ3_indexOfChar 7 = .ok (.iload 5, 2) := dk_21 5 (dk_at dksJ3_indexOfChar_0 7 rfl rfl)
theorem dJ3_indexOfChar_9 : decode cJ3_indexOfChar 9 = .ok (.iload_n 3, 1) := dk_29 (dk_at dksJ3_indexOfChar_0 9 rfl rfl)
theorem dJ3_indexOfChar_10 : decode cJ3_indexOfChar 10 = .ok (.if_icmp .ge 21, 3) := dk_162 0 21 (dk_at dksJ3_indexOfChar_0 10 rfl rfl)
theorem dJ3_indexOfChar_13 : decode cJ3_indexOfChar 13 = .ok (.aload_n 0, 1) := dk_42 (dk_at dksJ3_indexOfChar_0 13 rfl rfl)
theorem dJ3_indexOfChar_14 : decode cJ3_indexOfChar 14 = .ok (.iload 5, 2) := dk_21 5 (dk_at dksJ3_indexOfChar_0 14 rfl rfl)
theorem dJ3_indexOfChar_16 : decode cJ3_indexOfChar 16 = .ok (.baload, 1) := dk_51 (dk_at dksJ3_indexOfChar_0 16 rfl rfl)
theorem dJ3_indexOfChar_17 : decode cJ3_indexOfChar 17 = .ok (.iload 4, 2) := dk_21 4 (dk_at dksJ3_indexOfChar_0 17 rfl rfl)
theorem dJ3_indexOfChar_19 : decode cJ3_indexOfChar 19 = .ok (.if_icmp .ne 6, 3) := dk_160 0 6 (dk_at dksJ3_indexOfChar_0 19 rfl rfl)
theorem dJ3_indexOfChar_22 : decode cJ3_indexOfChar 22 = .ok (.iload 5, 2) := dk_21 5 (dk_at dksJ3_indexOfChar_0 22 rfl rfl)
theorem dJ3_indexOfChar_24 : decode cJ3_indexOfChar 24 = .ok (.ireturn, 1) := dk_172 (dk_at dksJ3_indexOfChar_1 0 rfl rfl)
theorem dJ3_indexOfChar_25 : decode cJ3_indexOfChar 25 = .ok (.iinc 5 1, 3) := dk_132 5 1 (dk_at dksJ3_indexOfChar_1 1 rfl rfl)
theorem dJ3_indexOfChar_28 : decode cJ3_indexOfChar 28 = .ok (.goto (-21), 3) := dk_167 255 235 (dk_at dksJ3_indexOfChar_1 4 rfl rfl)
theorem dJ3_indexOfChar_31 : decode cJ3_indexOfChar 31 = .ok (.iconst (-1), 1) := dk_2 (dk_at dksJ3_indexOfChar_1 7 rfl rfl)
theorem dJ3_indexOfChar_32 : decode cJ3_indexOfChar 32 = .ok (.ireturn, 1) := dk_172 (dk_at dksJ3_indexOfChar_1 8 rfl rfl)
abbrev cJ3_charAt : ByteArray := prog_24_method_2_code
def yJ3_charAt : MethodName := ⟨RJ3, "charAt", "([BI)C"⟩
def dkwJ3_charAt_0 : List UInt8 := [27, 42, 190, 184, 0, 9, 42, 27, 51, 17, 0, 255, 126, 146, 172]
abbrev dktJ3_charAt_0 : List UInt8 := dkwJ3_charAt_0 ++ []
theorem dksJ3_charAt_0 : cJ3_charAt.data.toList.drop 0 = dktJ3_charAt_0 := by decide +kernel
theorem dJ3_charAt_0 : decode cJ3_charAt 0 = .ok (.iload_n 1, 1) := dk_27 (dk_at dksJ3_charAt_0 0 rfl rfl)
theorem dJ3_charAt_1 : decode cJ3_charAt 1 = .ok (.aload_n 0, 1) := dk_42 (dk_at dksJ3_charAt_0 1 rfl rfl)
theorem dJ3_charAt_2 : decode cJ3_charAt 2 = .ok (.arraylength, 1) := dk_190 (dk_at dksJ3_charAt_0 2 rfl rfl)
theorem dJ3_charAt_3 : decode cJ3_charAt 3 = .ok (.invokestatic 9, 3) := dk_184 0 9 (dk_at dksJ3_charAt_0 3 rfl rfl)
theorem dJ3_charAt_6 : decode cJ3_charAt 6 = .ok (.aload_n 0, 1) := dk_42 (dk_at dksJ3_charAt_0 6 rfl rfl)
theorem dJ3_charAt_7 : decode cJ3_charAt 7 = .ok (.iload_n 1, 1) := dk_27 (dk_at dksJ3_charAt_0 7 rfl rfl)
theorem dJ3_charAt_8 : decode cJ3_charAt 8 = .ok (.baload, 1) := dk_51 (dk_at dksJ3_charAt_0 8 rfl rfl)
theorem dJ3_charAt_9 : decode cJ3_charAt 9 = .ok (.sipush 255, 3) := dk_17 0 255 (dk_at dksJ3_charAt_0 9 rfl rfl)
theorem dJ3_charAt_12 : decode cJ3_charAt 12 = .ok (.iand, 1) := dk_126 (dk_at dksJ3_charAt_0 12 rfl rfl)
theorem dJ3_charAt_13 : decode cJ3_charAt 13 = .ok (.i2c, 1) := dk_146 (dk_at dksJ3_charAt_0 13 rfl rfl)
theorem dJ3_charAt_14 : decode cJ3_charAt 14 = .ok (.ireturn, 1) := dk_172 (dk_at dksJ3_charAt_0 14 rfl rfl)
theorem q148 : (Jvm.Cond.initialized "java/lang/StringLatin1") ∈ lw_all := lw_g (lw_at lw_m1 7 rfl) rfl
theorem q418 : (Jvm.Cond.static ({ cls := "java/lang/StringLatin1", name := "indexOf", desc := "([BIII)I" } : Jvm.MethodName)) ∈ lw_all := lw_g (lw_at lw_m2 37 rfl) rfl
theorem q419 : (Jvm.Cond.code ({ cls := "java/lang/StringLatin1", name := "indexOf", desc := "([BIII)I" } : Jvm.MethodName) prog_24_method_22_code (4 : Nat) (Option.some Jvm.ClassFile.FieldType.int)) ∈ lw_all := lw_g (lw_at lw_m2 38 rfl) rfl
theorem q420 : (Jvm.Cond.methodLink "java/lang/StringLatin1" (88 : Nat) ({ cls := "java/lang/StringLatin1", name := "canEncode", desc := "(I)Z" } : Jvm.MethodName)) ∈ lw_all := lw_g (lw_at lw_m2 39 rfl) rfl
theorem q421 : (Jvm.Cond.static ({ cls := "java/lang/StringLatin1", name := "canEncode", desc := "(I)Z" } : Jvm.MethodName)) ∈ lw_all := lw_g (lw_at lw_m2 40 rfl) rfl
theorem q422 : (Jvm.Cond.code ({ cls := "java/lang/StringLatin1", name := "canEncode", desc := "(I)Z" } : Jvm.MethodName) prog_24_method_4_code (1 : Nat) (Option.some Jvm.ClassFile.FieldType.boolean)) ∈ lw_all := lw_g (lw_at lw_m2 41 rfl) rfl
theorem q423 : (Jvm.Cond.methodLink "java/lang/StringLatin1" (92 : Nat) ({ cls := "java/lang/Math", name := "max", desc := "(II)I" } : Jvm.MethodName)) ∈ lw_all := lw_g (lw_at lw_m2 42 rfl) rfl
theorem q426 : (Jvm.Cond.methodLink "java/lang/StringLatin1" (38 : Nat) ({ cls := "java/lang/Math", name := "min", desc := "(II)I" } : Jvm.MethodName)) ∈ lw_all := lw_g (lw_at lw_m2 45 rfl) rfl
theorem q429 : (Jvm.Cond.methodLink "java/lang/StringLatin1" (95 : Nat) ({ cls := "java/lang/StringLatin1", name := "indexOfChar", desc := "([BIII)I" } : Jvm.MethodName)) ∈ lw_all := lw_g (lw_at lw_m2 48 rfl) rfl
theorem q430 : (Jvm.Cond.static ({ cls := "java/lang/StringLatin1", name := "indexOfChar", desc := "([BIII)I" } : Jvm.MethodName)) ∈ lw_all := lw_g (lw_at lw_m2 49 rfl) rfl
theorem q431 : (Jvm.Cond.code ({ cls := "java/lang/StringLatin1", name := "indexOfChar", desc := "([BIII)I" } : Jvm.MethodName) prog_24_method_23_code (6 : Nat) (Option.some Jvm.ClassFile.FieldType.int)) ∈ lw_all := lw_g (lw_at lw_m2 50 rfl) rfl
theorem q841 : (Jvm.Cond.static ({ cls := "java/lang/StringLatin1", name := "charAt", desc := "([BI)C" } : Jvm.MethodName)) ∈ lw_all := lw_g (lw_at lw_m3 220 rfl) rfl
theorem q842 : (Jvm.Cond.code ({ cls := "java/lang/StringLatin1", name := "charAt", desc := "([BI)C" } : Jvm.MethodName) prog_24_method_2_code (2 : Nat) (Option.some Jvm.ClassFile.FieldType.char)) ∈ lw_all := lw_g (lw_at lw_m3 221 rfl) rfl
theorem q843 : (Jvm.Cond.methodLink "java/lang/StringLatin1" (9 : Nat) ({ cls := "java/lang/String", name := "checkIndex", desc := "(II)V" } : Jvm.MethodName)) ∈ lw_all := lw_g (lw_at lw_m3 222 rfl) rfl
/-! java/lang/Math -/
set_option maxRecDepth 100000
def RJ4 : String := "java/lang/Math"
abbrev cJ4_max : ByteArray := prog_21_method_65_code
def yJ4_max : MethodName := ⟨RJ4, "max", "(II)I"⟩
def dkwJ4_max_0 : List UInt8 := [26, 27, 161, 0, 7, 26, 167, 0, 4, 27, 172]
abbrev dktJ4_max_0 : List UInt8 := dkwJ4_max_0 ++ []
theorem dksJ4_max_0 : cJ4_max.data.toList.drop 0 = dktJ4_max_0 := by decide +kernel
theorem dJ4_max_0 : decode cJ4_max 0 = .ok (.iload_n 0, 1) := dk_26 (dk_at dksJ4_max_0 0 rfl rfl)
theorem dJ4_max_1 : decode cJ4_max 1 = .ok (.iload_n 1, 1) := dk_27 (dk_at dksJ4_max_0 1 rfl rfl)
theorem dJ4_max_2 : decode cJ4_max 2 = .ok (.if_icmp .lt 7, 3) := dk_161 0 7 (dk_at dksJ4_max_0 2 rfl rfl)
theorem dJ4_max_5 : decode cJ4_max 5 = .ok (.iload_n 0, 1) := dk_26 (dk_at dksJ4_max_0 5 rfl rfl)
theorem dJ4_max_6 : decode cJ4_max 6 = .ok (.goto 4, 3) := dk_167 0 4 (dk_at dksJ4_max_0 6 rfl rfl)
theorem dJ4_max_9 : decode cJ4_max 9 = .ok (.iload_n 1, 1) := dk_27 (dk_at dksJ4_max_0 9 rfl rfl)
theorem dJ4_max_10 : decode cJ4_max 10 = .ok (.ireturn, 1) := dk_172 (dk_at dksJ4_max_0 10 rfl rfl)
abbrev cJ4_min : ByteArray := prog_21_method_69_code
def yJ4_min : MethodName := ⟨RJ4, "min", "(II)I"⟩
def dkwJ4_min_0 : List UInt8 := [26, 27, 163, 0, 7, 26, 167, 0, 4, 27, 172]
abbrev dktJ4_min_0 : List UInt8 := dkwJ4_min_0 ++ []
theorem dksJ4_min_0 : cJ4_min.data.toList.drop 0 = dktJ4_min_0 := by decide +kernel
theorem dJ4_min_0 : decode cJ4_min 0 = .ok (.iload_n 0, 1) := dk_26 (dk_at dksJ4_min_0 0 rfl rfl)
theorem dJ4_min_1 : decode cJ4_min 1 = .ok (.iload_n 1, 1) := dk_27 (dk_at dksJ4_min_0 1 rfl rfl)
theorem dJ4_min_2 : decode cJ4_min 2 = .ok (.if_icmp .gt 7, 3) := dk_163 0 7 (dk_at dksJ4_min_0 2 rfl rfl)
theorem dJ4_min_5 : decode cJ4_min 5 = .ok (.iload_n 0, 1) := dk_26 (dk_at dksJ4_min_0 5 rfl rfl)
theorem dJ4_min_6 : decode cJ4_min 6 = .ok (.goto 4, 3) := dk_167 0 4 (dk_at dksJ4_min_0 6 rfl rfl)
theorem dJ4_min_9 : decode cJ4_min 9 = .ok (.iload_n 1, 1) := dk_27 (dk_at dksJ4_min_0 9 rfl rfl)
theorem dJ4_min_10 : decode cJ4_min 10 = .ok (.ireturn, 1) := dk_172 (dk_at dksJ4_min_0 10 rfl rfl)
abbrev cJ4_min_2 : ByteArray := prog_21_method_70_code
def yJ4_min_2 : MethodName := ⟨RJ4, "min", "(JJ)J"⟩
def dkwJ4_min_2_0 : List UInt8 := [30, 32, 148, 157, 0, 7, 30, 167, 0, 4, 32, 173]
abbrev dktJ4_min_2_0 : List UInt8 := dkwJ4_min_2_0 ++ []
theorem dksJ4_min_2_0 : cJ4_min_2.data.toList.drop 0 = dktJ4_min_2_0 := by decide +kernel
theorem dJ4_min_2_0 : decode cJ4_min_2 0 = .ok (.lload_n 0, 1) := dk_30 (dk_at dksJ4_min_2_0 0 rfl rfl)
theorem dJ4_min_2_1 : decode cJ4_min_2 1 = .ok (.lload_n 2, 1) := dk_32 (dk_at dksJ4_min_2_0 1 rfl rfl)
theorem dJ4_min_2_2 : decode cJ4_min_2 2 = .ok (.lcmp, 1) := dk_148 (dk_at dksJ4_min_2_0 2 rfl rfl)
theorem dJ4_min_2_3 : decode cJ4_min_2 3 = .ok (.ifCond .gt 7, 3) := dk_157 0 7 (dk_at dksJ4_min_2_0 3 rfl rfl)
theorem dJ4_min_2_6 : decode cJ4_min_2 6 = .ok (.lload_n 0, 1) := dk_30 (dk_at dksJ4_min_2_0 6 rfl rfl)
theorem dJ4_min_2_7 : decode cJ4_min_2 7 = .ok (.goto 4, 3) := dk_167 0 4 (dk_at dksJ4_min_2_0 7 rfl rfl)
theorem dJ4_min_2_10 : decode cJ4_min_2 10 = .ok (.lload_n 2, 1) := dk_32 (dk_at dksJ4_min_2_0 10 rfl rfl)
theorem dJ4_min_2_11 : decode cJ4_min_2 11 = .ok (.lreturn, 1) := dk_173 (dk_at dksJ4_min_2_0 11 rfl rfl)
abbrev cJ4_max_2 : ByteArray := prog_21_method_66_code
def yJ4_max_2 : MethodName := ⟨RJ4, "max", "(JJ)J"⟩
def dkwJ4_max_2_0 : List UInt8 := [30, 32, 148, 155, 0, 7, 30, 167, 0, 4, 32, 173]
abbrev dktJ4_max_2_0 : List UInt8 := dkwJ4_max_2_0 ++ []
theorem dksJ4_max_2_0 : cJ4_max_2.data.toList.drop 0 = dktJ4_max_2_0 := by decide +kernel
theorem dJ4_max_2_0 : decode cJ4_max_2 0 = .ok (.lload_n 0, 1) := dk_30 (dk_at dksJ4_max_2_0 0 rfl rfl)
theorem dJ4_max_2_1 : decode cJ4_max_2 1 = .ok (.lload_n 2, 1) := dk_32 (dk_at dksJ4_max_2_0 1 rfl rfl)
theorem dJ4_max_2_2 : decode cJ4_max_2 2 = .ok (.lcmp, 1) := dk_148 (dk_at dksJ4_max_2_0 2 rfl rfl)
theorem dJ4_max_2_3 : decode cJ4_max_2 3 = .ok (.ifCond .lt 7, 3) := dk_155 0 7 (dk_at dksJ4_max_2_0 3 rfl rfl)
theorem dJ4_max_2_6 : decode cJ4_max_2 6 = .ok (.lload_n 0, 1) := dk_30 (dk_at dksJ4_max_2_0 6 rfl rfl)
theorem dJ4_max_2_7 : decode cJ4_max_2 7 = .ok (.goto 4, 3) := dk_167 0 4 (dk_at dksJ4_max_2_0 7 rfl rfl)
theorem dJ4_max_2_10 : decode cJ4_max_2 10 = .ok (.lload_n 2, 1) := dk_32 (dk_at dksJ4_max_2_0 10 rfl rfl)
theorem dJ4_max_2_11 : decode cJ4_max_2 11 = .ok (.lreturn, 1) := dk_173 (dk_at dksJ4_max_2_0 11 rfl rfl)
theorem q149 : (Jvm.Cond.initialized "java/lang/Math") ∈ lw_all := lw_g (lw_at lw_m1 8 rfl) rfl
theorem q424 : (Jvm.Cond.static ({ cls := "java/lang/Math", name := "max", desc := "(II)I" } : Jvm.MethodName)) ∈ lw_all := lw_g (lw_at lw_m2 43 rfl) rfl
theorem q425 : (Jvm.Cond.code ({ cls := "java/lang/Math", name := "max", desc := "(II)I" } : Jvm.MethodName) prog_21_method_65_code (2 : Nat) (Option.some Jvm.ClassFile.FieldType.int)) ∈ lw_all := lw_g (lw_at lw_m2 44 rfl) rfl
theorem q427 : (Jvm.Cond.static ({ cls := "java/lang/Math", name := "min", desc := "(II)I" } : Jvm.MethodName)) ∈ lw_all := lw_g (lw_at lw_m2 46 rfl) rfl
theorem q428 : (Jvm.Cond.code ({ cls := "java/lang/Math", name := "min", desc := "(II)I" } : Jvm.MethodName) prog_21_method_69_code (2 : Nat) (Option.some Jvm.ClassFile.FieldType.int)) ∈ lw_all := lw_g (lw_at lw_m2 47 rfl) rfl
theorem q884 : (Jvm.Cond.static ({ cls := "java/lang/Math", name := "min", desc := "(JJ)J" } : Jvm.MethodName)) ∈ lw_all := lw_g (lw_at lw_m4 23 rfl) rfl
theorem q885 : (Jvm.Cond.code ({ cls := "java/lang/Math", name := "min", desc := "(JJ)J" } : Jvm.MethodName) prog_21_method_70_code (4 : Nat) (Option.some Jvm.ClassFile.FieldType.long)) ∈ lw_all := lw_g (lw_at lw_m4 24 rfl) rfl
theorem q887 : (Jvm.Cond.static ({ cls := "java/lang/Math", name := "max", desc := "(JJ)J" } : Jvm.MethodName)) ∈ lw_all := lw_g (lw_at lw_m4 26 rfl) rfl
theorem q888 : (Jvm.Cond.code ({ cls := "java/lang/Math", name := "max", desc := "(JJ)J" } : Jvm.MethodName) prog_21_method_66_code (4 : Nat) (Option.some Jvm.ClassFile.FieldType.long)) ∈ lw_all := lw_g (lw_at lw_m4 27 rfl) rfl
/-! java/lang/StringUTF16 -/
set_option maxRecDepth 100000
def RJ5 : String := "java/lang/StringUTF16"
abbrev cJ5_indexOf : ByteArray := prog_25_method_40_code
def yJ5_indexOf : MethodName := ⟨RJ5, "indexOf", "([BIII)I"⟩
def dkwJ5_indexOf_1 : List UInt8 := [18, 227, 162, 0, 11, 42, 27, 28, 29, 184, 0, 228, 172, 42, 27, 28, 29, 184, 0, 232, 172]
abbrev dktJ5_indexOf_1 : List UInt8 := dkwJ5_indexOf_1 ++ []
def dkwJ5_indexOf_0 : List UInt8 := [28, 3, 184, 0, 224, 61, 29, 42, 190, 4, 122, 184, 0, 183, 62, 28, 29, 161, 0, 5, 2, 172, 27]
abbrev dktJ5_indexOf_0 : List UInt8 := dkwJ5_indexOf_0 ++ dktJ5_indexOf_1
theorem dksJ5_indexOf_0 : cJ5_indexOf.data.toList.drop 0 = dktJ5_indexOf_0 := by decide +kernel
theorem dksJ5_indexOf_1 : cJ5_indexOf.data.toList.drop 23 = dktJ5_indexOf_1 := dk_seg dksJ5_indexOf_0 23 rfl rfl
theorem dJ5_indexOf_0 : decode cJ5_indexOf 0 = .ok (.iload_n 2, 1) := dk_28 (dk_at dksJ5_indexOf_0 0 rfl rfl)
theorem dJ5_indexOf_1 : decode cJ5_indexOf 1 = .ok (.iconst 0, 1) := dk_3 (dk_at dksJ5_indexOf_0 1 rfl rfl)
theorem dJ5_indexOf_2 : decode cJ5_indexOf 2 = .ok (.invokestatic 224, 3) := dk_184 0 224 (dk_at dksJ5_indexOf_0 2 rfl rfl)
theorem dJ5_indexOf_5 : decode cJ5_indexOf 5 = .ok (.istore_n 2, 1) := dk_61 (dk_at dksJ5_indexOf_0 5 rfl rfl)
theorem dJ5_indexOf_6 : decode cJ5_indexOf 6 = .ok (.iload_n 3, 1) := dk_29 (dk_at dksJ5_indexOf_0 6 rfl rfl)
theorem dJ5_indexOf_7 : decode cJ5_indexOf 7 = .ok (.aload_n 0, 1) := dk_42 (dk_at dksJ5_indexOf_0 7 rfl rfl)
theorem dJ5_indexOf_8 : decode cJ5_indexOf 8 = .ok (.arraylength, 1) := dk_190 (dk_at dksJ5_indexOf_0 8 rfl rfl)
theorem dJ5_indexOf_9 : decode cJ5_indexOf 9 = .ok (.iconst 1, 1) := dk_4 (dk_at dksJ5_indexOf_0 9 rfl rfl)
theorem dJ5_indexOf_10 : decode cJ5_indexOf 10 = .ok (.ishr, 1) := dk_122 (dk_at dksJ5_indexOf_0 10 rfl rfl)
theorem dJ5_indexOf_11 : decode cJ5_indexOf 11 = .ok (.invokestatic 183, 3) := dk_184 0 183 (dk_at dksJ5_indexOf_0 11 rfl rfl)
theorem dJ5_indexOf_14 : decode cJ5_indexOf 14 = .ok (.istore_n 3, 1) := dk_62 (dk_at dksJ5_indexOf_0 14 rfl rfl)
theorem dJ5_indexOf_15 : decode cJ5_indexOf 15 = .ok (.iload_n 2, 1) := dk_28 (dk_at dksJ5_indexOf_0 15 rfl rfl)
theorem dJ5_indexOf_16 : decode cJ5_indexOf 16 = .ok (.iload_n 3, 1) := dk_29 (dk_at dksJ5_indexOf_0 16 rfl rfl)
theorem dJ5_indexOf_17 : decode cJ5_indexOf 17 = .ok (.if_icmp .lt 5, 3) := dk_161 0 5 (dk_at dksJ5_indexOf_0 17 rfl rfl)
theorem dJ5_indexOf_20 : decode cJ5_indexOf 20 = .ok (.iconst (-1), 1) := dk_2 (dk_at dksJ5_indexOf_0 20 rfl rfl)
theorem dJ5_indexOf_21 : decode cJ5_indexOf 21 = .ok (.ireturn, 1) := dk_172 (dk_at dksJ5_indexOf_0 21 rfl rfl)
theorem dJ5_indexOf_22 : decode cJ5_indexOf 22 = .ok (.iload_n 1, 1) := dk_27 (dk_at dksJ5_indexOf_0 22 rfl rfl)
theorem dJ5_indexOf_23 : decode cJ5_indexOf 23 = .ok (.ldc 227, 2) := dk_18 227 (dk_at dksJ5_indexOf_1 0 rfl rfl)
theorem dJ5_indexOf_25 : decode cJ5_indexOf 25 = .ok (.if_icmp .ge 11, 3) := dk_162 0 11 (dk_at dksJ5_indexOf_1 2 rfl rfl)
theorem dJ5_indexOf_28 : decode cJ5_indexOf 28 = .ok (.aload_n 0, 1) := dk_42 (dk_at dksJ5_indexOf_1 5 rfl rfl)
theorem dJ5_indexOf_29 : decode cJ5_indexOf 29 = .ok (.iload_n 1, 1) := dk_27 (dk_at dksJ5_indexOf_1 6 rfl rfl)
theorem dJ5_indexOf_30 : decode cJ5_indexOf 30 = .ok (.iload_n 2, 1) := dk_28 (dk_at dksJ5_indexOf_1 7 rfl rfl)
theorem dJ5_indexOf_31 : decode cJ5_indexOf 31 = .ok (.iload_n 3, 1) := dk_29 (dk_at dksJ5_indexOf_1 8 rfl rfl)
theorem dJ5_indexOf_32 : decode cJ5_indexOf 32 = .ok (.invokestatic 228, 3) := dk_184 0 228 (dk_at dksJ5_indexOf_1 9 rfl rfl)
theorem dJ5_indexOf_35 : decode cJ5_indexOf 35 = .ok (.ireturn, 1) := dk_172 (dk_at dksJ5_indexOf_1 12 rfl rfl)
theorem dJ5_indexOf_36 : decode cJ5_indexOf 36 = .ok (.aload_n 0, 1) := dk_42 (dk_at dksJ5_indexOf_1 13 rfl rfl)
theorem dJ5_indexOf_37 : decode cJ5_indexOf 37 = .ok (.iload_n 1, 1) := dk_27 (dk_at dksJ5_indexOf_1 14 rfl rfl)
theorem dJ5_indexOf_38 : decode cJ5_indexOf 38 = .ok (.iload_n 2, 1) := dk_28 (dk_at dksJ5_indexOf_1 15 rfl rfl)
theorem dJ5_indexOf_39 : decode cJ5_indexOf 39 = .ok (.iload_n 3, 1) := dk_29 (dk_at dksJ5_indexOf_1 16 rfl rfl)
theorem dJ5_indexOf_40 : decode cJ5_indexOf 40 = .ok (.invokestatic 232, 3) := dk_184 0 232 (dk_at dksJ5_indexOf_1 17 rfl rfl)
theorem dJ5_indexOf_43 : decode cJ5_indexOf 43 = .ok (.ireturn, 1) := dk_172 (dk_at dksJ5_indexOf_1 20 rfl rfl)
abbrev cJ5_indexOfChar : ByteArray := prog_25_method_47_code
def yJ5_indexOfChar : MethodName := ⟨RJ5, "indexOfChar", "([BIII)I"⟩
def dkwJ5_indexOfChar_0 : List UInt8 := [28, 29, 42, 184, 0, 96, 42, 27, 28, 29, 184, 0, 244, 172]
abbrev dktJ5_indexOfChar_0 : List UInt8 := dkwJ5_indexOfChar_0 ++ []
theorem dksJ5_indexOfChar_0 : cJ5_indexOfChar.data.toList.drop 0 = dktJ5_indexOfChar_0 := by decide +kernel
theorem dJ5_indexOfChar_0 : decode cJ5_indexOfChar 0 = .ok (.iload_n 2, 1) := dk_28 (dk_at dksJ5_indexOfChar_0 0 rfl rfl)
theorem dJ5_indexOfChar_1 : decode cJ5_indexOfChar 1 = .ok (.iload_n 3, 1) := dk_29 (dk_at dksJ5_indexOfChar_0 1 rfl rfl)
theorem dJ5_indexOfChar_2 : decode cJ5_indexOfChar 2 = .ok (.aload_n 0, 1) := dk_42 (dk_at dksJ5_indexOfChar_0 2 rfl rfl)
theorem dJ5_indexOfChar_3 : decode cJ5_indexOfChar 3 = .ok (.invokestatic 96, 3) := dk_184 0 96 (dk_at dksJ5_indexOfChar_0 3 rfl rfl)
theorem dJ5_indexOfChar_6 : decode cJ5_indexOfChar 6 = .ok (.aload_n 0, 1) := dk_42 (dk_at dksJ5_indexOfChar_0 6 rfl rfl)
theorem dJ5_indexOfChar_7 : decode cJ5_indexOfChar 7 = .ok (.iload_n 1, 1) := dk_27 (dk_at dksJ5_indexOfChar_0 7 rfl rfl)
theorem dJ5_indexOfChar_8 : decode cJ5_indexOfChar 8 = .ok (.iload_n 2, 1) := dk_28 (dk_at dksJ5_indexOfChar_0 8 rfl rfl)
theorem dJ5_indexOfChar_9 : decode cJ5_indexOfChar 9 = .ok (.iload_n 3, 1) := dk_29 (dk_at dksJ5_indexOfChar_0 9 rfl rfl)
theorem dJ5_indexOfChar_10 : decode cJ5_indexOfChar 10 = .ok (.invokestatic 244, 3) := dk_184 0 244 (dk_at dksJ5_indexOfChar_0 10 rfl rfl)
theorem dJ5_indexOfChar_13 : decode cJ5_indexOfChar 13 = .ok (.ireturn, 1) := dk_172 (dk_at dksJ5_indexOfChar_0 13 rfl rfl)
abbrev cJ5_checkBoundsBeginEnd : ByteArray := prog_25_method_93_code
def yJ5_checkBoundsBeginEnd : MethodName := ⟨RJ5, "checkBoundsBeginEnd", "(II[B)V"⟩
def dkwJ5_checkBoundsBeginEnd_0 : List UInt8 := [26, 27, 44, 184, 0, 48, 184, 0, 241, 177]
abbrev dktJ5_checkBoundsBeginEnd_0 : List UInt8 := dkwJ5_checkBoundsBeginEnd_0 ++ []
theorem dksJ5_checkBoundsBeginEnd_0 : cJ5_checkBoundsBeginEnd.data.toList.drop 0 = dktJ5_checkBoundsBeginEnd_0 := by decide +kernel
theorem dJ5_checkBoundsBeginEnd_0 : decode cJ5_checkBoundsBeginEnd 0 = .ok (.iload_n 0, 1) := dk_26 (dk_at dksJ5_checkBoundsBeginEnd_0 0 rfl rfl)
theorem dJ5_checkBoundsBeginEnd_1 : decode cJ5_checkBoundsBeginEnd 1 = .ok (.iload_n 1, 1) := dk_27 (dk_at dksJ5_checkBoundsBeginEnd_0 1 rfl rfl)
theorem dJ5_checkBoundsBeginEnd_2 : decode cJ5_checkBoundsBeginEnd 2 = .ok (.aload_n 2, 1) := dk_44 (dk_at dksJ5_checkBoundsBeginEnd_0 2 rfl rfl)
theorem dJ5_checkBoundsBeginEnd_3 : decode cJ5_checkBoundsBeginEnd 3 = .ok (.invokestatic 48, 3) := dk_184 0 48 (dk_at dksJ5_checkBoundsBeginEnd_0 3 rfl rfl)
theorem dJ5_checkBoundsBeginEnd_6 : decode cJ5_checkBoundsBeginEnd 6 = .ok (.invokestatic 241, 3) := dk_184 0 241 (dk_at dksJ5_checkBoundsBeginEnd_0 6 rfl rfl)
theorem dJ5_checkBoundsBeginEnd_9 : decode cJ5_checkBoundsBeginEnd 9 = .ok (.return_, 1) := dk_177 (dk_at dksJ5_checkBoundsBeginEnd_0 9 rfl rfl)
abbrev cJ5_length : ByteArray := prog_25_method_6_code
def yJ5_length : MethodName := ⟨RJ5, "length", "([B)I"⟩
def dkwJ5_length_0 : List UInt8 := [42, 190, 4, 122, 172]
abbrev dktJ5_length_0 : List UInt8 := dkwJ5_length_0 ++ []
theorem dksJ5_length_0 : cJ5_length.data.toList.drop 0 = dktJ5_length_0 := by decide +kernel
theorem dJ5_length_0 : decode cJ5_length 0 = .ok (.aload_n 0, 1) := dk_42 (dk_at dksJ5_length_0 0 rfl rfl)
theorem dJ5_length_1 : decode cJ5_length 1 = .ok (.arraylength, 1) := dk_190 (dk_at dksJ5_length_0 1 rfl rfl)
theorem dJ5_length_2 : decode cJ5_length 2 = .ok (.iconst 1, 1) := dk_4 (dk_at dksJ5_length_0 2 rfl rfl)
theorem dJ5_length_3 : decode cJ5_length 3 = .ok (.ishr, 1) := dk_122 (dk_at dksJ5_length_0 3 rfl rfl)
theorem dJ5_length_4 : decode cJ5_length 4 = .ok (.ireturn, 1) := dk_172 (dk_at dksJ5_length_0 4 rfl rfl)
abbrev cJ5_indexOfCharUnsafe : ByteArray := prog_25_method_48_code
def yJ5_indexOfCharUnsafe : MethodName := ⟨RJ5, "indexOfCharUnsafe", "([BIII)I"⟩
def dkwJ5_indexOfCharUnsafe_1 : List UInt8 := [132, 4, 1, 167, 255, 234, 2, 172]
abbrev dktJ5_indexOfCharUnsafe_1 : List UInt8 := dkwJ5_indexOfCharUnsafe_1 ++ []
def dkwJ5_indexOfCharUnsafe_0 : List UInt8 := [28, 54, 4, 21, 4, 29, 162, 0, 22, 42, 21, 4, 184, 0, 71, 27, 160, 0, 6, 21, 4, 172]
abbrev dktJ5_indexOfCharUnsafe_0 : List UInt8 := dkwJ5_indexOfCharUnsafe_0 ++ dktJ5_indexOfCharUnsafe_1
theorem dksJ5_indexOfCharUnsafe_0 : cJ5_indexOfCharUnsafe.data.toList.drop 0 = dktJ5_indexOfCharUnsafe_0 := by decide +kernel
theorem dksJ5_indexOfCharUnsafe_1 : cJ5_indexOfCharUnsafe.data.toList.drop 22 = dktJ5_indexOfCharUnsafe_1 := dk_seg dksJ5_indexOfCharUnsafe_0 22 rfl rfl
theorem dJ5_indexOfCharUnsafe_0 : decode cJ5_indexOfCharUnsafe 0 = .ok (.iload_n 2, 1) := dk_28 (dk_at dksJ5_indexOfCharUnsafe_0 0 rfl rfl)
theorem dJ5_indexOfCharUnsafe_1 : decode cJ5_indexOfCharUnsafe 1 = .ok (.istore 4, 2) := dk_54 4 (dk_at dksJ5_indexOfCharUnsafe_0 1 rfl rfl)
theorem dJ5_indexOfCharUnsafe_3 : decode cJ5_indexOfCharUnsafe 3 = .ok (.iload 4, 2) := dk_21 4 (dk_at dksJ5_indexOfCharUnsafe_0 3 rfl rfl)
theorem dJ5_indexOfCharUnsafe_5 : decode cJ5_indexOfCharUnsafe 5 = .ok (.iload_n 3, 1) := dk_29 (dk_at dksJ5_indexOfCharUnsafe_0 5 rfl rfl)
theorem dJ5_indexOfCharUnsafe_6 : decode cJ5_indexOfCharUnsafe 6 = .ok (.if_icmp .ge 22, 3) := dk_162 0 22 (dk_at dksJ5_indexOfCharUnsafe_0 6 rfl rfl)
theorem dJ5_indexOfCharUnsafe_9 : decode cJ5_indexOfCharUnsafe 9 = .ok (.aload_n 0, 1) := dk_42 (dk_at dksJ5_indexOfCharUnsafe_0 9 rfl rfl)
theorem dJ5_indexOfCharUnsafe_10 : decode cJ5_indexOfCharUnsafe 10 = .ok (.iload 4, 2) := dk_21 4 (dk_at dksJ5_indexOfCharUnsafe_0 10 rfl rfl)
theorem dJ5_indexOfCharUnsafe_12 : decode cJ5_indexOfCharUnsafe 12 = .ok (.invokestatic 71, 3) := dk_184 0 71 (dk_at dksJ5_indexOfCharUnsafe_0 12 rfl rfl)
theorem dJ5_indexOfCharUnsafe_15 : decode cJ5_indexOfCharUnsafe 15 = .ok (.iload_n 1, 1) := dk_27 (dk_at dksJ5_indexOfCharUnsafe_0 15 rfl rfl)
theorem dJ5_indexOfCharUnsafe_16 : decode cJ5_indexOfCharUnsafe 16 = .ok (.if_icmp .ne 6, 3) := dk_160 0 6 (dk_at dksJ5_indexOfCharUnsafe_0 16 rfl rfl)
theorem dJ5_indexOfCharUnsafe_19 : decode cJ5_indexOfCharUnsafe 19 = .ok (.iload 4, 2) := dk_21 4 (dk_at dksJ5_indexOfCharUnsafe_0 19 rfl rfl)
theorem dJ5_indexOfCharUnsafe_21 : decode cJ5_indexOfCharUnsafe 21 = .ok (.ireturn, 1) := dk_172 (dk_at dksJ5_indexOfCharUnsafe_0 21 rfl rfl)
theorem dJ5_indexOfCharUnsafe_22 : decode cJ5_indexOfCharUnsafe 22 = .ok (.iinc 4 1, 3) := dk_132 4 1 (dk_at dksJ5_indexOfCharUnsafe_1 0 rfl rfl)
theorem dJ5_indexOfCharUnsafe_25 : decode cJ5_indexOfCharUnsafe 25 = .ok (.goto (-22), 3) := dk_167 255 234 (dk_at dksJ5_indexOfCharUnsafe_1 3 rfl rfl)
theorem dJ5_indexOfCharUnsafe_28 : decode cJ5_indexOfCharUnsafe 28 = .ok (.iconst (-1), 1) := dk_2 (dk_at dksJ5_indexOfCharUnsafe_1 6 rfl rfl)
theorem dJ5_indexOfCharUnsafe_29 : decode cJ5_indexOfCharUnsafe 29 = .ok (.ireturn, 1) := dk_172 (dk_at dksJ5_indexOfCharUnsafe_1 7 rfl rfl)
abbrev cJ5_getChar : ByteArray := prog_25_method_5_code
def yJ5_getChar : MethodName := ⟨RJ5, "getChar", "([BI)C"⟩
def dkwJ5_getChar_2 : List UInt8 := [51, 17, 0, 255, 126, 178, 0, 63, 120, 128, 146, 172]
abbrev dktJ5_getChar_2 : List UInt8 := dkwJ5_getChar_2 ++ []
def dkwJ5_getChar_1 : List UInt8 := [183, 0, 56, 191, 27, 4, 120, 60, 42, 27, 132, 1, 1, 51, 17, 0, 255, 126, 178, 0, 59, 120, 42, 27]
abbrev dktJ5_getChar_1 : List UInt8 := dkwJ5_getChar_1 ++ dktJ5_getChar_2
def dkwJ5_getChar_0 : List UInt8 := [178, 0, 44, 154, 0, 25, 27, 155, 0, 11, 27, 42, 184, 0, 48, 161, 0, 13, 187, 0, 52, 89, 18, 54]
abbrev dktJ5_getChar_0 : List UInt8 := dkwJ5_getChar_0 ++ dktJ5_getChar_1
theorem dksJ5_getChar_0 : cJ5_getChar.data.toList.drop 0 = dktJ5_getChar_0 := by decide +kernel
theorem dksJ5_getChar_1 : cJ5_getChar.data.toList.drop 24 = dktJ5_getChar_1 := dk_seg dksJ5_getChar_0 24 rfl rfl
theorem dksJ5_getChar_2 : cJ5_getChar.data.toList.drop 48 = dktJ5_getChar_2 := dk_seg dksJ5_getChar_1 24 rfl rfl
theorem dJ5_getChar_0 : decode cJ5_getChar 0 = .ok (.getstatic 44, 3) := dk_178 0 44 (dk_at dksJ5_getChar_0 0 rfl rfl)
theorem dJ5_getChar_3 : decode cJ5_getChar 3 = .ok (.ifCond .ne 25, 3) := dk_154 0 25 (dk_at dksJ5_getChar_0 3 rfl rfl)
theorem dJ5_getChar_6 : decode cJ5_getChar 6 = .ok (.iload_n 1, 1) := dk_27 (dk_at dksJ5_getChar_0 6 rfl rfl)
theorem dJ5_getChar_7 : decode cJ5_getChar 7 = .ok (.ifCond .lt 11, 3) := dk_155 0 11 (dk_at dksJ5_getChar_0 7 rfl rfl)
theorem dJ5_getChar_10 : decode cJ5_getChar 10 = .ok (.iload_n 1, 1) := dk_27 (dk_at dksJ5_getChar_0 10 rfl rfl)
theorem dJ5_getChar_11 : decode cJ5_getChar 11 = .ok (.aload_n 0, 1) := dk_42 (dk_at dksJ5_getChar_0 11 rfl rfl)
theorem dJ5_getChar_12 : decode cJ5_getChar 12 = .ok (.invokestatic 48, 3) := dk_184 0 48 (dk_at dksJ5_getChar_0 12 rfl rfl)
theorem dJ5_getChar_15 : decode cJ5_getChar 15 = .ok (.if_icmp .lt 13, 3) := dk_161 0 13 (dk_at dksJ5_getChar_0 15 rfl rfl)
theorem dJ5_getChar_18 : decode cJ5_getChar 18 = .ok (.new 52, 3) := dk_187 0 52 (dk_at dksJ5_getChar_0 18 rfl rfl)
theorem dJ5_getChar_21 : decode cJ5_getChar 21 = .ok (.dup, 1) := dk_89 (dk_at dksJ5_getChar_0 21 rfl rfl)
theorem dJ5_getChar_22 : decode cJ5_getChar 22 = .ok (.ldc 54, 2) := dk_18 54 (dk_at dksJ5_getChar_0 22 rfl rfl)
theorem dJ5_getChar_24 : decode cJ5_getChar 24 = .ok (.invokespecial 56, 3) := dk_183 0 56 (dk_at dksJ5_getChar_1 0 rfl rfl)
theorem dJ5_getChar_27 : decode cJ5_getChar 27 = .ok (.athrow, 1) := dk_191 (dk_at dksJ5_getChar_1 3 rfl rfl)
theorem dJ5_getChar_28 : decode cJ5_getChar 28 = .ok (.iload_n 1, 1) := dk_27 (dk_at dksJ5_getChar_1 4 rfl rfl)
theorem dJ5_getChar_29 : decode cJ5_getChar 29 = .ok (.iconst 1, 1) := dk_4 (dk_at dksJ5_getChar_1 5 rfl rfl)
theorem dJ5_getChar_30 : decode cJ5_getChar 30 = .ok (.ishl, 1) := dk_120 (dk_at dksJ5_getChar_1 6 rfl rfl)
theorem dJ5_getChar_31 : decode cJ5_getChar 31 = .ok (.istore_n 1, 1) := dk_60 (dk_at dksJ5_getChar_1 7 rfl rfl)
theorem dJ5_getChar_32 : decode cJ5_getChar 32 = .ok (.aload_n 0, 1) := dk_42 (dk_at dksJ5_getChar_1 8 rfl rfl)
theorem dJ5_getChar_33 : decode cJ5_getChar 33 = .ok (.iload_n 1, 1) := dk_27 (dk_at dksJ5_getChar_1 9 rfl rfl)
theorem dJ5_getChar_34 : decode cJ5_getChar 34 = .ok (.iinc 1 1, 3) := dk_132 1 1 (dk_at dksJ5_getChar_1 10 rfl rfl)
theorem dJ5_getChar_37 : decode cJ5_getChar 37 = .ok (.baload, 1) := dk_51 (dk_at dksJ5_getChar_1 13 rfl rfl)
theorem dJ5_getChar_38 : decode cJ5_getChar 38 = .ok (.sipush 255, 3) := dk_17 0 255 (dk_at dksJ5_getChar_1 14 rfl rfl)
theorem dJ5_getChar_41 : decode cJ5_getChar 41 = .ok (.iand, 1) := dk_126 (dk_at dksJ5_getChar_1 17 rfl rfl)
theorem dJ5_getChar_42 : decode cJ5_getChar 42 = .ok (.getstatic 59, 3) := dk_178 0 59 (dk_at dksJ5_getChar_1 18 rfl rfl)
theorem dJ5_getChar_45 : decode cJ5_getChar 45 = .ok (.ishl, 1) := dk_120 (dk_at dksJ5_getChar_1 21 rfl rfl)
theorem dJ5_getChar_46 : decode cJ5_getChar 46 = .ok (.aload_n 0, 1) := dk_42 (dk_at dksJ5_getChar_1 22 rfl rfl)
theorem dJ5_getChar_47 : decode cJ5_getChar 47 = .ok (.iload_n 1, 1) := dk_27 (dk_at dksJ5_getChar_1 23 rfl rfl)
theorem dJ5_getChar_48 : decode cJ5_getChar 48 = .ok (.baload, 1) := dk_51 (dk_at dksJ5_getChar_2 0 rfl rfl)
theorem dJ5_getChar_49 : decode cJ5_getChar 49 = .ok (.sipush 255, 3) := dk_17 0 255 (dk_at dksJ5_getChar_2 1 rfl rfl)
theorem dJ5_getChar_52 : decode cJ5_getChar 52 = .ok (.iand, 1) := dk_126 (dk_at dksJ5_getChar_2 4 rfl rfl)
theorem dJ5_getChar_53 : decode cJ5_getChar 53 = .ok (.getstatic 63, 3) := dk_178 0 63 (dk_at dksJ5_getChar_2 5 rfl rfl)
theorem dJ5_getChar_56 : decode cJ5_getChar 56 = .ok (.ishl, 1) := dk_120 (dk_at dksJ5_getChar_2 8 rfl rfl)
theorem dJ5_getChar_57 : decode cJ5_getChar 57 = .ok (.ior, 1) := dk_128 (dk_at dksJ5_getChar_2 9 rfl rfl)
theorem dJ5_getChar_58 : decode cJ5_getChar 58 = .ok (.i2c, 1) := dk_146 (dk_at dksJ5_getChar_2 10 rfl rfl)
theorem dJ5_getChar_59 : decode cJ5_getChar 59 = .ok (.ireturn, 1) := dk_172 (dk_at dksJ5_getChar_2 11 rfl rfl)
abbrev cJ5_indexOfSupplementary : ByteArray := prog_25_method_49_code
def yJ5_indexOfSupplementary : MethodName := ⟨RJ5, "indexOfSupplementary", "([BIII)I"⟩
def dkwJ5_indexOfSupplementary_3 : List UInt8 := [167, 255, 218, 2, 172]
abbrev dktJ5_indexOfSupplementary_3 : List UInt8 := dkwJ5_indexOfSupplementary_3 ++ []
def dkwJ5_indexOfSupplementary_2 : List UInt8 := [160, 0, 19, 42, 21, 6, 4, 96, 184, 0, 71, 21, 5, 160, 0, 6, 21, 6, 172, 132, 6, 1]
abbrev dktJ5_indexOfSupplementary_2 : List UInt8 := dkwJ5_indexOfSupplementary_2 ++ dktJ5_indexOfSupplementary_3
def dkwJ5_indexOfSupplementary_1 : List UInt8 := [184, 0, 96, 28, 54, 6, 21, 6, 29, 4, 100, 162, 0, 36, 42, 21, 6, 184, 0, 71, 21, 4]
abbrev dktJ5_indexOfSupplementary_1 : List UInt8 := dkwJ5_indexOfSupplementary_1 ++ dktJ5_indexOfSupplementary_2
def dkwJ5_indexOfSupplementary_0 : List UInt8 := [27, 184, 0, 164, 153, 0, 65, 27, 184, 0, 157, 54, 4, 27, 184, 0, 161, 54, 5, 28, 29, 42]
abbrev dktJ5_indexOfSupplementary_0 : List UInt8 := dkwJ5_indexOfSupplementary_0 ++ dktJ5_indexOfSupplementary_1
theorem dksJ5_indexOfSupplementary_0 : cJ5_indexOfSupplementary.data.toList.drop 0 = dktJ5_indexOfSupplementary_0 := by decide +kernel
theorem dksJ5_indexOfSupplementary_1 : cJ5_indexOfSupplementary.data.toList.drop 22 = dktJ5_indexOfSupplementary_1 := dk_seg dksJ5_indexOfSupplementary_0 22 rfl rfl
theorem dksJ5_indexOfSupplementary_2 : cJ5_indexOfSupplementary.data.toList.drop 44 = dktJ5_indexOfSupplementary_2 := dk_seg dksJ5_indexOfSupplementary_1 22 rfl rfl
theorem dksJ5_indexOfSupplementary_3 : cJ5_indexOfSupplementary.data.toList.drop 66 = dktJ5_indexOfSupplementary_3 := dk_seg dksJ5_indexOfSupplementary_2 22 rfl rfl
theorem dJ5_indexOfSupplementary_0 : decode cJ5_indexOfSupplementary 0 = .ok (.iload_n 1, 1) := dk_27 (dk_at dksJ5_indexOfSupplementary_0 0 rfl rfl)
theorem dJ5_indexOfSupplementary_1 : decode cJ5_indexOfSupplementary 1 = .ok (.invokestatic 164, 3) := dk_184 0 164 (dk_at dksJ5_indexOfSupplementary_0 1 rfl rfl)
theorem dJ5_indexOfSupplementary_4 : decode cJ5_indexOfSupplementary 4 = .ok (.ifCond .eq 65, 3) := dk_153 0 65 (dk_at dksJ5_indexOfSupplementary_0 4 rfl rfl)
theorem dJ5_indexOfSupplementary_7 : decode cJ5_indexOfSupplementary 7 = .ok (.iload_n 1, 1) := dk_27 (dk_at dksJ5_indexOfSupplementary_0 7 rfl rfl)
theorem dJ5_indexOfSupplementary_8 : decode cJ5_indexOfSupplementary 8 = .ok (.invokestatic 157, 3) := dk_184 0 157 (dk_at dksJ5_indexOfSupplementary_0 8 rfl rfl)
theorem dJ5_indexOfSupplementary_11 : decode cJ5_indexOfSupplementary 11 = .ok (.istore 4, 2) := dk_54 4 (dk_at dksJ5_indexOfSupplementary_0 11 rfl rfl)
theorem dJ5_indexOfSupplementary_13 : decode cJ5_indexOfSupplementary 13 = .ok (.iload_n 1, 1) := dk_27 (dk_at dksJ5_indexOfSupplementary_0 13 rfl rfl)
theorem dJ5_indexOfSupplementary_14 : decode cJ5_indexOfSupplementary 14 = .ok (.invokestatic 161, 3) := dk_184 0 161 (dk_at dksJ5_indexOfSupplementary_0 14 rfl rfl)
theorem dJ5_indexOfSupplementary_17 : decode cJ5_indexOfSupplementary 17 = .ok (.istore 5, 2) := dk_54 5 (dk_at dksJ5_indexOfSupplementary_0 17 rfl rfl)
theorem dJ5_indexOfSupplementary_19 : decode cJ5_indexOfSupplementary 19 = .ok (.iload_n 2, 1) := dk_28 (dk_at dksJ5_indexOfSupplementary_0 19 rfl rfl)
theorem dJ5_indexOfSupplementary_20 : decode cJ5_indexOfSupplementary 20 = .ok (.iload_n 3, 1) := dk_29 (dk_at dksJ5_indexOfSupplementary_0 20 rfl rfl)
theorem dJ5_indexOfSupplementary_21 : decode cJ5_indexOfSupplementary 21 = .ok (.aload_n 0, 1) := dk_42 (dk_at dksJ5_indexOfSupplementary_0 21 rfl rfl)
theorem dJ5_indexOfSupplementary_22 : decode cJ5_indexOfSupplementary 22 = .ok (.invokestatic 96, 3) := dk_184 0 96 (dk_at dksJ5_indexOfSupplementary_1 0 rfl rfl)
theorem dJ5_indexOfSupplementary_25 : decode cJ5_indexOfSupplementary 25 = .ok (.iload_n 2, 1) := dk_28 (dk_at dksJ5_indexOfSupplementary_1 3 rfl rfl)
theorem dJ5_indexOfSupplementary_26 : decode cJ5_indexOfSupplementary 26 = .ok (.istore 6, 2) := dk_54 6 (dk_at dksJ5_indexOfSupplementary_1 4 rfl rfl)
theorem dJ5_indexOfSupplementary_28 : decode cJ5_indexOfSupplementary 28 = .ok (.iload 6, 2) := dk_21 6 (dk_at dksJ5_indexOfSupplementary_1 6 rfl rfl)
theorem dJ5_indexOfSupplementary_30 : decode cJ5_indexOfSupplementary 30 = .ok (.iload_n 3, 1) := dk_29 (dk_at dksJ5_indexOfSupplementary_1 8 rfl rfl)
theorem dJ5_indexOfSupplementary_31 : decode cJ5_indexOfSupplementary 31 = .ok (.iconst 1, 1) := dk_4 (dk_at dksJ5_indexOfSupplementary_1 9 rfl rfl)
theorem dJ5_indexOfSupplementary_32 : decode cJ5_indexOfSupplementary 32 = .ok (.isub, 1) := dk_100 (dk_at dksJ5_indexOfSupplementary_1 10 rfl rfl)
theorem dJ5_indexOfSupplementary_33 : decode cJ5_indexOfSupplementary 33 = .ok (.if_icmp .ge 36, 3) := dk_162 0 36 (dk_at dksJ5_indexOfSupplementary_1 11 rfl rfl)
theorem dJ5_indexOfSupplementary_36 : decode cJ5_indexOfSupplementary 36 = .ok (.aload_n 0, 1) := dk_42 (dk_at dksJ5_indexOfSupplementary_1 14 rfl rfl)
theorem dJ5_indexOfSupplementary_37 : decode cJ5_indexOfSupplementary 37 = .ok (.iload 6, 2) := dk_21 6 (dk_at dksJ5_indexOfSupplementary_1 15 rfl rfl)
theorem dJ5_indexOfSupplementary_39 : decode cJ5_indexOfSupplementary 39 = .ok (.invokestatic 71, 3) := dk_184 0 71 (dk_at dksJ5_indexOfSupplementary_1 17 rfl rfl)
theorem dJ5_indexOfSupplementary_42 : decode cJ5_indexOfSupplementary 42 = .ok (.iload 4, 2) := dk_21 4 (dk_at dksJ5_indexOfSupplementary_1 20 rfl rfl)
theorem dJ5_indexOfSupplementary_44 : decode cJ5_indexOfSupplementary 44 = .ok (.if_icmp .ne 19, 3) := dk_160 0 19 (dk_at dksJ5_indexOfSupplementary_2 0 rfl rfl)
theorem dJ5_indexOfSupplementary_47 : decode cJ5_indexOfSupplementary 47 = .ok (.aload_n 0, 1) := dk_42 (dk_at dksJ5_indexOfSupplementary_2 3 rfl rfl)
theorem dJ5_indexOfSupplementary_48 : decode cJ5_indexOfSupplementary 48 = .ok (.iload 6, 2) := dk_21 6 (dk_at dksJ5_indexOfSupplementary_2 4 rfl rfl)
theorem dJ5_indexOfSupplementary_50 : decode cJ5_indexOfSupplementary 50 = .ok (.iconst 1, 1) := dk_4 (dk_at dksJ5_indexOfSupplementary_2 6 rfl rfl)
theorem dJ5_indexOfSupplementary_51 : decode cJ5_indexOfSupplementary 51 = .ok (.iadd, 1) := dk_96 (dk_at dksJ5_indexOfSupplementary_2 7 rfl rfl)
theorem dJ5_indexOfSupplementary_52 : decode cJ5_indexOfSupplementary 52 = .ok (.invokestatic 71, 3) := dk_184 0 71 (dk_at dksJ5_indexOfSupplementary_2 8 rfl rfl)
theorem dJ5_indexOfSupplementary_55 : decode cJ5_indexOfSupplementary 55 = .ok (.iload 5, 2) := dk_21 5 (dk_at dksJ5_indexOfSupplementary_2 11 rfl rfl)
theorem dJ5_indexOfSupplementary_57 : decode cJ5_indexOfSupplementary 57 = .ok (.if_icmp .ne 6, 3) := dk_160 0 6 (dk_at dksJ5_indexOfSupplementary_2 13 rfl rfl)
theorem dJ5_indexOfSupplementary_60 : decode cJ5_indexOfSupplementary 60 = .ok (.iload 6, 2) := dk_21 6 (dk_at dksJ5_indexOfSupplementary_2 16 rfl rfl)
theorem dJ5_indexOfSupplementary_62 : decode cJ5_indexOfSupplementary 62 = .ok (.ireturn, 1) := dk_172 (dk_at dksJ5_indexOfSupplementary_2 18 rfl rfl)
theorem dJ5_indexOfSupplementary_63 : decode cJ5_indexOfSupplementary 63 = .ok (.iinc 6 1, 3) := dk_132 6 1 (dk_at dksJ5_indexOfSupplementary_2 19 rfl rfl)
theorem dJ5_indexOfSupplementary_66 : decode cJ5_indexOfSupplementary 66 = .ok (.goto (-38), 3) := dk_167 255 218 (dk_at dksJ5_indexOfSupplementary_3 0 rfl rfl)
theorem dJ5_indexOfSupplementary_69 : decode cJ5_indexOfSupplementary 69 = .ok (.iconst (-1), 1) := dk_2 (dk_at dksJ5_indexOfSupplementary_3 3 rfl rfl)
theorem dJ5_indexOfSupplementary_70 : decode cJ5_indexOfSupplementary 70 = .ok (.ireturn, 1) := dk_172 (dk_at dksJ5_indexOfSupplementary_3 4 rfl rfl)
abbrev cJ5_charAt : ByteArray := prog_25_method_83_code
def yJ5_charAt : MethodName := ⟨RJ5, "charAt", "([BI)C"⟩
def dkwJ5_charAt_0 : List UInt8 := [27, 42, 184, 0, 67, 42, 27, 184, 0, 71, 172]
abbrev dktJ5_charAt_0 : List UInt8 := dkwJ5_charAt_0 ++ []
theorem dksJ5_charAt_0 : cJ5_charAt.data.toList.drop 0 = dktJ5_charAt_0 := by decide +kernel
theorem dJ5_charAt_0 : decode cJ5_charAt 0 = .ok (.iload_n 1, 1) := dk_27 (dk_at dksJ5_charAt_0 0 rfl rfl)
theorem dJ5_charAt_1 : decode cJ5_charAt 1 = .ok (.aload_n 0, 1) := dk_42 (dk_at dksJ5_charAt_0 1 rfl rfl)
theorem dJ5_charAt_2 : decode cJ5_charAt 2 = .ok (.invokestatic 67, 3) := dk_184 0 67 (dk_at dksJ5_charAt_0 2 rfl rfl)
theorem dJ5_charAt_5 : decode cJ5_charAt 5 = .ok (.aload_n 0, 1) := dk_42 (dk_at dksJ5_charAt_0 5 rfl rfl)
theorem dJ5_charAt_6 : decode cJ5_charAt 6 = .ok (.iload_n 1, 1) := dk_27 (dk_at dksJ5_charAt_0 6 rfl rfl)
theorem dJ5_charAt_7 : decode cJ5_charAt 7 = .ok (.invokestatic 71, 3) := dk_184 0 71 (dk_at dksJ5_charAt_0 7 rfl rfl)
theorem dJ5_charAt_10 : decode cJ5_charAt 10 = .ok (.ireturn, 1) := dk_172 (dk_at dksJ5_charAt_0 10 rfl rfl)
abbrev cJ5_checkIndex : ByteArray := prog_25_method_91_code
def yJ5_checkIndex : MethodName := ⟨RJ5, "checkIndex", "(I[B)V"⟩
def dkwJ5_checkIndex_0 : List UInt8 := [26, 43, 184, 0, 48, 184, 1, 158, 177]
abbrev dktJ5_checkIndex_0 : List UInt8 := dkwJ5_checkIndex_0 ++ []
theorem dksJ5_checkIndex_0 : cJ5_checkIndex.data.toList.drop 0 = dktJ5_checkIndex_0 := by decide +kernel
theorem dJ5_checkIndex_0 : decode cJ5_checkIndex 0 = .ok (.iload_n 0, 1) := dk_26 (dk_at dksJ5_checkIndex_0 0 rfl rfl)
theorem dJ5_checkIndex_1 : decode cJ5_checkIndex 1 = .ok (.aload_n 1, 1) := dk_43 (dk_at dksJ5_checkIndex_0 1 rfl rfl)
theorem dJ5_checkIndex_2 : decode cJ5_checkIndex 2 = .ok (.invokestatic 48, 3) := dk_184 0 48 (dk_at dksJ5_checkIndex_0 2 rfl rfl)
theorem dJ5_checkIndex_5 : decode cJ5_checkIndex 5 = .ok (.invokestatic 414, 3) := dk_184 1 158 (dk_at dksJ5_checkIndex_0 5 rfl rfl)
theorem dJ5_checkIndex_8 : decode cJ5_checkIndex 8 = .ok (.return_, 1) := dk_177 (dk_at dksJ5_checkIndex_0 8 rfl rfl)
theorem q150 : (Jvm.Cond.initialized "java/lang/StringUTF16") ∈ lw_all := lw_g (lw_at lw_m1 9 rfl) rfl
theorem q433 : (Jvm.Cond.static ({ cls := "java/lang/StringUTF16", name := "indexOf", desc := "([BIII)I" } : Jvm.MethodName)) ∈ lw_all := lw_g (lw_at lw_m2 52 rfl) rfl
theorem q434 : (Jvm.Cond.code ({ cls := "java/lang/StringUTF16", name := "indexOf", desc := "([BIII)I" } : Jvm.MethodName) prog_25_method_40_code (4 : Nat) (Option.some Jvm.ClassFile.FieldType.int)) ∈ lw_all := lw_g (lw_at lw_m2 53 rfl) rfl
theorem q435 : (Jvm.Cond.methodLink "java/lang/StringUTF16" (224 : Nat) ({ cls := "java/lang/Math", name := "max", desc := "(II)I" } : Jvm.MethodName)) ∈ lw_all := lw_g (lw_at lw_m2 54 rfl) rfl
theorem q436 : (Jvm.Cond.methodLink "java/lang/StringUTF16" (183 : Nat) ({ cls := "java/lang/Math", name := "min", desc := "(II)I" } : Jvm.MethodName)) ∈ lw_all := lw_g (lw_at lw_m2 55 rfl) rfl
theorem q437 : (Jvm.Cond.constant "java/lang/StringUTF16" (227 : Nat) (65536 : Int32)) ∈ lw_all := lw_g (lw_at lw_m2 56 rfl) rfl
theorem q438 : (Jvm.Cond.methodLink "java/lang/StringUTF16" (228 : Nat) ({ cls := "java/lang/StringUTF16", name := "indexOfChar", desc := "([BIII)I" } : Jvm.MethodName)) ∈ lw_all := lw_g (lw_at lw_m2 57 rfl) rfl
theorem q439 : (Jvm.Cond.static ({ cls := "java/lang/StringUTF16", name := "indexOfChar", desc := "([BIII)I" } : Jvm.MethodName)) ∈ lw_all := lw_g (lw_at lw_m2 58 rfl) rfl
theorem q440 : (Jvm.Cond.code ({ cls := "java/lang/StringUTF16", name := "indexOfChar", desc := "([BIII)I" } : Jvm.MethodName) prog_25_method_47_code (4 : Nat) (Option.some Jvm.ClassFile.FieldType.int)) ∈ lw_all := lw_g (lw_at lw_m2 59 rfl) rfl
theorem q441 : (Jvm.Cond.methodLink "java/lang/StringUTF16" (96 : Nat) ({ cls := "java/lang/StringUTF16", name := "checkBoundsBeginEnd", desc := "(II[B)V" } : Jvm.MethodName)) ∈ lw_all := lw_g (lw_at lw_m2 60 rfl) rfl
theorem q442 : (Jvm.Cond.static ({ cls := "java/lang/StringUTF16", name := "checkBoundsBeginEnd", desc := "(II[B)V" } : Jvm.MethodName)) ∈ lw_all := lw_g (lw_at lw_m2 61 rfl) rfl
theorem q443 : (Jvm.Cond.code ({ cls := "java/lang/StringUTF16", name := "checkBoundsBeginEnd", desc := "(II[B)V" } : Jvm.MethodName) prog_25_method_93_code (3 : Nat) (Option.none : Option Jvm.ClassFile.FieldType)) ∈ lw_all := lw_g (lw_at lw_m2 62 rfl) rfl
theorem q444 : (Jvm.Cond.methodLink "java/lang/StringUTF16" (48 : Nat) ({ cls := "java/lang/StringUTF16", name := "length", desc := "([B)I" } : Jvm.MethodName)) ∈ lw_all := lw_g (lw_at lw_m2 63 rfl) rfl
theorem q445 : (Jvm.Cond.static ({ cls := "java/lang/StringUTF16", name := "length", desc := "([B)I" } : Jvm.MethodName)) ∈ lw_all := lw_g (lw_at lw_m2 64 rfl) rfl
theorem q446 : (Jvm.Cond.code ({ cls := "java/lang/StringUTF16", name := "length", desc := "([B)I" } : Jvm.MethodName) prog_25_method_6_code (1 : Nat) (Option.some Jvm.ClassFile.FieldType.int)) ∈ lw_all := lw_g (lw_at lw_m2 65 rfl) rfl
theorem q447 : (Jvm.Cond.methodLink "java/lang/StringUTF16" (241 : Nat) ({ cls := "java/lang/String", name := "checkBoundsBeginEnd", desc := "(III)V" } : Jvm.MethodName)) ∈ lw_all := lw_g (lw_at lw_m2 66 rfl) rfl
theorem q455 : (Jvm.Cond.methodLink "java/lang/StringUTF16" (244 : Nat) ({ cls := "java/lang/StringUTF16", name := "indexOfCharUnsafe", desc := "([BIII)I" } : Jvm.MethodName)) ∈ lw_all := lw_g (lw_at lw_m2 74 rfl) rfl
theorem q456 : (Jvm.Cond.static ({ cls := "java/lang/StringUTF16", name := "indexOfCharUnsafe", desc := "([BIII)I" } : Jvm.MethodName)) ∈ lw_all := lw_g (lw_at lw_m2 75 rfl) rfl
theorem q457 : (Jvm.Cond.code ({ cls := "java/lang/StringUTF16", name := "indexOfCharUnsafe", desc := "([BIII)I" } : Jvm.MethodName) prog_25_method_48_code (5 : Nat) (Option.some Jvm.ClassFile.FieldType.int)) ∈ lw_all := lw_g (lw_at lw_m2 76 rfl) rfl
theorem q458 : (Jvm.Cond.methodLink "java/lang/StringUTF16" (71 : Nat) ({ cls := "java/lang/StringUTF16", name := "getChar", desc := "([BI)C" } : Jvm.MethodName)) ∈ lw_all := lw_g (lw_at lw_m2 77 rfl) rfl
theorem q459 : (Jvm.Cond.static ({ cls := "java/lang/StringUTF16", name := "getChar", desc := "([BI)C" } : Jvm.MethodName)) ∈ lw_all := lw_g (lw_at lw_m2 78 rfl) rfl
theorem q460 : (Jvm.Cond.code ({ cls := "java/lang/StringUTF16", name := "getChar", desc := "([BI)C" } : Jvm.MethodName) prog_25_method_5_code (2 : Nat) (Option.some Jvm.ClassFile.FieldType.char)) ∈ lw_all := lw_g (lw_at lw_m2 79 rfl) rfl
theorem q461 : (Jvm.Cond.fieldLink "java/lang/StringUTF16" (44 : Nat) "java/lang/StringUTF16" "$assertionsDisabled" "Z") ∈ lw_all := lw_g (lw_at lw_m2 80 rfl) rfl
theorem q462 : (Jvm.Cond.laysStatic "java/lang/StringUTF16" "$assertionsDisabled" "Z") ∈ lw_tbl := lw_at lw_m2 81 rfl
theorem q463 : (Jvm.Cond.fieldLink "java/lang/StringUTF16" (59 : Nat) "java/lang/StringUTF16" "HI_BYTE_SHIFT" "I") ∈ lw_all := lw_g (lw_at lw_m2 82 rfl) rfl
theorem q464 : (Jvm.Cond.laysStatic "java/lang/StringUTF16" "HI_BYTE_SHIFT" "I") ∈ lw_tbl := lw_at lw_m2 83 rfl
theorem q465 : (Jvm.Cond.fieldLink "java/lang/StringUTF16" (63 : Nat) "java/lang/StringUTF16" "LO_BYTE_SHIFT" "I") ∈ lw_all := lw_g (lw_at lw_m2 84 rfl) rfl
theorem q466 : (Jvm.Cond.laysStatic "java/lang/StringUTF16" "LO_BYTE_SHIFT" "I") ∈ lw_tbl := lw_at lw_m2 85 rfl
theorem q467 : (Jvm.Cond.methodLink "java/lang/StringUTF16" (232 : Nat) ({ cls := "java/lang/StringUTF16", name := "indexOfSupplementary", desc := "([BIII)I" } : Jvm.MethodName)) ∈ lw_all := lw_g (lw_at lw_m2 86 rfl) rfl
theorem q468 : (Jvm.Cond.static ({ cls := "java/lang/StringUTF16", name := "indexOfSupplementary", desc := "([BIII)I" } : Jvm.MethodName)) ∈ lw_all := lw_g (lw_at lw_m2 87 rfl) rfl
theorem q469 : (Jvm.Cond.code ({ cls := "java/lang/StringUTF16", name := "indexOfSupplementary", desc := "([BIII)I" } : Jvm.MethodName) prog_25_method_49_code (7 : Nat) (Option.some Jvm.ClassFile.FieldType.int)) ∈ lw_all := lw_g (lw_at lw_m2 88 rfl) rfl
theorem q470 : (Jvm.Cond.methodLink "java/lang/StringUTF16" (164 : Nat) ({ cls := "java/lang/Character", name := "isValidCodePoint", desc := "(I)Z" } : Jvm.MethodName)) ∈ lw_all := lw_g (lw_at lw_m2 89 rfl) rfl
theorem q473 : (Jvm.Cond.methodLink "java/lang/StringUTF16" (157 : Nat) ({ cls := "java/lang/Character", name := "highSurrogate", desc := "(I)C" } : Jvm.MethodName)) ∈ lw_all := lw_g (lw_at lw_m2 92 rfl) rfl
theorem q477 : (Jvm.Cond.methodLink "java/lang/StringUTF16" (161 : Nat) ({ cls := "java/lang/Character", name := "lowSurrogate", desc := "(I)C" } : Jvm.MethodName)) ∈ lw_all := lw_g (lw_at lw_m2 96 rfl) rfl
theorem q850 : (Jvm.Cond.static ({ cls := "java/lang/StringUTF16", name := "charAt", desc := "([BI)C" } : Jvm.MethodName)) ∈ lw_all := lw_g (lw_at lw_m3 229 rfl) rfl
theorem q851 : (Jvm.Cond.code ({ cls := "java/lang/StringUTF16", name := "charAt", desc := "([BI)C" } : Jvm.MethodName) prog_25_method_83_code (2 : Nat) (Option.some Jvm.ClassFile.FieldType.char)) ∈ lw_all := lw_g (lw_at lw_m3 230 rfl) rfl
theorem q852 : (Jvm.Cond.methodLink "java/lang/StringUTF16" (67 : Nat) ({ cls := "java/lang/StringUTF16", name := "checkIndex", desc := "(I[B)V" } : Jvm.MethodName)) ∈ lw_all := lw_g (lw_at lw_m3 231 rfl) rfl
theorem q853 : (Jvm.Cond.static ({ cls := "java/lang/StringUTF16", name := "checkIndex", desc := "(I[B)V" } : Jvm.MethodName)) ∈ lw_all := lw_g (lw_at lw_m3 232 rfl) rfl
theorem q854 : (Jvm.Cond.code ({ cls := "java/lang/StringUTF16", name := "checkIndex", desc := "(I[B)V" } : Jvm.MethodName) prog_25_method_91_code (2 : Nat) (Option.none : Option Jvm.ClassFile.FieldType)) ∈ lw_all := lw_g (lw_at lw_m3 233 rfl) rfl
theorem q855 : (Jvm.Cond.methodLink "java/lang/StringUTF16" (414 : Nat) ({ cls := "java/lang/String", name := "checkIndex", desc := "(II)V" } : Jvm.MethodName)) ∈ lw_all := lw_g (lw_at lw_m3 234 rfl) rfl
/-! jdk/internal/util/Preconditions -/
set_option maxRecDepth 100000
def RJ6 : String := "jdk/internal/util/Preconditions"
abbrev cJ6_checkFromToIndex : ByteArray := prog_30_method_12_code
def yJ6_checkFromToIndex : MethodName := ⟨RJ6, "checkFromToIndex", "(IIILjava/util/function/BiFunction;)I"⟩
def dkwJ6_checkFromToIndex_0 : List UInt8 := [26, 155, 0, 13, 26, 27, 163, 0, 8, 27, 28, 164, 0, 11, 45, 26, 27, 28, 184, 0, 99, 191, 26, 172]
abbrev dktJ6_checkFromToIndex_0 : List UInt8 := dkwJ6_checkFromToIndex_0 ++ []
theorem dksJ6_checkFromToIndex_0 : cJ6_checkFromToIndex.data.toList.drop 0 = dktJ6_checkFromToIndex_0 := by decide +kernel
theorem dJ6_checkFromToIndex_0 : decode cJ6_checkFromToIndex 0 = .ok (.iload_n 0, 1) := dk_26 (dk_at dksJ6_checkFromToIndex_0 0 rfl rfl)
theorem dJ6_checkFromToIndex_1 : decode cJ6_checkFromToIndex 1 = .ok (.ifCond .lt 13, 3) := dk_155 0 13 (dk_at dksJ6_checkFromToIndex_0 1 rfl rfl)
theorem dJ6_checkFromToIndex_4 : decode cJ6_checkFromToIndex 4 = .ok (.iload_n 0, 1) := dk_26 (dk_at dksJ6_checkFromToIndex_0 4 rfl rfl)
theorem dJ6_checkFromToIndex_5 : decode cJ6_checkFromToIndex 5 = .ok (.iload_n 1, 1) := dk_27 (dk_at dksJ6_checkFromToIndex_0 5 rfl rfl)
theorem dJ6_checkFromToIndex_6 : decode cJ6_checkFromToIndex 6 = .ok (.if_icmp .gt 8, 3) := dk_163 0 8 (dk_at dksJ6_checkFromToIndex_0 6 rfl rfl)
theorem dJ6_checkFromToIndex_9 : decode cJ6_checkFromToIndex 9 = .ok (.iload_n 1, 1) := dk_27 (dk_at dksJ6_checkFromToIndex_0 9 rfl rfl)
theorem dJ6_checkFromToIndex_10 : decode cJ6_checkFromToIndex 10 = .ok (.iload_n 2, 1) := dk_28 (dk_at dksJ6_checkFromToIndex_0 10 rfl rfl)
theorem dJ6_checkFromToIndex_11 : decode cJ6_checkFromToIndex 11 = .ok (.if_icmp .le 11, 3) := dk_164 0 11 (dk_at dksJ6_checkFromToIndex_0 11 rfl rfl)
theorem dJ6_checkFromToIndex_14 : decode cJ6_checkFromToIndex 14 = .ok (.aload_n 3, 1) := dk_45 (dk_at dksJ6_checkFromToIndex_0 14 rfl rfl)
theorem dJ6_checkFromToIndex_15 : decode cJ6_checkFromToIndex 15 = .ok (.iload_n 0, 1) := dk_26 (dk_at dksJ6_checkFromToIndex_0 15 rfl rfl)
theorem dJ6_checkFromToIndex_16 : decode cJ6_checkFromToIndex 16 = .ok (.iload_n 1, 1) := dk_27 (dk_at dksJ6_checkFromToIndex_0 16 rfl rfl)
theorem dJ6_checkFromToIndex_17 : decode cJ6_checkFromToIndex 17 = .ok (.iload_n 2, 1) := dk_28 (dk_at dksJ6_checkFromToIndex_0 17 rfl rfl)
theorem dJ6_checkFromToIndex_18 : decode cJ6_checkFromToIndex 18 = .ok (.invokestatic 99, 3) := dk_184 0 99 (dk_at dksJ6_checkFromToIndex_0 18 rfl rfl)
theorem dJ6_checkFromToIndex_21 : decode cJ6_checkFromToIndex 21 = .ok (.athrow, 1) := dk_191 (dk_at dksJ6_checkFromToIndex_0 21 rfl rfl)
theorem dJ6_checkFromToIndex_22 : decode cJ6_checkFromToIndex 22 = .ok (.iload_n 0, 1) := dk_26 (dk_at dksJ6_checkFromToIndex_0 22 rfl rfl)
theorem dJ6_checkFromToIndex_23 : decode cJ6_checkFromToIndex 23 = .ok (.ireturn, 1) := dk_172 (dk_at dksJ6_checkFromToIndex_0 23 rfl rfl)
abbrev cJ6_checkIndex : ByteArray := prog_30_method_11_code
def yJ6_checkIndex : MethodName := ⟨RJ6, "checkIndex", "(IILjava/util/function/BiFunction;)I"⟩
def dkwJ6_checkIndex_0 : List UInt8 := [26, 155, 0, 8, 26, 27, 161, 0, 10, 44, 26, 27, 184, 0, 95, 191, 26, 172]
abbrev dktJ6_checkIndex_0 : List UInt8 := dkwJ6_checkIndex_0 ++ []
theorem dksJ6_checkIndex_0 : cJ6_checkIndex.data.toList.drop 0 = dktJ6_checkIndex_0 := by decide +kernel
theorem dJ6_checkIndex_0 : decode cJ6_checkIndex 0 = .ok (.iload_n 0, 1) := dk_26 (dk_at dksJ6_checkIndex_0 0 rfl rfl)
theorem dJ6_checkIndex_1 : decode cJ6_checkIndex 1 = .ok (.ifCond .lt 8, 3) := dk_155 0 8 (dk_at dksJ6_checkIndex_0 1 rfl rfl)
theorem dJ6_checkIndex_4 : decode cJ6_checkIndex 4 = .ok (.iload_n 0, 1) := dk_26 (dk_at dksJ6_checkIndex_0 4 rfl rfl)
theorem dJ6_checkIndex_5 : decode cJ6_checkIndex 5 = .ok (.iload_n 1, 1) := dk_27 (dk_at dksJ6_checkIndex_0 5 rfl rfl)
theorem dJ6_checkIndex_6 : decode cJ6_checkIndex 6 = .ok (.if_icmp .lt 10, 3) := dk_161 0 10 (dk_at dksJ6_checkIndex_0 6 rfl rfl)
theorem dJ6_checkIndex_9 : decode cJ6_checkIndex 9 = .ok (.aload_n 2, 1) := dk_44 (dk_at dksJ6_checkIndex_0 9 rfl rfl)
theorem dJ6_checkIndex_10 : decode cJ6_checkIndex 10 = .ok (.iload_n 0, 1) := dk_26 (dk_at dksJ6_checkIndex_0 10 rfl rfl)
theorem dJ6_checkIndex_11 : decode cJ6_checkIndex 11 = .ok (.iload_n 1, 1) := dk_27 (dk_at dksJ6_checkIndex_0 11 rfl rfl)
theorem dJ6_checkIndex_12 : decode cJ6_checkIndex 12 = .ok (.invokestatic 95, 3) := dk_184 0 95 (dk_at dksJ6_checkIndex_0 12 rfl rfl)
theorem dJ6_checkIndex_15 : decode cJ6_checkIndex 15 = .ok (.athrow, 1) := dk_191 (dk_at dksJ6_checkIndex_0 15 rfl rfl)
theorem dJ6_checkIndex_16 : decode cJ6_checkIndex 16 = .ok (.iload_n 0, 1) := dk_26 (dk_at dksJ6_checkIndex_0 16 rfl rfl)
theorem dJ6_checkIndex_17 : decode cJ6_checkIndex 17 = .ok (.ireturn, 1) := dk_172 (dk_at dksJ6_checkIndex_0 17 rfl rfl)
theorem q151 : (Jvm.Cond.initialized "jdk/internal/util/Preconditions") ∈ lw_all := lw_g (lw_at lw_m1 10 rfl) rfl
theorem q451 : (Jvm.Cond.laysStatic "jdk/internal/util/Preconditions" "SIOOBE_FORMATTER" "Ljava/util/function/BiFunction;") ∈ lw_tbl := lw_at lw_m2 70 rfl
theorem q453 : (Jvm.Cond.static ({ cls := "jdk/internal/util/Preconditions", name := "checkFromToIndex", desc := "(IIILjava/util/function/BiFunction;)I" } : Jvm.MethodName)) ∈ lw_all := lw_g (lw_at lw_m2 72 rfl) rfl
theorem q454 : (Jvm.Cond.code ({ cls := "jdk/internal/util/Preconditions", name := "checkFromToIndex", desc := "(IIILjava/util/function/BiFunction;)I" } : Jvm.MethodName) prog_30_method_12_code (4 : Nat) (Option.some Jvm.ClassFile.FieldType.int)) ∈ lw_all := lw_g (lw_at lw_m2 73 rfl) rfl
theorem q847 : (Jvm.Cond.static ({ cls := "jdk/internal/util/Preconditions", name := "checkIndex", desc := "(IILjava/util/function/BiFunction;)I" } : Jvm.MethodName)) ∈ lw_all := lw_g (lw_at lw_m3 226 rfl) rfl
theorem q848 : (Jvm.Cond.code ({ cls := "jdk/internal/util/Preconditions", name := "checkIndex", desc := "(IILjava/util/function/BiFunction;)I" } : Jvm.MethodName) prog_30_method_11_code (3 : Nat) (Option.some Jvm.ClassFile.FieldType.int)) ∈ lw_all := lw_g (lw_at lw_m3 227 rfl) rfl
/-! java/lang/Character -/
set_option maxRecDepth 100000
def RJ7 : String := "java/lang/Character"
abbrev cJ7_isValidCodePoint : ByteArray := prog_17_method_11_code
def yJ7_isValidCodePoint : MethodName := ⟨RJ7, "isValidCodePoint", "(I)Z"⟩
def dkwJ7_isValidCodePoint_0 : List UInt8 := [26, 16, 16, 124, 60, 27, 16, 17, 162, 0, 7, 4, 167, 0, 4, 3, 172]
abbrev dktJ7_isValidCodePoint_0 : List UInt8 := dkwJ7_isValidCodePoint_0 ++ []
theorem dksJ7_isValidCodePoint_0 : cJ7_isValidCodePoint.data.toList.drop 0 = dktJ7_isValidCodePoint_0 := by decide +kernel
theorem dJ7_isValidCodePoint_0 : decode cJ7_isValidCodePoint 0 = .ok (.iload_n 0, 1) := dk_26 (dk_at dksJ7_isValidCodePoint_0 0 rfl rfl)
theorem dJ7_isValidCodePoint_1 : decode cJ7_isValidCodePoint 1 = .ok (.bipush 16, 2) := dk_16 16 (dk_at dksJ7_isValidCodePoint_0 1 rfl rfl)
theorem dJ7_isValidCodePoint_3 : decode cJ7_isValidCodePoint 3 = .ok (.iushr, 1) := dk_124 (dk_at dksJ7_isValidCodePoint_0 3 rfl rfl)
theorem dJ7_isValidCodePoint_4 : decode cJ7_isValidCodePoint 4 = .ok (.istore_n 1, 1) := dk_60 (dk_at dksJ7_isValidCodePoint_0 4 rfl rfl)
theorem dJ7_isValidCodePoint_5 : decode cJ7_isValidCodePoint 5 = .ok (.iload_n 1, 1) := dk_27 (dk_at dksJ7_isValidCodePoint_0 5 rfl rfl)
theorem dJ7_isValidCodePoint_6 : decode cJ7_isValidCodePoint 6 = .ok (.bipush 17, 2) := dk_16 17 (dk_at dksJ7_isValidCodePoint_0 6 rfl rfl)
theorem dJ7_isValidCodePoint_8 : decode cJ7_isValidCodePoint 8 = .ok (.if_icmp .ge 7, 3) := dk_162 0 7 (dk_at dksJ7_isValidCodePoint_0 8 rfl rfl)
theorem dJ7_isValidCodePoint_11 : decode cJ7_isValidCodePoint 11 = .ok (.iconst 1, 1) := dk_4 (dk_at dksJ7_isValidCodePoint_0 11 rfl rfl)
theorem dJ7_isValidCodePoint_12 : decode cJ7_isValidCodePoint 12 = .ok (.goto 4, 3) := dk_167 0 4 (dk_at dksJ7_isValidCodePoint_0 12 rfl rfl)
theorem dJ7_isValidCodePoint_15 : decode cJ7_isValidCodePoint 15 = .ok (.iconst 0, 1) := dk_3 (dk_at dksJ7_isValidCodePoint_0 15 rfl rfl)
theorem dJ7_isValidCodePoint_16 : decode cJ7_isValidCodePoint 16 = .ok (.ireturn, 1) := dk_172 (dk_at dksJ7_isValidCodePoint_0 16 rfl rfl)
abbrev cJ7_highSurrogate : ByteArray := prog_17_method_28_code
def yJ7_highSurrogate : MethodName := ⟨RJ7, "highSurrogate", "(I)C"⟩
def dkwJ7_highSurrogate_0 : List UInt8 := [26, 16, 10, 124, 18, 110, 96, 146, 172]
abbrev dktJ7_highSurrogate_0 : List UInt8 := dkwJ7_highSurrogate_0 ++ []
theorem dksJ7_highSurrogate_0 : cJ7_highSurrogate.data.toList.drop 0 = dktJ7_highSurrogate_0 := by decide +kernel
theorem dJ7_highSurrogate_0 : decode cJ7_highSurrogate 0 = .ok (.iload_n 0, 1) := dk_26 (dk_at dksJ7_highSurrogate_0 0 rfl rfl)
theorem dJ7_highSurrogate_1 : decode cJ7_highSurrogate 1 = .ok (.bipush 10, 2) := dk_16 10 (dk_at dksJ7_highSurrogate_0 1 rfl rfl)
theorem dJ7_highSurrogate_3 : decode cJ7_highSurrogate 3 = .ok (.iushr, 1) := dk_124 (dk_at dksJ7_highSurrogate_0 3 rfl rfl)
theorem dJ7_highSurrogate_4 : decode cJ7_highSurrogate 4 = .ok (.ldc 110, 2) := dk_18 110 (dk_at dksJ7_highSurrogate_0 4 rfl rfl)
theorem dJ7_highSurrogate_6 : decode cJ7_highSurrogate 6 = .ok (.iadd, 1) := dk_96 (dk_at dksJ7_highSurrogate_0 6 rfl rfl)
theorem dJ7_highSurrogate_7 : decode cJ7_highSurrogate 7 = .ok (.i2c, 1) := dk_146 (dk_at dksJ7_highSurrogate_0 7 rfl rfl)
theorem dJ7_highSurrogate_8 : decode cJ7_highSurrogate 8 = .ok (.ireturn, 1) := dk_172 (dk_at dksJ7_highSurrogate_0 8 rfl rfl)
abbrev cJ7_lowSurrogate : ByteArray := prog_17_method_29_code
def yJ7_lowSurrogate : MethodName := ⟨RJ7, "lowSurrogate", "(I)C"⟩
def dkwJ7_lowSurrogate_0 : List UInt8 := [26, 17, 3, 255, 126, 18, 76, 96, 146, 172]
abbrev dktJ7_lowSurrogate_0 : List UInt8 := dkwJ7_lowSurrogate_0 ++ []
theorem dksJ7_lowSurrogate_0 : cJ7_lowSurrogate.data.toList.drop 0 = dktJ7_lowSurrogate_0 := by decide +kernel
theorem dJ7_lowSurrogate_0 : decode cJ7_lowSurrogate 0 = .ok (.iload_n 0, 1) := dk_26 (dk_at dksJ7_lowSurrogate_0 0 rfl rfl)
theorem dJ7_lowSurrogate_1 : decode cJ7_lowSurrogate 1 = .ok (.sipush 1023, 3) := dk_17 3 255 (dk_at dksJ7_lowSurrogate_0 1 rfl rfl)
theorem dJ7_lowSurrogate_4 : decode cJ7_lowSurrogate 4 = .ok (.iand, 1) := dk_126 (dk_at dksJ7_lowSurrogate_0 4 rfl rfl)
theorem dJ7_lowSurrogate_5 : decode cJ7_lowSurrogate 5 = .ok (.ldc 76, 2) := dk_18 76 (dk_at dksJ7_lowSurrogate_0 5 rfl rfl)
theorem dJ7_lowSurrogate_7 : decode cJ7_lowSurrogate 7 = .ok (.iadd, 1) := dk_96 (dk_at dksJ7_lowSurrogate_0 7 rfl rfl)
theorem dJ7_lowSurrogate_8 : decode cJ7_lowSurrogate 8 = .ok (.i2c, 1) := dk_146 (dk_at dksJ7_lowSurrogate_0 8 rfl rfl)
theorem dJ7_lowSurrogate_9 : decode cJ7_lowSurrogate 9 = .ok (.ireturn, 1) := dk_172 (dk_at dksJ7_lowSurrogate_0 9 rfl rfl)
theorem q152 : (Jvm.Cond.initialized "java/lang/Character") ∈ lw_all := lw_g (lw_at lw_m1 11 rfl) rfl
theorem q471 : (Jvm.Cond.static ({ cls := "java/lang/Character", name := "isValidCodePoint", desc := "(I)Z" } : Jvm.MethodName)) ∈ lw_all := lw_g (lw_at lw_m2 90 rfl) rfl
theorem q472 : (Jvm.Cond.code ({ cls := "java/lang/Character", name := "isValidCodePoint", desc := "(I)Z" } : Jvm.MethodName) prog_17_method_11_code (2 : Nat) (Option.some Jvm.ClassFile.FieldType.boolean)) ∈ lw_all := lw_g (lw_at lw_m2 91 rfl) rfl
theorem q474 : (Jvm.Cond.static ({ cls := "java/lang/Character", name := "highSurrogate", desc := "(I)C" } : Jvm.MethodName)) ∈ lw_all := lw_g (lw_at lw_m2 93 rfl) rfl
theorem q475 : (Jvm.Cond.code ({ cls := "java/lang/Character", name := "highSurrogate", desc := "(I)C" } : Jvm.MethodName) prog_17_method_28_code (1 : Nat) (Option.some Jvm.ClassFile.FieldType.char)) ∈ lw_all := lw_g (lw_at lw_m2 94 rfl) rfl
theorem q476 : (Jvm.Cond.constant "java/lang/Character" (110 : Nat) (55232 : Int32)) ∈ lw_all := lw_g (lw_at lw_m2 95 rfl) rfl
theorem q478 : (Jvm.Cond.static ({ cls := "java/lang/Character", name := "lowSurrogate", desc := "(I)C" } : Jvm.MethodName)) ∈ lw_all := lw_g (lw_at lw_m2 97 rfl) rfl
theorem q479 : (Jvm.Cond.code ({ cls := "java/lang/Character", name := "lowSurrogate", desc := "(I)C" } : Jvm.MethodName) prog_17_method_29_code (1 : Nat) (Option.some Jvm.ClassFile.FieldType.char)) ∈ lw_all := lw_g (lw_at lw_m2 98 rfl) rfl
theorem q480 : (Jvm.Cond.constant "java/lang/Character" (76 : Nat) (56320 : Int32)) ∈ lw_all := lw_g (lw_at lw_m2 99 rfl) rfl
/-! java/lang/RuntimeException -/
set_option maxRecDepth 100000
def RJ8 : String := "java/lang/RuntimeException"
abbrev cJ8_init : ByteArray := prog_22_method_1_code
def yJ8_init : MethodName := ⟨RJ8, "<init>", "()V"⟩
theorem dJ8_init_0 : decode cJ8_init 0 = .ok (.aload_n 0, 1) := by decide +kernel
theorem dJ8_init_1 : decode cJ8_init 1 = .ok (.invokespecial 1, 3) := by decide +kernel
theorem dJ8_init_4 : decode cJ8_init 4 = .ok (.return_, 1) := by decide +kernel
theorem q163 : (Jvm.Cond.initialized "java/lang/RuntimeException") ∈ lw_all := lw_g (lw_at lw_m1 22 rfl) rfl
theorem q1207 : (Jvm.Cond.declares ({ cls := "java/lang/RuntimeException", name := "<init>", desc := "()V" } : Jvm.MethodName)) ∈ lw_tbl := lw_at lw_m5 106 rfl
theorem q1208 : (Jvm.Cond.declares ({ cls := "java/lang/RuntimeException", name := "<init>", desc := "(Ljava/lang/String;)V" } : Jvm.MethodName)) ∈ lw_tbl := lw_at lw_m5 107 rfl
theorem q1219 : (Jvm.Cond.instanceMethod ({ cls := "java/lang/RuntimeException", name := "<init>", desc := "()V" } : Jvm.MethodName)) ∈ lw_all := lw_g (lw_at lw_m5 118 rfl) rfl
theorem q1220 : (Jvm.Cond.code ({ cls := "java/lang/RuntimeException", name := "<init>", desc := "()V" } : Jvm.MethodName) prog_22_method_1_code (1 : Nat) (Option.none : Option Jvm.ClassFile.FieldType)) ∈ lw_all := lw_g (lw_at lw_m5 119 rfl) rfl
theorem q1221 : (Jvm.Cond.methodLink "java/lang/RuntimeException" (1 : Nat) ({ cls := "java/lang/Exception", name := "<init>", desc := "()V" } : Jvm.MethodName)) ∈ lw_all := lw_g (lw_at lw_m5 120 rfl) rfl
/-! java/util/NoSuchElementException -/
set_option maxRecDepth 100000
def RJ9 : String := "java/util/NoSuchElementException"
def TJ9 : u_T := fun k => match k with
  | 0 => ("java/lang/Throwable", "cause", "Ljava/lang/Throwable;", false)
  | 1 => ("java/lang/Throwable", "stackTrace", "[Ljava/lang/StackTraceElement;", false)
  | 2 => ("java/lang/Throwable", "suppressedExceptions", "Ljava/util/List;", false)
  | 3 => ("java/lang/Throwable", "detailMessage", "Ljava/lang/String;", false)
  | 4 => ("java/lang/Throwable", "backtrace", "Ljava/lang/Object;", false)
  | _ => ("java/lang/Throwable", "depth", "I", false)
def tyJ9 : Nat → FieldType := fun k => match k with
  | 0 => .object "java/lang/Throwable"
  | 1 => .array (.object "java/lang/StackTraceElement")
  | 2 => .object "java/util/List"
  | 3 => .object "java/lang/String"
  | 4 => .object "java/lang/Object"
  | _ => .int
abbrev wsJ90 : List Cond := u_ws RJ9 TJ9 6
theorem nmJ9 : ∀ a, a < 6 → ∀ b, b < 6 → a ≠ b → (TJ9 a).2.1 ≠ (TJ9 b).2.1 := by decide +kernel
theorem tyJ9_ok : ∀ k, k < 6 → parseFieldDescriptor (TJ9 k).2.2.1 = some (tyJ9 k) := by decide +kernel
abbrev cJ9_init : ByteArray := prog_29_method_1_code
def yJ9_init : MethodName := ⟨RJ9, "<init>", "()V"⟩
theorem dJ9_init_0 : decode cJ9_init 0 = .ok (.aload_n 0, 1) := by decide +kernel
theorem dJ9_init_1 : decode cJ9_init 1 = .ok (.invokespecial 1, 3) := by decide +kernel
theorem dJ9_init_4 : decode cJ9_init 4 = .ok (.return_, 1) := by decide +kernel
theorem q164 : (Jvm.Cond.initialized "java/util/NoSuchElementException") ∈ lw_all := lw_g (lw_at lw_m1 23 rfl) rfl
theorem q205 : (Jvm.Cond.selects "java/util/NoSuchElementException" ({ cls := "java/lang/Throwable", name := "fillInStackTrace", desc := "()Ljava/lang/Throwable;" } : Jvm.MethodName) ({ cls := "java/lang/Throwable", name := "fillInStackTrace", desc := "()Ljava/lang/Throwable;" } : Jvm.MethodName)) ∈ lw_all := lw_g (lw_at lw_m1 64 rfl) rfl
theorem q1205 : (Jvm.Cond.instantiable "java/util/NoSuchElementException" (6 : Nat)) ∈ lw_all := lw_g (lw_at lw_m5 104 rfl) rfl
theorem q1206 : (Jvm.Cond.castable "java/util/NoSuchElementException" "java/util/NoSuchElementException") ∈ lw_tbl := lw_at lw_m5 105 rfl
theorem q1209 : (Jvm.Cond.selects "java/util/NoSuchElementException" ({ cls := "java/lang/Throwable", name := "fillInStackTrace", desc := "(I)Ljava/lang/Throwable;" } : Jvm.MethodName) ({ cls := "java/lang/Throwable", name := "fillInStackTrace", desc := "(I)Ljava/lang/Throwable;" } : Jvm.MethodName)) ∈ lw_all := lw_g (lw_at lw_m5 108 rfl) rfl
theorem q1210 : (Jvm.Cond.lays "java/util/NoSuchElementException" "java/lang/Throwable" "cause" "Ljava/lang/Throwable;") ∈ lw_all := lw_g (lw_at lw_m5 109 rfl) rfl
theorem q1211 : (Jvm.Cond.lays "java/util/NoSuchElementException" "java/lang/Throwable" "stackTrace" "[Ljava/lang/StackTraceElement;") ∈ lw_all := lw_g (lw_at lw_m5 110 rfl) rfl
theorem q1212 : (Jvm.Cond.lays "java/util/NoSuchElementException" "java/lang/Throwable" "suppressedExceptions" "Ljava/util/List;") ∈ lw_all := lw_g (lw_at lw_m5 111 rfl) rfl
theorem q1213 : (Jvm.Cond.lays "java/util/NoSuchElementException" "java/lang/Throwable" "detailMessage" "Ljava/lang/String;") ∈ lw_all := lw_g (lw_at lw_m5 112 rfl) rfl
theorem q1214 : (Jvm.Cond.lays "java/util/NoSuchElementException" "java/lang/Throwable" "backtrace" "Ljava/lang/Object;") ∈ lw_all := lw_g (lw_at lw_m5 113 rfl) rfl
theorem q1216 : (Jvm.Cond.instanceMethod ({ cls := "java/util/NoSuchElementException", name := "<init>", desc := "()V" } : Jvm.MethodName)) ∈ lw_all := lw_g (lw_at lw_m5 115 rfl) rfl
theorem q1217 : (Jvm.Cond.code ({ cls := "java/util/NoSuchElementException", name := "<init>", desc := "()V" } : Jvm.MethodName) prog_29_method_1_code (1 : Nat) (Option.none : Option Jvm.ClassFile.FieldType)) ∈ lw_all := lw_g (lw_at lw_m5 116 rfl) rfl
theorem q1218 : (Jvm.Cond.methodLink "java/util/NoSuchElementException" (1 : Nat) ({ cls := "java/lang/RuntimeException", name := "<init>", desc := "()V" } : Jvm.MethodName)) ∈ lw_all := lw_g (lw_at lw_m5 117 rfl) rfl
theorem q1222 : (Jvm.Cond.lays "java/util/NoSuchElementException" "java/lang/Throwable" "depth" "I") ∈ lw_all := lw_g (lw_at lw_m5 121 rfl) rfl
theorem q1223 : (Jvm.Cond.superclass "java/util/NoSuchElementException" "java/lang/RuntimeException") ∈ lw_all := lw_g (lw_at lw_m5 122 rfl) rfl
theorem q1927 : (Jvm.Cond.castable "java/util/NoSuchElementException" "java/lang/Object") ∈ lw_tbl := lw_at lw_m8 106 rfl
theorem in_J9 : ∀ w ∈ wsJ90, w ∈ lw_all := lw_in wsJ90 [1210, 1211, 1212, 1213, 1214, 1222] (by decide +kernel) (by decide +kernel)
/-! java/lang/Integer -/
set_option maxRecDepth 100000
def RJ10 : String := "java/lang/Integer"
abbrev cJ10_numberOfTrailingZeros : ByteArray := prog_20_method_48_code
def yJ10_numberOfTrailingZeros : MethodName := ⟨RJ10, "numberOfTrailingZeros", "(I)I"⟩
def dkwJ10_numberOfTrailingZeros_3 : List UInt8 := [5, 124, 59, 27, 26, 4, 124, 96, 172]
abbrev dktJ10_numberOfTrailingZeros_3 : List UInt8 := dkwJ10_numberOfTrailingZeros_3 ++ []
def dkwJ10_numberOfTrailingZeros_2 : List UInt8 := [124, 59, 26, 16, 16, 164, 0, 10, 132, 1, 4, 26, 7, 124, 59, 26, 7, 164, 0, 10, 132, 1, 2, 26]
abbrev dktJ10_numberOfTrailingZeros_2 : List UInt8 := dkwJ10_numberOfTrailingZeros_2 ++ dktJ10_numberOfTrailingZeros_3
def dkwJ10_numberOfTrailingZeros_1 : List UInt8 := [164, 0, 11, 132, 1, 16, 26, 16, 16, 124, 59, 26, 17, 1, 0, 164, 0, 11, 132, 1, 8, 26, 16, 8]
abbrev dktJ10_numberOfTrailingZeros_1 : List UInt8 := dkwJ10_numberOfTrailingZeros_1 ++ dktJ10_numberOfTrailingZeros_2
def dkwJ10_numberOfTrailingZeros_0 : List UInt8 := [26, 2, 130, 26, 4, 100, 126, 59, 26, 157, 0, 8, 26, 16, 32, 126, 172, 4, 60, 26, 19, 1, 8]
abbrev dktJ10_numberOfTrailingZeros_0 : List UInt8 := dkwJ10_numberOfTrailingZeros_0 ++ dktJ10_numberOfTrailingZeros_1
theorem dksJ10_numberOfTrailingZeros_0 : cJ10_numberOfTrailingZeros.data.toList.drop 0 = dktJ10_numberOfTrailingZeros_0 := by decide +kernel
theorem dksJ10_numberOfTrailingZeros_1 : cJ10_numberOfTrailingZeros.data.toList.drop 23 = dktJ10_numberOfTrailingZeros_1 := dk_seg dksJ10_numberOfTrailingZeros_0 23 rfl rfl
theorem dksJ10_numberOfTrailingZeros_2 : cJ10_numberOfTrailingZeros.data.toList.drop 47 = dktJ10_numberOfTrailingZeros_2 := dk_seg dksJ10_numberOfTrailingZeros_1 24 rfl rfl
theorem dksJ10_numberOfTrailingZeros_3 : cJ10_numberOfTrailingZeros.data.toList.drop 71 = dktJ10_numberOfTrailingZeros_3 := dk_seg dksJ10_numberOfTrailingZeros_2 24 rfl rfl
theorem dJ10_numberOfTrailingZeros_0 : decode cJ10_numberOfTrailingZeros 0 = .ok (.iload_n 0, 1) := dk_26 (dk_at dksJ10_numberOfTrailingZeros_0 0 rfl rfl)
theorem dJ10_numberOfTrailingZeros_1 : decode cJ10_numberOfTrailingZeros 1 = .ok (.iconst (-1), 1) := dk_2 (dk_at dksJ10_numberOfTrailingZeros_0 1 rfl rfl)
theorem dJ10_numberOfTrailingZeros_2 : decode cJ10_numberOfTrailingZeros 2 = .ok (.ixor, 1) := dk_130 (dk_at dksJ10_numberOfTrailingZeros_0 2 rfl rfl)
theorem dJ10_numberOfTrailingZeros_3 : decode cJ10_numberOfTrailingZeros 3 = .ok (.iload_n 0, 1) := dk_26 (dk_at dksJ10_numberOfTrailingZeros_0 3 rfl rfl)
theorem dJ10_numberOfTrailingZeros_4 : decode cJ10_numberOfTrailingZeros 4 = .ok (.iconst 1, 1) := dk_4 (dk_at dksJ10_numberOfTrailingZeros_0 4 rfl rfl)
theorem dJ10_numberOfTrailingZeros_5 : decode cJ10_numberOfTrailingZeros 5 = .ok (.isub, 1) := dk_100 (dk_at dksJ10_numberOfTrailingZeros_0 5 rfl rfl)
theorem dJ10_numberOfTrailingZeros_6 : decode cJ10_numberOfTrailingZeros 6 = .ok (.iand, 1) := dk_126 (dk_at dksJ10_numberOfTrailingZeros_0 6 rfl rfl)
theorem dJ10_numberOfTrailingZeros_7 : decode cJ10_numberOfTrailingZeros 7 = .ok (.istore_n 0, 1) := dk_59 (dk_at dksJ10_numberOfTrailingZeros_0 7 rfl rfl)
theorem dJ10_numberOfTrailingZeros_8 : decode cJ10_numberOfTrailingZeros 8 = .ok (.iload_n 0, 1) := dk_26 (dk_at dksJ10_numberOfTrailingZeros_0 8 rfl rfl)
theorem dJ10_numberOfTrailingZeros_9 : decode cJ10_numberOfTrailingZeros 9 = .ok (.ifCond .gt 8, 3) := dk_157 0 8 (dk_at dksJ10_numberOfTrailingZeros_0 9 rfl rfl)
theorem dJ10_numberOfTrailingZeros_12 : decode cJ10_numberOfTrailingZeros 12 = .ok (.iload_n 0, 1) := dk_26 (dk_at dksJ10_numberOfTrailingZeros_0 12 rfl rfl)
theorem dJ10_numberOfTrailingZeros_13 : decode cJ10_numberOfTrailingZeros 13 = .ok (.bipush 32, 2) := dk_16 32 (dk_at dksJ10_numberOfTrailingZeros_0 13 rfl rfl)
theorem dJ10_numberOfTrailingZeros_15 : decode cJ10_numberOfTrailingZeros 15 = .ok (.iand, 1) := dk_126 (dk_at dksJ10_numberOfTrailingZeros_0 15 rfl rfl)
theorem dJ10_numberOfTrailingZeros_16 : decode cJ10_numberOfTrailingZeros 16 = .ok (.ireturn, 1) := dk_172 (dk_at dksJ10_numberOfTrailingZeros_0 16 rfl rfl)
theorem dJ10_numberOfTrailingZeros_17 : decode cJ10_numberOfTrailingZeros 17 = .ok (.iconst 1, 1) := dk_4 (dk_at dksJ10_numberOfTrailingZeros_0 17 rfl rfl)
theorem dJ10_numberOfTrailingZeros_18 : decode cJ10_numberOfTrailingZeros 18 = .ok (.istore_n 1, 1) := dk_60 (dk_at dksJ10_numberOfTrailingZeros_0 18 rfl rfl)
theorem dJ10_numberOfTrailingZeros_19 : decode cJ10_numberOfTrailingZeros 19 = .ok (.iload_n 0, 1) := dk_26 (dk_at dksJ10_numberOfTrailingZeros_0 19 rfl rfl)
theorem dJ10_numberOfTrailingZeros_20 : decode cJ10_numberOfTrailingZeros 20 = .ok (.ldc_w 264, 3) := dk_19 1 8 (dk_at dksJ10_numberOfTrailingZeros_0 20 rfl rfl)
theorem dJ10_numberOfTrailingZeros_23 : decode cJ10_numberOfTrailingZeros 23 = .ok (.if_icmp .le 11, 3) := dk_164 0 11 (dk_at dksJ10_numberOfTrailingZeros_1 0 rfl rfl)
theorem dJ10_numberOfTrailingZeros_26 : decode cJ10_numberOfTrailingZeros 26 = .ok (.iinc 1 16, 3) := dk_132 1 16 (dk_at dksJ10_numberOfTrailingZeros_1 3 rfl rfl)
theorem dJ10_numberOfTrailingZeros_29 : decode cJ10_numberOfTrailingZeros 29 = .ok (.iload_n 0, 1) := dk_26 (dk_at dksJ10_numberOfTrailingZeros_1 6 rfl rfl)
theorem dJ10_numberOfTrailingZeros_30 : decode cJ10_numberOfTrailingZeros 30 = .ok (.bipush 16, 2) := dk_16 16 (dk_at dksJ10_numberOfTrailingZeros_1 7 rfl rfl)
theorem dJ10_numberOfTrailingZeros_32 : decode cJ10_numberOfTrailingZeros 32 = .ok (.iushr, 1) := dk_124 (dk_at dksJ10_numberOfTrailingZeros_1 9 rfl rfl)
theorem dJ10_numberOfTrailingZeros_33 : decode cJ10_numberOfTrailingZeros 33 = .ok (.istore_n 0, 1) := dk_59 (dk_at dksJ10_numberOfTrailingZeros_1 10 rfl rfl)
theorem dJ10_numberOfTrailingZeros_34 : decode cJ10_numberOfTrailingZeros 34 = .ok (.iload_n 0, 1) := dk_26 (dk_at dksJ10_numberOfTrailingZeros_1 11 rfl rfl)
theorem dJ10_numberOfTrailingZeros_35 : decode cJ10_numberOfTrailingZeros 35 = .ok (.sipush 256, 3) := dk_17 1 0 (dk_at dksJ10_numberOfTrailingZeros_1 12 rfl rfl)
theorem dJ10_numberOfTrailingZeros_38 : decode cJ10_numberOfTrailingZeros 38 = .ok (.if_icmp .le 11, 3) := dk_164 0 11 (dk_at dksJ10_numberOfTrailingZeros_1 15 rfl rfl)
theorem dJ10_numberOfTrailingZeros_41 : decode cJ10_numberOfTrailingZeros 41 = .ok (.iinc 1 8, 3) := dk_132 1 8 (dk_at dksJ10_numberOfTrailingZeros_1 18 rfl rfl)
theorem dJ10_numberOfTrailingZeros_44 : decode cJ10_numberOfTrailingZeros 44 = .ok (.iload_n 0, 1) := dk_26 (dk_at dksJ10_numberOfTrailingZeros_1 21 rfl rfl)
theorem dJ10_numberOfTrailingZeros_45 : decode cJ10_numberOfTrailingZeros 45 = .ok (.bipush 8, 2) := dk_16 8 (dk_at dksJ10_numberOfTrailingZeros_1 22 rfl rfl)
theorem dJ10_numberOfTrailingZeros_47 : decode cJ10_numberOfTrailingZeros 47 = .ok (.iushr, 1) := dk_124 (dk_at dksJ10_numberOfTrailingZeros_2 0 rfl rfl)
theorem dJ10_numberOfTrailingZeros_48 : decode cJ10_numberOfTrailingZeros 48 = .ok (.istore_n 0, 1) := dk_59 (dk_at dksJ10_numberOfTrailingZeros_2 1 rfl rfl)
theorem dJ10_numberOfTrailingZeros_49 : decode cJ10_numberOfTrailingZeros 49 = .ok (.iload_n 0, 1) := dk_26 (dk_at dksJ10_numberOfTrailingZeros_2 2 rfl rfl)
theorem dJ10_numberOfTrailingZeros_50 : decode cJ10_numberOfTrailingZeros 50 = .ok (.bipush 16, 2) := dk_16 16 (dk_at dksJ10_numberOfTrailingZeros_2 3 rfl rfl)
theorem dJ10_numberOfTrailingZeros_52 : decode cJ10_numberOfTrailingZeros 52 = .ok (.if_icmp .le 10, 3) := dk_164 0 10 (dk_at dksJ10_numberOfTrailingZeros_2 5 rfl rfl)
theorem dJ10_numberOfTrailingZeros_55 : decode cJ10_numberOfTrailingZeros 55 = .ok (.iinc 1 4, 3) := dk_132 1 4 (dk_at dksJ10_numberOfTrailingZeros_2 8 rfl rfl)
theorem dJ10_numberOfTrailingZeros_58 : decode cJ10_numberOfTrailingZeros 58 = .ok (.iload_n 0, 1) := dk_26 (dk_at dksJ10_numberOfTrailingZeros_2 11 rfl rfl)
theorem dJ10_numberOfTrailingZeros_59 : decode cJ10_numberOfTrailingZeros 59 = .ok (.iconst 4, 1) := dk_7 (dk_at dksJ10_numberOfTrailingZeros_2 12 rfl rfl)
theorem dJ10_numberOfTrailingZeros_60 : decode cJ10_numberOfTrailingZeros 60 = .ok (.iushr, 1) := dk_124 (dk_at dksJ10_numberOfTrailingZeros_2 13 rfl rfl)
theorem dJ10_numberOfTrailingZeros_61 : decode cJ10_numberOfTrailingZeros 61 = .ok (.istore_n 0, 1) := dk_59 (dk_at dksJ10_numberOfTrailingZeros_2 14 rfl rfl)
theorem dJ10_numberOfTrailingZeros_62 : decode cJ10_numberOfTrailingZeros 62 = .ok (.iload_n 0, 1) := dk_26 (dk_at dksJ10_numberOfTrailingZeros_2 15 rfl rfl)
theorem dJ10_numberOfTrailingZeros_63 : decode cJ10_numberOfTrailingZeros 63 = .ok (.iconst 4, 1) := dk_7 (dk_at dksJ10_numberOfTrailingZeros_2 16 rfl rfl)
theorem dJ10_numberOfTrailingZeros_64 : decode cJ10_numberOfTrailingZeros 64 = .ok (.if_icmp .le 10, 3) := dk_164 0 10 (dk_at dksJ10_numberOfTrailingZeros_2 17 rfl rfl)
theorem dJ10_numberOfTrailingZeros_67 : decode cJ10_numberOfTrailingZeros 67 = .ok (.iinc 1 2, 3) := dk_132 1 2 (dk_at dksJ10_numberOfTrailingZeros_2 20 rfl rfl)
theorem dJ10_numberOfTrailingZeros_70 : decode cJ10_numberOfTrailingZeros 70 = .ok (.iload_n 0, 1) := dk_26 (dk_at dksJ10_numberOfTrailingZeros_2 23 rfl rfl)
theorem dJ10_numberOfTrailingZeros_71 : decode cJ10_numberOfTrailingZeros 71 = .ok (.iconst 2, 1) := dk_5 (dk_at dksJ10_numberOfTrailingZeros_3 0 rfl rfl)
theorem dJ10_numberOfTrailingZeros_72 : decode cJ10_numberOfTrailingZeros 72 = .ok (.iushr, 1) := dk_124 (dk_at dksJ10_numberOfTrailingZeros_3 1 rfl rfl)
theorem dJ10_numberOfTrailingZeros_73 : decode cJ10_numberOfTrailingZeros 73 = .ok (.istore_n 0, 1) := dk_59 (dk_at dksJ10_numberOfTrailingZeros_3 2 rfl rfl)
theorem dJ10_numberOfTrailingZeros_74 : decode cJ10_numberOfTrailingZeros 74 = .ok (.iload_n 1, 1) := dk_27 (dk_at dksJ10_numberOfTrailingZeros_3 3 rfl rfl)
theorem dJ10_numberOfTrailingZeros_75 : decode cJ10_numberOfTrailingZeros 75 = .ok (.iload_n 0, 1) := dk_26 (dk_at dksJ10_numberOfTrailingZeros_3 4 rfl rfl)
theorem dJ10_numberOfTrailingZeros_76 : decode cJ10_numberOfTrailingZeros 76 = .ok (.iconst 1, 1) := dk_4 (dk_at dksJ10_numberOfTrailingZeros_3 5 rfl rfl)
theorem dJ10_numberOfTrailingZeros_77 : decode cJ10_numberOfTrailingZeros 77 = .ok (.iushr, 1) := dk_124 (dk_at dksJ10_numberOfTrailingZeros_3 6 rfl rfl)
theorem dJ10_numberOfTrailingZeros_78 : decode cJ10_numberOfTrailingZeros 78 = .ok (.iadd, 1) := dk_96 (dk_at dksJ10_numberOfTrailingZeros_3 7 rfl rfl)
theorem dJ10_numberOfTrailingZeros_79 : decode cJ10_numberOfTrailingZeros 79 = .ok (.ireturn, 1) := dk_172 (dk_at dksJ10_numberOfTrailingZeros_3 8 rfl rfl)
abbrev cJ10_numberOfLeadingZeros : ByteArray := prog_20_method_47_code
def yJ10_numberOfLeadingZeros : MethodName := ⟨RJ10, "numberOfLeadingZeros", "(I)I"⟩
def dkwJ10_numberOfLeadingZeros_3 : List UInt8 := [5, 124, 59, 27, 26, 4, 124, 100, 172]
abbrev dktJ10_numberOfLeadingZeros_3 : List UInt8 := dkwJ10_numberOfLeadingZeros_3 ++ []
def dkwJ10_numberOfLeadingZeros_2 : List UInt8 := [124, 59, 26, 16, 16, 161, 0, 10, 132, 1, 252, 26, 7, 124, 59, 26, 7, 161, 0, 10, 132, 1, 254, 26]
abbrev dktJ10_numberOfLeadingZeros_2 : List UInt8 := dkwJ10_numberOfLeadingZeros_2 ++ dktJ10_numberOfLeadingZeros_3
def dkwJ10_numberOfLeadingZeros_1 : List UInt8 := [161, 0, 11, 132, 1, 240, 26, 16, 16, 124, 59, 26, 17, 1, 0, 161, 0, 11, 132, 1, 248, 26, 16, 8]
abbrev dktJ10_numberOfLeadingZeros_1 : List UInt8 := dkwJ10_numberOfLeadingZeros_1 ++ dktJ10_numberOfLeadingZeros_2
def dkwJ10_numberOfLeadingZeros_0 : List UInt8 := [26, 157, 0, 14, 26, 154, 0, 8, 16, 32, 167, 0, 4, 3, 172, 16, 31, 60, 26, 19, 1, 8]
abbrev dktJ10_numberOfLeadingZeros_0 : List UInt8 := dkwJ10_numberOfLeadingZeros_0 ++ dktJ10_numberOfLeadingZeros_1
theorem dksJ10_numberOfLeadingZeros_0 : cJ10_numberOfLeadingZeros.data.toList.drop 0 = dktJ10_numberOfLeadingZeros_0 := by decide +kernel
theorem dksJ10_numberOfLeadingZeros_1 : cJ10_numberOfLeadingZeros.data.toList.drop 22 = dktJ10_numberOfLeadingZeros_1 := dk_seg dksJ10_numberOfLeadingZeros_0 22 rfl rfl
theorem dksJ10_numberOfLeadingZeros_2 : cJ10_numberOfLeadingZeros.data.toList.drop 46 = dktJ10_numberOfLeadingZeros_2 := dk_seg dksJ10_numberOfLeadingZeros_1 24 rfl rfl
theorem dksJ10_numberOfLeadingZeros_3 : cJ10_numberOfLeadingZeros.data.toList.drop 70 = dktJ10_numberOfLeadingZeros_3 := dk_seg dksJ10_numberOfLeadingZeros_2 24 rfl rfl
theorem dJ10_numberOfLeadingZeros_0 : decode cJ10_numberOfLeadingZeros 0 = .ok (.iload_n 0, 1) := dk_26 (dk_at dksJ10_numberOfLeadingZeros_0 0 rfl rfl)
theorem dJ10_numberOfLeadingZeros_1 : decode cJ10_numberOfLeadingZeros 1 = .ok (.ifCond .gt 14, 3) := dk_157 0 14 (dk_at dksJ10_numberOfLeadingZeros_0 1 rfl rfl)
theorem dJ10_numberOfLeadingZeros_4 : decode cJ10_numberOfLeadingZeros 4 = .ok (.iload_n 0, 1) := dk_26 (dk_at dksJ10_numberOfLeadingZeros_0 4 rfl rfl)
theorem dJ10_numberOfLeadingZeros_5 : decode cJ10_numberOfLeadingZeros 5 = .ok (.ifCond .ne 8, 3) := dk_154 0 8 (dk_at dksJ10_numberOfLeadingZeros_0 5 rfl rfl)
theorem dJ10_numberOfLeadingZeros_8 : decode cJ10_numberOfLeadingZeros 8 = .ok (.bipush 32, 2) := dk_16 32 (dk_at dksJ10_numberOfLeadingZeros_0 8 rfl rfl)
theorem dJ10_numberOfLeadingZeros_10 : decode cJ10_numberOfLeadingZeros 10 = .ok (.goto 4, 3) := dk_167 0 4 (dk_at dksJ10_numberOfLeadingZeros_0 10 rfl rfl)
theorem dJ10_numberOfLeadingZeros_13 : decode cJ10_numberOfLeadingZeros 13 = .ok (.iconst 0, 1) := dk_3 (dk_at dksJ10_numberOfLeadingZeros_0 13 rfl rfl)
theorem dJ10_numberOfLeadingZeros_14 : decode cJ10_numberOfLeadingZeros 14 = .ok (.ireturn, 1) := dk_172 (dk_at dksJ10_numberOfLeadingZeros_0 14 rfl rfl)
theorem dJ10_numberOfLeadingZeros_15 : decode cJ10_numberOfLeadingZeros 15 = .ok (.bipush 31, 2) := dk_16 31 (dk_at dksJ10_numberOfLeadingZeros_0 15 rfl rfl)
theorem dJ10_numberOfLeadingZeros_17 : decode cJ10_numberOfLeadingZeros 17 = .ok (.istore_n 1, 1) := dk_60 (dk_at dksJ10_numberOfLeadingZeros_0 17 rfl rfl)
theorem dJ10_numberOfLeadingZeros_18 : decode cJ10_numberOfLeadingZeros 18 = .ok (.iload_n 0, 1) := dk_26 (dk_at dksJ10_numberOfLeadingZeros_0 18 rfl rfl)
theorem dJ10_numberOfLeadingZeros_19 : decode cJ10_numberOfLeadingZeros 19 = .ok (.ldc_w 264, 3) := dk_19 1 8 (dk_at dksJ10_numberOfLeadingZeros_0 19 rfl rfl)
theorem dJ10_numberOfLeadingZeros_22 : decode cJ10_numberOfLeadingZeros 22 = .ok (.if_icmp .lt 11, 3) := dk_161 0 11 (dk_at dksJ10_numberOfLeadingZeros_1 0 rfl rfl)
theorem dJ10_numberOfLeadingZeros_25 : decode cJ10_numberOfLeadingZeros 25 = .ok (.iinc 1 (-16), 3) := dk_132 1 240 (dk_at dksJ10_numberOfLeadingZeros_1 3 rfl rfl)
theorem dJ10_numberOfLeadingZeros_28 : decode cJ10_numberOfLeadingZeros 28 = .ok (.iload_n 0, 1) := dk_26 (dk_at dksJ10_numberOfLeadingZeros_1 6 rfl rfl)
theorem dJ10_numberOfLeadingZeros_29 : decode cJ10_numberOfLeadingZeros 29 = .ok (.bipush 16, 2) := dk_16 16 (dk_at dksJ10_numberOfLeadingZeros_1 7 rfl rfl)
theorem dJ10_numberOfLeadingZeros_31 : decode cJ10_numberOfLeadingZeros 31 = .ok (.iushr, 1) := dk_124 (dk_at dksJ10_numberOfLeadingZeros_1 9 rfl rfl)
theorem dJ10_numberOfLeadingZeros_32 : decode cJ10_numberOfLeadingZeros 32 = .ok (.istore_n 0, 1) := dk_59 (dk_at dksJ10_numberOfLeadingZeros_1 10 rfl rfl)
theorem dJ10_numberOfLeadingZeros_33 : decode cJ10_numberOfLeadingZeros 33 = .ok (.iload_n 0, 1) := dk_26 (dk_at dksJ10_numberOfLeadingZeros_1 11 rfl rfl)
theorem dJ10_numberOfLeadingZeros_34 : decode cJ10_numberOfLeadingZeros 34 = .ok (.sipush 256, 3) := dk_17 1 0 (dk_at dksJ10_numberOfLeadingZeros_1 12 rfl rfl)
theorem dJ10_numberOfLeadingZeros_37 : decode cJ10_numberOfLeadingZeros 37 = .ok (.if_icmp .lt 11, 3) := dk_161 0 11 (dk_at dksJ10_numberOfLeadingZeros_1 15 rfl rfl)
theorem dJ10_numberOfLeadingZeros_40 : decode cJ10_numberOfLeadingZeros 40 = .ok (.iinc 1 (-8), 3) := dk_132 1 248 (dk_at dksJ10_numberOfLeadingZeros_1 18 rfl rfl)
theorem dJ10_numberOfLeadingZeros_43 : decode cJ10_numberOfLeadingZeros 43 = .ok (.iload_n 0, 1) := dk_26 (dk_at dksJ10_numberOfLeadingZeros_1 21 rfl rfl)
theorem dJ10_numberOfLeadingZeros_44 : decode cJ10_numberOfLeadingZeros 44 = .ok (.bipush 8, 2) := dk_16 8 (dk_at dksJ10_numberOfLeadingZeros_1 22 rfl rfl)
theorem dJ10_numberOfLeadingZeros_46 : decode cJ10_numberOfLeadingZeros 46 = .ok (.iushr, 1) := dk_124 (dk_at dksJ10_numberOfLeadingZeros_2 0 rfl rfl)
theorem dJ10_numberOfLeadingZeros_47 : decode cJ10_numberOfLeadingZeros 47 = .ok (.istore_n 0, 1) := dk_59 (dk_at dksJ10_numberOfLeadingZeros_2 1 rfl rfl)
theorem dJ10_numberOfLeadingZeros_48 : decode cJ10_numberOfLeadingZeros 48 = .ok (.iload_n 0, 1) := dk_26 (dk_at dksJ10_numberOfLeadingZeros_2 2 rfl rfl)
theorem dJ10_numberOfLeadingZeros_49 : decode cJ10_numberOfLeadingZeros 49 = .ok (.bipush 16, 2) := dk_16 16 (dk_at dksJ10_numberOfLeadingZeros_2 3 rfl rfl)
theorem dJ10_numberOfLeadingZeros_51 : decode cJ10_numberOfLeadingZeros 51 = .ok (.if_icmp .lt 10, 3) := dk_161 0 10 (dk_at dksJ10_numberOfLeadingZeros_2 5 rfl rfl)
theorem dJ10_numberOfLeadingZeros_54 : decode cJ10_numberOfLeadingZeros 54 = .ok (.iinc 1 (-4), 3) := dk_132 1 252 (dk_at dksJ10_numberOfLeadingZeros_2 8 rfl rfl)
theorem dJ10_numberOfLeadingZeros_57 : decode cJ10_numberOfLeadingZeros 57 = .ok (.iload_n 0, 1) := dk_26 (dk_at dksJ10_numberOfLeadingZeros_2 11 rfl rfl)
theorem dJ10_numberOfLeadingZeros_58 : decode cJ10_numberOfLeadingZeros 58 = .ok (.iconst 4, 1) := dk_7 (dk_at dksJ10_numberOfLeadingZeros_2 12 rfl rfl)
theorem dJ10_numberOfLeadingZeros_59 : decode cJ10_numberOfLeadingZeros 59 = .ok (.iushr, 1) := dk_124 (dk_at dksJ10_numberOfLeadingZeros_2 13 rfl rfl)
theorem dJ10_numberOfLeadingZeros_60 : decode cJ10_numberOfLeadingZeros 60 = .ok (.istore_n 0, 1) := dk_59 (dk_at dksJ10_numberOfLeadingZeros_2 14 rfl rfl)
theorem dJ10_numberOfLeadingZeros_61 : decode cJ10_numberOfLeadingZeros 61 = .ok (.iload_n 0, 1) := dk_26 (dk_at dksJ10_numberOfLeadingZeros_2 15 rfl rfl)
theorem dJ10_numberOfLeadingZeros_62 : decode cJ10_numberOfLeadingZeros 62 = .ok (.iconst 4, 1) := dk_7 (dk_at dksJ10_numberOfLeadingZeros_2 16 rfl rfl)
theorem dJ10_numberOfLeadingZeros_63 : decode cJ10_numberOfLeadingZeros 63 = .ok (.if_icmp .lt 10, 3) := dk_161 0 10 (dk_at dksJ10_numberOfLeadingZeros_2 17 rfl rfl)
theorem dJ10_numberOfLeadingZeros_66 : decode cJ10_numberOfLeadingZeros 66 = .ok (.iinc 1 (-2), 3) := dk_132 1 254 (dk_at dksJ10_numberOfLeadingZeros_2 20 rfl rfl)
theorem dJ10_numberOfLeadingZeros_69 : decode cJ10_numberOfLeadingZeros 69 = .ok (.iload_n 0, 1) := dk_26 (dk_at dksJ10_numberOfLeadingZeros_2 23 rfl rfl)
theorem dJ10_numberOfLeadingZeros_70 : decode cJ10_numberOfLeadingZeros 70 = .ok (.iconst 2, 1) := dk_5 (dk_at dksJ10_numberOfLeadingZeros_3 0 rfl rfl)
theorem dJ10_numberOfLeadingZeros_71 : decode cJ10_numberOfLeadingZeros 71 = .ok (.iushr, 1) := dk_124 (dk_at dksJ10_numberOfLeadingZeros_3 1 rfl rfl)
theorem dJ10_numberOfLeadingZeros_72 : decode cJ10_numberOfLeadingZeros 72 = .ok (.istore_n 0, 1) := dk_59 (dk_at dksJ10_numberOfLeadingZeros_3 2 rfl rfl)
theorem dJ10_numberOfLeadingZeros_73 : decode cJ10_numberOfLeadingZeros 73 = .ok (.iload_n 1, 1) := dk_27 (dk_at dksJ10_numberOfLeadingZeros_3 3 rfl rfl)
theorem dJ10_numberOfLeadingZeros_74 : decode cJ10_numberOfLeadingZeros 74 = .ok (.iload_n 0, 1) := dk_26 (dk_at dksJ10_numberOfLeadingZeros_3 4 rfl rfl)
theorem dJ10_numberOfLeadingZeros_75 : decode cJ10_numberOfLeadingZeros 75 = .ok (.iconst 1, 1) := dk_4 (dk_at dksJ10_numberOfLeadingZeros_3 5 rfl rfl)
theorem dJ10_numberOfLeadingZeros_76 : decode cJ10_numberOfLeadingZeros 76 = .ok (.iushr, 1) := dk_124 (dk_at dksJ10_numberOfLeadingZeros_3 6 rfl rfl)
theorem dJ10_numberOfLeadingZeros_77 : decode cJ10_numberOfLeadingZeros 77 = .ok (.isub, 1) := dk_100 (dk_at dksJ10_numberOfLeadingZeros_3 7 rfl rfl)
theorem dJ10_numberOfLeadingZeros_78 : decode cJ10_numberOfLeadingZeros 78 = .ok (.ireturn, 1) := dk_172 (dk_at dksJ10_numberOfLeadingZeros_3 8 rfl rfl)
abbrev cJ10_bitCount : ByteArray := prog_20_method_49_code
def yJ10_bitCount : MethodName := ⟨RJ10, "bitCount", "(I)I"⟩
def dkwJ10_bitCount_2 : List UInt8 := [26, 16, 63, 126, 172]
abbrev dktJ10_bitCount_2 : List UInt8 := dkwJ10_bitCount_2 ++ []
def dkwJ10_bitCount_1 : List UInt8 := [26, 26, 7, 124, 96, 19, 1, 11, 126, 59, 26, 26, 16, 8, 124, 96, 59, 26, 26, 16, 16, 124, 96, 59]
abbrev dktJ10_bitCount_1 : List UInt8 := dkwJ10_bitCount_1 ++ dktJ10_bitCount_2
def dkwJ10_bitCount_0 : List UInt8 := [26, 26, 4, 124, 19, 1, 9, 126, 100, 59, 26, 19, 1, 10, 126, 26, 5, 124, 19, 1, 10, 126, 96, 59]
abbrev dktJ10_bitCount_0 : List UInt8 := dkwJ10_bitCount_0 ++ dktJ10_bitCount_1
theorem dksJ10_bitCount_0 : cJ10_bitCount.data.toList.drop 0 = dktJ10_bitCount_0 := by decide +kernel
theorem dksJ10_bitCount_1 : cJ10_bitCount.data.toList.drop 24 = dktJ10_bitCount_1 := dk_seg dksJ10_bitCount_0 24 rfl rfl
theorem dksJ10_bitCount_2 : cJ10_bitCount.data.toList.drop 48 = dktJ10_bitCount_2 := dk_seg dksJ10_bitCount_1 24 rfl rfl
theorem dJ10_bitCount_0 : decode cJ10_bitCount 0 = .ok (.iload_n 0, 1) := dk_26 (dk_at dksJ10_bitCount_0 0 rfl rfl)
theorem dJ10_bitCount_1 : decode cJ10_bitCount 1 = .ok (.iload_n 0, 1) := dk_26 (dk_at dksJ10_bitCount_0 1 rfl rfl)
theorem dJ10_bitCount_2 : decode cJ10_bitCount 2 = .ok (.iconst 1, 1) := dk_4 (dk_at dksJ10_bitCount_0 2 rfl rfl)
theorem dJ10_bitCount_3 : decode cJ10_bitCount 3 = .ok (.iushr, 1) := dk_124 (dk_at dksJ10_bitCount_0 3 rfl rfl)
theorem dJ10_bitCount_4 : decode cJ10_bitCount 4 = .ok (.ldc_w 265, 3) := dk_19 1 9 (dk_at dksJ10_bitCount_0 4 rfl rfl)
theorem dJ10_bitCount_7 : decode cJ10_bitCount 7 = .ok (.iand, 1) := dk_126 (dk_at dksJ10_bitCount_0 7 rfl rfl)
theorem dJ10_bitCount_8 : decode cJ10_bitCount 8 = .ok (.isub, 1) := dk_100 (dk_at dksJ10_bitCount_0 8 rfl rfl)
theorem dJ10_bitCount_9 : decode cJ10_bitCount 9 = .ok (.istore_n 0, 1) := dk_59 (dk_at dksJ10_bitCount_0 9 rfl rfl)
theorem dJ10_bitCount_10 : decode cJ10_bitCount 10 = .ok (.iload_n 0, 1) := dk_26 (dk_at dksJ10_bitCount_0 10 rfl rfl)
theorem dJ10_bitCount_11 : decode cJ10_bitCount 11 = .ok (.ldc_w 266, 3) := dk_19 1 10 (dk_at dksJ10_bitCount_0 11 rfl rfl)
theorem dJ10_bitCount_14 : decode cJ10_bitCount 14 = .ok (.iand, 1) := dk_126 (dk_at dksJ10_bitCount_0 14 rfl rfl)
theorem dJ10_bitCount_15 : decode cJ10_bitCount 15 = .ok (.iload_n 0, 1) := dk_26 (dk_at dksJ10_bitCount_0 15 rfl rfl)
theorem dJ10_bitCount_16 : decode cJ10_bitCount 16 = .ok (.iconst 2, 1) := dk_5 (dk_at dksJ10_bitCount_0 16 rfl rfl)
theorem dJ10_bitCount_17 : decode cJ10_bitCount 17 = .ok (.iushr, 1) := dk_124 (dk_at dksJ10_bitCount_0 17 rfl rfl)
theorem dJ10_bitCount_18 : decode cJ10_bitCount 18 = .ok (.ldc_w 266, 3) := dk_19 1 10 (dk_at dksJ10_bitCount_0 18 rfl rfl)
theorem dJ10_bitCount_21 : decode cJ10_bitCount 21 = .ok (.iand, 1) := dk_126 (dk_at dksJ10_bitCount_0 21 rfl rfl)
theorem dJ10_bitCount_22 : decode cJ10_bitCount 22 = .ok (.iadd, 1) := dk_96 (dk_at dksJ10_bitCount_0 22 rfl rfl)
theorem dJ10_bitCount_23 : decode cJ10_bitCount 23 = .ok (.istore_n 0, 1) := dk_59 (dk_at dksJ10_bitCount_0 23 rfl rfl)
theorem dJ10_bitCount_24 : decode cJ10_bitCount 24 = .ok (.iload_n 0, 1) := dk_26 (dk_at dksJ10_bitCount_1 0 rfl rfl)
theorem dJ10_bitCount_25 : decode cJ10_bitCount 25 = .ok (.iload_n 0, 1) := dk_26 (dk_at dksJ10_bitCount_1 1 rfl rfl)
theorem dJ10_bitCount_26 : decode cJ10_bitCount 26 = .ok (.iconst 4, 1) := dk_7 (dk_at dksJ10_bitCount_1 2 rfl rfl)
theorem dJ10_bitCount_27 : decode cJ10_bitCount 27 = .ok (.iushr, 1) := dk_124 (dk_at dksJ10_bitCount_1 3 rfl rfl)
theorem dJ10_bitCount_28 : decode cJ10_bitCount 28 = .ok (.iadd, 1) := dk_96 (dk_at dksJ10_bitCount_1 4 rfl rfl)
theorem dJ10_bitCount_29 : decode cJ10_bitCount 29 = .ok (.ldc_w 267, 3) := dk_19 1 11 (dk_at dksJ10_bitCount_1 5 rfl rfl)
theorem dJ10_bitCount_32 : decode cJ10_bitCount 32 = .ok (.iand, 1) := dk_126 (dk_at dksJ10_bitCount_1 8 rfl rfl)
theorem dJ10_bitCount_33 : decode cJ10_bitCount 33 = .ok (.istore_n 0, 1) := dk_59 (dk_at dksJ10_bitCount_1 9 rfl rfl)
theorem dJ10_bitCount_34 : decode cJ10_bitCount 34 = .ok (.iload_n 0, 1) := dk_26 (dk_at dksJ10_bitCount_1 10 rfl rfl)
theorem dJ10_bitCount_35 : decode cJ10_bitCount 35 = .ok (.iload_n 0, 1) := dk_26 (dk_at dksJ10_bitCount_1 11 rfl rfl)
theorem dJ10_bitCount_36 : decode cJ10_bitCount 36 = .ok (.bipush 8, 2) := dk_16 8 (dk_at dksJ10_bitCount_1 12 rfl rfl)
theorem dJ10_bitCount_38 : decode cJ10_bitCount 38 = .ok (.iushr, 1) := dk_124 (dk_at dksJ10_bitCount_1 14 rfl rfl)
theorem dJ10_bitCount_39 : decode cJ10_bitCount 39 = .ok (.iadd, 1) := dk_96 (dk_at dksJ10_bitCount_1 15 rfl rfl)
theorem dJ10_bitCount_40 : decode cJ10_bitCount 40 = .ok (.istore_n 0, 1) := dk_59 (dk_at dksJ10_bitCount_1 16 rfl rfl)
theorem dJ10_bitCount_41 : decode cJ10_bitCount 41 = .ok (.iload_n 0, 1) := dk_26 (dk_at dksJ10_bitCount_1 17 rfl rfl)
theorem dJ10_bitCount_42 : decode cJ10_bitCount 42 = .ok (.iload_n 0, 1) := dk_26 (dk_at dksJ10_bitCount_1 18 rfl rfl)
theorem dJ10_bitCount_43 : decode cJ10_bitCount 43 = .ok (.bipush 16, 2) := dk_16 16 (dk_at dksJ10_bitCount_1 19 rfl rfl)
theorem dJ10_bitCount_45 : decode cJ10_bitCount 45 = .ok (.iushr, 1) := dk_124 (dk_at dksJ10_bitCount_1 21 rfl rfl)
theorem dJ10_bitCount_46 : decode cJ10_bitCount 46 = .ok (.iadd, 1) := dk_96 (dk_at dksJ10_bitCount_1 22 rfl rfl)
theorem dJ10_bitCount_47 : decode cJ10_bitCount 47 = .ok (.istore_n 0, 1) := dk_59 (dk_at dksJ10_bitCount_1 23 rfl rfl)
theorem dJ10_bitCount_48 : decode cJ10_bitCount 48 = .ok (.iload_n 0, 1) := dk_26 (dk_at dksJ10_bitCount_2 0 rfl rfl)
theorem dJ10_bitCount_49 : decode cJ10_bitCount 49 = .ok (.bipush 63, 2) := dk_16 63 (dk_at dksJ10_bitCount_2 1 rfl rfl)
theorem dJ10_bitCount_51 : decode cJ10_bitCount 51 = .ok (.iand, 1) := dk_126 (dk_at dksJ10_bitCount_2 3 rfl rfl)
theorem dJ10_bitCount_52 : decode cJ10_bitCount 52 = .ok (.ireturn, 1) := dk_172 (dk_at dksJ10_bitCount_2 4 rfl rfl)
theorem q165 : (Jvm.Cond.initialized "java/lang/Integer") ∈ lw_all := lw_g (lw_at lw_m1 24 rfl) rfl
theorem q1021 : (Jvm.Cond.static ({ cls := "java/lang/Integer", name := "numberOfTrailingZeros", desc := "(I)I" } : Jvm.MethodName)) ∈ lw_all := lw_g (lw_at lw_m4 160 rfl) rfl
theorem q1022 : (Jvm.Cond.code ({ cls := "java/lang/Integer", name := "numberOfTrailingZeros", desc := "(I)I" } : Jvm.MethodName) prog_20_method_48_code (2 : Nat) (Option.some Jvm.ClassFile.FieldType.int)) ∈ lw_all := lw_g (lw_at lw_m4 161 rfl) rfl
theorem q1023 : (Jvm.Cond.constant "java/lang/Integer" (264 : Nat) (65536 : Int32)) ∈ lw_all := lw_g (lw_at lw_m4 162 rfl) rfl
theorem q1025 : (Jvm.Cond.static ({ cls := "java/lang/Integer", name := "numberOfLeadingZeros", desc := "(I)I" } : Jvm.MethodName)) ∈ lw_all := lw_g (lw_at lw_m4 164 rfl) rfl
theorem q1026 : (Jvm.Cond.code ({ cls := "java/lang/Integer", name := "numberOfLeadingZeros", desc := "(I)I" } : Jvm.MethodName) prog_20_method_47_code (2 : Nat) (Option.some Jvm.ClassFile.FieldType.int)) ∈ lw_all := lw_g (lw_at lw_m4 165 rfl) rfl
theorem q1032 : (Jvm.Cond.static ({ cls := "java/lang/Integer", name := "bitCount", desc := "(I)I" } : Jvm.MethodName)) ∈ lw_all := lw_g (lw_at lw_m4 171 rfl) rfl
theorem q1033 : (Jvm.Cond.code ({ cls := "java/lang/Integer", name := "bitCount", desc := "(I)I" } : Jvm.MethodName) prog_20_method_49_code (1 : Nat) (Option.some Jvm.ClassFile.FieldType.int)) ∈ lw_all := lw_g (lw_at lw_m4 172 rfl) rfl
theorem q1034 : (Jvm.Cond.constant "java/lang/Integer" (265 : Nat) (1431655765 : Int32)) ∈ lw_all := lw_g (lw_at lw_m4 173 rfl) rfl
theorem q1035 : (Jvm.Cond.constant "java/lang/Integer" (266 : Nat) (858993459 : Int32)) ∈ lw_all := lw_g (lw_at lw_m4 174 rfl) rfl
theorem q1036 : (Jvm.Cond.constant "java/lang/Integer" (267 : Nat) (252645135 : Int32)) ∈ lw_all := lw_g (lw_at lw_m4 175 rfl) rfl
/-! java/lang/Object -/
set_option maxRecDepth 100000
def RJ11 : String := "java/lang/Object"
abbrev cJ11_init : ByteArray := object_method_1_code
def yJ11_init : MethodName := ⟨RJ11, "<init>", "()V"⟩
theorem dJ11_init_0 : decode cJ11_init 0 = .ok (.return_, 1) := by decide +kernel
theorem q172 : (Jvm.Cond.instanceMethod ({ cls := "java/lang/Object", name := "<init>", desc := "()V" } : Jvm.MethodName)) ∈ lw_all := lw_g (lw_at lw_m1 31 rfl) rfl
theorem q173 : (Jvm.Cond.code ({ cls := "java/lang/Object", name := "<init>", desc := "()V" } : Jvm.MethodName) object_method_1_code (1 : Nat) (Option.none : Option Jvm.ClassFile.FieldType)) ∈ lw_all := lw_g (lw_at lw_m1 32 rfl) rfl
theorem q232 : (Jvm.Cond.arrayOver (Jvm.ClassFile.FieldType.object "FrostBox$Clause")) ∈ lw_tbl := lw_at lw_m1 91 rfl
set_option maxRecDepth 100000
theorem q360 : (Jvm.Cond.arrayClass Jvm.ClassFile.FieldType.byte) ∈ lw_all := lw_g (lw_at lw_m1 219 rfl) rfl
theorem q361 : (Jvm.Cond.arrayClass Jvm.ClassFile.FieldType.int) ∈ lw_all := lw_g (lw_at lw_m1 220 rfl) rfl
theorem q362 : (Jvm.Cond.arrayClass Jvm.ClassFile.FieldType.boolean) ∈ lw_all := lw_g (lw_at lw_m1 221 rfl) rfl
theorem q1401 : (Jvm.Cond.arrayClass Jvm.ClassFile.FieldType.long) ∈ lw_all := lw_g (lw_at lw_m6 60 rfl) rfl
