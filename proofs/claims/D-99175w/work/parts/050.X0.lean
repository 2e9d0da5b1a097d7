/-! RockingHorseLaw -/
set_option maxRecDepth 100000
def RX0 : String := "RockingHorseLaw"
abbrev cX0_rider : ByteArray := method_3_code
def yX0_rider : MethodName := ⟨RX0, "rider", "(LRockingHorse;II[J)I"⟩
def dkwX0_rider_0 : List UInt8 := [45, 3, 42, 27, 28, 182, 0, 7, 133, 80, 167, 0, 7, 58, 4, 4, 172, 3, 172]
abbrev dktX0_rider_0 : List UInt8 := dkwX0_rider_0 ++ []
theorem dksX0_rider_0 : cX0_rider.data.toList.drop 0 = dktX0_rider_0 := by decide +kernel
theorem dX0_rider_0 : decode cX0_rider 0 = .ok (.aload_n 3, 1) := dk_45 (dk_at dksX0_rider_0 0 rfl rfl)
theorem dX0_rider_1 : decode cX0_rider 1 = .ok (.iconst 0, 1) := dk_3 (dk_at dksX0_rider_0 1 rfl rfl)
theorem dX0_rider_2 : decode cX0_rider 2 = .ok (.aload_n 0, 1) := dk_42 (dk_at dksX0_rider_0 2 rfl rfl)
theorem dX0_rider_3 : decode cX0_rider 3 = .ok (.iload_n 1, 1) := dk_27 (dk_at dksX0_rider_0 3 rfl rfl)
theorem dX0_rider_4 : decode cX0_rider 4 = .ok (.iload_n 2, 1) := dk_28 (dk_at dksX0_rider_0 4 rfl rfl)
theorem dX0_rider_5 : decode cX0_rider 5 = .ok (.invokevirtual 7, 3) := dk_182 0 7 (dk_at dksX0_rider_0 5 rfl rfl)
theorem dX0_rider_8 : decode cX0_rider 8 = .ok (.i2l, 1) := dk_133 (dk_at dksX0_rider_0 8 rfl rfl)
theorem dX0_rider_9 : decode cX0_rider 9 = .ok (.lastore, 1) := dk_80 (dk_at dksX0_rider_0 9 rfl rfl)
theorem dX0_rider_10 : decode cX0_rider 10 = .ok (.goto 7, 3) := dk_167 0 7 (dk_at dksX0_rider_0 10 rfl rfl)
theorem dX0_rider_13 : decode cX0_rider 13 = .ok (.astore 4, 2) := dk_58 4 (dk_at dksX0_rider_0 13 rfl rfl)
theorem dX0_rider_15 : decode cX0_rider 15 = .ok (.iconst 1, 1) := dk_4 (dk_at dksX0_rider_0 15 rfl rfl)
theorem dX0_rider_16 : decode cX0_rider 16 = .ok (.ireturn, 1) := dk_172 (dk_at dksX0_rider_0 16 rfl rfl)
theorem dX0_rider_17 : decode cX0_rider 17 = .ok (.iconst 0, 1) := dk_3 (dk_at dksX0_rider_0 17 rfl rfl)
theorem dX0_rider_18 : decode cX0_rider 18 = .ok (.ireturn, 1) := dk_172 (dk_at dksX0_rider_0 18 rfl rfl)
abbrev cX0_row : ByteArray := method_4_code
def yX0_row : MethodName := ⟨RX0, "row", "(LRockingHorse;I[J)I"⟩
def dkwX0_row_0 : List UInt8 := [44, 3, 42, 27, 182, 0, 15, 80, 167, 0, 6, 78, 4, 172, 3, 172]
abbrev dktX0_row_0 : List UInt8 := dkwX0_row_0 ++ []
theorem dksX0_row_0 : cX0_row.data.toList.drop 0 = dktX0_row_0 := by decide +kernel
theorem dX0_row_0 : decode cX0_row 0 = .ok (.aload_n 2, 1) := dk_44 (dk_at dksX0_row_0 0 rfl rfl)
theorem dX0_row_1 : decode cX0_row 1 = .ok (.iconst 0, 1) := dk_3 (dk_at dksX0_row_0 1 rfl rfl)
theorem dX0_row_2 : decode cX0_row 2 = .ok (.aload_n 0, 1) := dk_42 (dk_at dksX0_row_0 2 rfl rfl)
theorem dX0_row_3 : decode cX0_row 3 = .ok (.iload_n 1, 1) := dk_27 (dk_at dksX0_row_0 3 rfl rfl)
theorem dX0_row_4 : decode cX0_row 4 = .ok (.invokevirtual 15, 3) := dk_182 0 15 (dk_at dksX0_row_0 4 rfl rfl)
theorem dX0_row_7 : decode cX0_row 7 = .ok (.lastore, 1) := dk_80 (dk_at dksX0_row_0 7 rfl rfl)
theorem dX0_row_8 : decode cX0_row 8 = .ok (.goto 6, 3) := dk_167 0 6 (dk_at dksX0_row_0 8 rfl rfl)
theorem dX0_row_11 : decode cX0_row 11 = .ok (.astore_n 3, 1) := dk_78 (dk_at dksX0_row_0 11 rfl rfl)
theorem dX0_row_12 : decode cX0_row 12 = .ok (.iconst 1, 1) := dk_4 (dk_at dksX0_row_0 12 rfl rfl)
theorem dX0_row_13 : decode cX0_row 13 = .ok (.ireturn, 1) := dk_172 (dk_at dksX0_row_0 13 rfl rfl)
theorem dX0_row_14 : decode cX0_row 14 = .ok (.iconst 0, 1) := dk_3 (dk_at dksX0_row_0 14 rfl rfl)
theorem dX0_row_15 : decode cX0_row 15 = .ok (.ireturn, 1) := dk_172 (dk_at dksX0_row_0 15 rfl rfl)
theorem q106 : (Jvm.Cond.initialized "RockingHorseLaw") ∈ lw_all := lw_g (lw_at lw_m1 0 rfl) rfl
theorem q127 : (Jvm.Cond.classLink "RockingHorseLaw" (8 : Nat) "RockingHorse") ∈ lw_all := lw_g (lw_at lw_m1 21 rfl) rfl
theorem q129 : (Jvm.Cond.methodLink "RockingHorseLaw" (19 : Nat) ({ cls := "RockingHorse", name := "<init>", desc := "()V" } : Jvm.MethodName)) ∈ lw_all := lw_g (lw_at lw_m1 23 rfl) rfl
theorem q338 : (Jvm.Cond.methodLink "RockingHorseLaw" (23 : Nat) ({ cls := "RockingHorse", name := "sign", desc := "(I)I" } : Jvm.MethodName)) ∈ lw_all := lw_g (lw_at lw_m1 232 rfl) rfl
theorem q342 : (Jvm.Cond.methodLink "RockingHorseLaw" (28 : Nat) ({ cls := "RockingHorse", name := "end", desc := "(I)Z" } : Jvm.MethodName)) ∈ lw_all := lw_g (lw_at lw_m1 236 rfl) rfl
theorem q349 : (Jvm.Cond.methodLink "RockingHorseLaw" (33 : Nat) ({ cls := "RockingHorse", name := "riders", desc := "()I" } : Jvm.MethodName)) ∈ lw_all := lw_g (lw_at lw_m2 3 rfl) rfl
theorem q472 : (Jvm.Cond.methodLink "RockingHorseLaw" (38 : Nat) ({ cls := "RockingHorse", name := "rule", desc := "()I" } : Jvm.MethodName)) ∈ lw_all := lw_g (lw_at lw_m2 126 rfl) rfl
theorem q572 : (Jvm.Cond.methodLink "RockingHorseLaw" (51 : Nat) ({ cls := "RockingHorse", name := "hard", desc := "(II)I" } : Jvm.MethodName)) ∈ lw_all := lw_g (lw_at lw_m2 226 rfl) rfl
theorem q609 : (Jvm.Cond.methodLink "RockingHorseLaw" (55 : Nat) ({ cls := "RockingHorse", name := "set", desc := "(II)I" } : Jvm.MethodName)) ∈ lw_all := lw_g (lw_at lw_m3 23 rfl) rfl
theorem q615 : (Jvm.Cond.methodLink "RockingHorseLaw" (59 : Nat) ({ cls := "RockingHorse", name := "sheet", desc := "(IIII)I" } : Jvm.MethodName)) ∈ lw_all := lw_g (lw_at lw_m3 29 rfl) rfl
theorem q624 : (Jvm.Cond.methodLink "RockingHorseLaw" (84 : Nat) ({ cls := "RockingHorse", name := "undo", desc := "()I" } : Jvm.MethodName)) ∈ lw_all := lw_g (lw_at lw_m3 38 rfl) rfl
theorem q635 : (Jvm.Cond.methodLink "RockingHorseLaw" (64 : Nat) ({ cls := "RockingHorse", name := "rota", desc := "()I" } : Jvm.MethodName)) ∈ lw_all := lw_g (lw_at lw_m3 49 rfl) rfl
theorem q643 : (Jvm.Cond.methodLink "RockingHorseLaw" (68 : Nat) ({ cls := "RockingHorse", name := "give", desc := "(II)I" } : Jvm.MethodName)) ∈ lw_all := lw_g (lw_at lw_m3 57 rfl) rfl
theorem q651 : (Jvm.Cond.methodLink "RockingHorseLaw" (72 : Nat) ({ cls := "RockingHorse", name := "ill", desc := "(I)I" } : Jvm.MethodName)) ∈ lw_all := lw_g (lw_at lw_m3 65 rfl) rfl
theorem q660 : (Jvm.Cond.methodLink "RockingHorseLaw" (76 : Nat) ({ cls := "RockingHorse", name := "nights", desc := "(I)I" } : Jvm.MethodName)) ∈ lw_all := lw_g (lw_at lw_m3 74 rfl) rfl
theorem q687 : (Jvm.Cond.methodLink "RockingHorseLaw" (80 : Nat) ({ cls := "RockingHorse", name := "year", desc := "()I" } : Jvm.MethodName)) ∈ lw_all := lw_g (lw_at lw_m3 101 rfl) rfl
theorem q708 : (Jvm.Cond.methodLink "RockingHorseLaw" (88 : Nat) ({ cls := "RockingHorse", name := "gaps", desc := "()I" } : Jvm.MethodName)) ∈ lw_all := lw_g (lw_at lw_m3 122 rfl) rfl
theorem q712 : (Jvm.Cond.methodLink "RockingHorseLaw" (92 : Nat) ({ cls := "RockingHorse", name := "first", desc := "(I)I" } : Jvm.MethodName)) ∈ lw_all := lw_g (lw_at lw_m3 126 rfl) rfl
theorem q721 : (Jvm.Cond.methodLink "RockingHorseLaw" (96 : Nat) ({ cls := "RockingHorse", name := "later", desc := "(I)I" } : Jvm.MethodName)) ∈ lw_all := lw_g (lw_at lw_m3 135 rfl) rfl
theorem q725 : (Jvm.Cond.methodLink "RockingHorseLaw" (100 : Nat) ({ cls := "RockingHorse", name := "vigil", desc := "(I)I" } : Jvm.MethodName)) ∈ lw_all := lw_g (lw_at lw_m3 139 rfl) rfl
theorem q729 : (Jvm.Cond.methodLink "RockingHorseLaw" (104 : Nat) ({ cls := "RockingHorse", name := "trade", desc := "()I" } : Jvm.MethodName)) ∈ lw_all := lw_g (lw_at lw_m3 143 rfl) rfl
theorem q733 : (Jvm.Cond.methodLink "RockingHorseLaw" (108 : Nat) ({ cls := "RockingHorse", name := "easiest", desc := "()I" } : Jvm.MethodName)) ∈ lw_all := lw_g (lw_at lw_m3 147 rfl) rfl
theorem q774 : (Jvm.Cond.methodLink "RockingHorseLaw" (128 : Nat) ({ cls := "RockingHorse", name := "takes", desc := "()I" } : Jvm.MethodName)) ∈ lw_all := lw_g (lw_at lw_m3 188 rfl) rfl
theorem q778 : (Jvm.Cond.methodLink "RockingHorseLaw" (112 : Nat) ({ cls := "RockingHorse", name := "fewest", desc := "()I" } : Jvm.MethodName)) ∈ lw_all := lw_g (lw_at lw_m3 192 rfl) rfl
theorem q790 : (Jvm.Cond.methodLink "RockingHorseLaw" (116 : Nat) ({ cls := "RockingHorse", name := "bare", desc := "()I" } : Jvm.MethodName)) ∈ lw_all := lw_g (lw_at lw_m3 204 rfl) rfl
theorem q798 : (Jvm.Cond.methodLink "RockingHorseLaw" (120 : Nat) ({ cls := "RockingHorse", name := "rotas", desc := "()I" } : Jvm.MethodName)) ∈ lw_all := lw_g (lw_at lw_m3 212 rfl) rfl
theorem q810 : (Jvm.Cond.methodLink "RockingHorseLaw" (124 : Nat) ({ cls := "RockingHorse", name := "mended", desc := "(I)I" } : Jvm.MethodName)) ∈ lw_all := lw_g (lw_at lw_m3 224 rfl) rfl
theorem q814 : (Jvm.Cond.methodLink "RockingHorseLaw" (132 : Nat) ({ cls := "RockingHorse", name := "missed", desc := "(I)I" } : Jvm.MethodName)) ∈ lw_all := lw_g (lw_at lw_m3 228 rfl) rfl
theorem q818 : (Jvm.Cond.methodLink "RockingHorseLaw" (136 : Nat) ({ cls := "RockingHorse", name := "paid", desc := "(I)I" } : Jvm.MethodName)) ∈ lw_all := lw_g (lw_at lw_m3 232 rfl) rfl
theorem q822 : (Jvm.Cond.methodLink "RockingHorseLaw" (140 : Nat) ({ cls := "RockingHorse", name := "fairest", desc := "()I" } : Jvm.MethodName)) ∈ lw_all := lw_g (lw_at lw_m3 236 rfl) rfl
theorem q826 : (Jvm.Cond.methodLink "RockingHorseLaw" (144 : Nat) ({ cls := "RockingHorse", name := "away", desc := "()I" } : Jvm.MethodName)) ∈ lw_all := lw_g (lw_at lw_m4 0 rfl) rfl
theorem q830 : (Jvm.Cond.methodLink "RockingHorseLaw" (148 : Nat) ({ cls := "RockingHorse", name := "able", desc := "(I)I" } : Jvm.MethodName)) ∈ lw_all := lw_g (lw_at lw_m4 4 rfl) rfl
theorem q834 : (Jvm.Cond.methodLink "RockingHorseLaw" (152 : Nat) ({ cls := "RockingHorse", name := "spent", desc := "(I)I" } : Jvm.MethodName)) ∈ lw_all := lw_g (lw_at lw_m4 8 rfl) rfl
theorem q839 : (Jvm.Cond.methodLink "RockingHorseLaw" (156 : Nat) ({ cls := "RockingHorse", name := "shared", desc := "(II)I" } : Jvm.MethodName)) ∈ lw_all := lw_g (lw_at lw_m4 13 rfl) rfl
theorem q843 : (Jvm.Cond.methodLink "RockingHorseLaw" (160 : Nat) ({ cls := "RockingHorse", name := "thin", desc := "()I" } : Jvm.MethodName)) ∈ lw_all := lw_g (lw_at lw_m4 17 rfl) rfl
theorem q851 : (Jvm.Cond.methodLink "RockingHorseLaw" (164 : Nat) ({ cls := "RockingHorse", name := "changes", desc := "()I" } : Jvm.MethodName)) ∈ lw_all := lw_g (lw_at lw_m4 25 rfl) rfl
theorem q855 : (Jvm.Cond.methodLink "RockingHorseLaw" (168 : Nat) ({ cls := "RockingHorse", name := "smoothest", desc := "()I" } : Jvm.MethodName)) ∈ lw_all := lw_g (lw_at lw_m4 29 rfl) rfl
theorem q863 : (Jvm.Cond.methodLink "RockingHorseLaw" (172 : Nat) ({ cls := "RockingHorse", name := "meets", desc := "(III)I" } : Jvm.MethodName)) ∈ lw_all := lw_g (lw_at lw_m4 37 rfl) rfl
theorem q869 : (Jvm.Cond.methodLink "RockingHorseLaw" (177 : Nat) ({ cls := "RockingHorse", name := "found", desc := "(III)I" } : Jvm.MethodName)) ∈ lw_all := lw_g (lw_at lw_m4 43 rfl) rfl
theorem q873 : (Jvm.Cond.methodLink "RockingHorseLaw" (181 : Nat) ({ cls := "RockingHorse", name := "forget", desc := "()I" } : Jvm.MethodName)) ∈ lw_all := lw_g (lw_at lw_m4 47 rfl) rfl
theorem q877 : (Jvm.Cond.methodLink "RockingHorseLaw" (185 : Nat) ({ cls := "RockingHorse", name := "fits", desc := "()I" } : Jvm.MethodName)) ∈ lw_all := lw_g (lw_at lw_m4 51 rfl) rfl
theorem q889 : (Jvm.Cond.methodLink "RockingHorseLaw" (189 : Nat) ({ cls := "RockingHorse", name := "sure", desc := "(II)I" } : Jvm.MethodName)) ∈ lw_all := lw_g (lw_at lw_m4 63 rfl) rfl
theorem q904 : (Jvm.Cond.methodLink "RockingHorseLaw" (193 : Nat) ({ cls := "RockingHorse", name := "ask", desc := "()I" } : Jvm.MethodName)) ∈ lw_all := lw_g (lw_at lw_m4 78 rfl) rfl
theorem q915 : (Jvm.Cond.methodLink "RockingHorseLaw" (197 : Nat) ({ cls := "RockingHorse", name := "held", desc := "(I)I" } : Jvm.MethodName)) ∈ lw_all := lw_g (lw_at lw_m4 89 rfl) rfl
theorem q927 : (Jvm.Cond.methodLink "RockingHorseLaw" (201 : Nat) ({ cls := "RockingHorse", name := "keystone", desc := "(I)I" } : Jvm.MethodName)) ∈ lw_all := lw_g (lw_at lw_m4 101 rfl) rfl
theorem q931 : (Jvm.Cond.methodLink "RockingHorseLaw" (205 : Nat) ({ cls := "RockingHorse", name := "rests", desc := "(II)I" } : Jvm.MethodName)) ∈ lw_all := lw_g (lw_at lw_m4 105 rfl) rfl
theorem q938 : (Jvm.Cond.methodLink "RockingHorseLaw" (209 : Nat) ({ cls := "RockingHorse", name := "law", desc := "()I" } : Jvm.MethodName)) ∈ lw_all := lw_g (lw_at lw_m4 112 rfl) rfl
theorem q946 : (Jvm.Cond.methodLink "RockingHorseLaw" (213 : Nat) ({ cls := "RockingHorse", name := "years", desc := "(II)I" } : Jvm.MethodName)) ∈ lw_all := lw_g (lw_at lw_m4 120 rfl) rfl
theorem q955 : (Jvm.Cond.methodLink "RockingHorseLaw" (217 : Nat) ({ cls := "RockingHorse", name := "keep", desc := "(I)Z" } : Jvm.MethodName)) ∈ lw_all := lw_g (lw_at lw_m4 129 rfl) rfl
theorem q959 : (Jvm.Cond.methodLink "RockingHorseLaw" (221 : Nat) ({ cls := "RockingHorse", name := "again", desc := "(I)Z" } : Jvm.MethodName)) ∈ lw_all := lw_g (lw_at lw_m4 133 rfl) rfl
theorem q963 : (Jvm.Cond.methodLink "RockingHorseLaw" (225 : Nat) ({ cls := "RockingHorse", name := "count", desc := "(I)I" } : Jvm.MethodName)) ∈ lw_all := lw_g (lw_at lw_m4 137 rfl) rfl
theorem q969 : (Jvm.Cond.methodLink "RockingHorseLaw" (42 : Nat) ({ cls := "RockingHorseLaw", name := "rider", desc := "(LRockingHorse;II[J)I" } : Jvm.MethodName)) ∈ lw_all := lw_g (lw_at lw_m4 143 rfl) rfl
theorem q970 : (Jvm.Cond.static ({ cls := "RockingHorseLaw", name := "rider", desc := "(LRockingHorse;II[J)I" } : Jvm.MethodName)) ∈ lw_all := lw_g (lw_at lw_m4 144 rfl) rfl
theorem q971 : (Jvm.Cond.codeWith ({ cls := "RockingHorseLaw", name := "rider", desc := "(LRockingHorse;II[J)I" } : Jvm.MethodName) method_3_code (5 : Nat) (Option.some Jvm.ClassFile.FieldType.int) [((0 : Nat), (10 : Nat), (13 : Nat), (13 : Nat))]) ∈ lw_all := lw_g (lw_at lw_m4 145 rfl) rfl
theorem q972 : (Jvm.Cond.classLink "RockingHorseLaw" (13 : Nat) "java/util/NoSuchElementException") ∈ lw_all := lw_g (lw_at lw_m4 146 rfl) rfl
theorem q973 : (Jvm.Cond.methodLink "RockingHorseLaw" (7 : Nat) ({ cls := "RockingHorse", name := "rider", desc := "(II)I" } : Jvm.MethodName)) ∈ lw_all := lw_g (lw_at lw_m4 147 rfl) rfl
theorem q1042 : (Jvm.Cond.methodLink "RockingHorseLaw" (229 : Nat) ({ cls := "RockingHorseLaw", name := "row", desc := "(LRockingHorse;I[J)I" } : Jvm.MethodName)) ∈ lw_all := lw_g (lw_at lw_m4 216 rfl) rfl
theorem q1043 : (Jvm.Cond.static ({ cls := "RockingHorseLaw", name := "row", desc := "(LRockingHorse;I[J)I" } : Jvm.MethodName)) ∈ lw_all := lw_g (lw_at lw_m4 217 rfl) rfl
theorem q1044 : (Jvm.Cond.codeWith ({ cls := "RockingHorseLaw", name := "row", desc := "(LRockingHorse;I[J)I" } : Jvm.MethodName) method_4_code (4 : Nat) (Option.some Jvm.ClassFile.FieldType.int) [((0 : Nat), (8 : Nat), (11 : Nat), (13 : Nat))]) ∈ lw_all := lw_g (lw_at lw_m4 218 rfl) rfl
theorem q1045 : (Jvm.Cond.methodLink "RockingHorseLaw" (15 : Nat) ({ cls := "RockingHorse", name := "row", desc := "(I)J" } : Jvm.MethodName)) ∈ lw_all := lw_g (lw_at lw_m4 219 rfl) rfl
theorem q1049 : (Jvm.Cond.classLink "RockingHorseLaw" (20 : Nat) "RockingHorseModel") ∈ lw_all := lw_g (lw_at lw_m4 223 rfl) rfl
theorem q1051 : (Jvm.Cond.methodLink "RockingHorseLaw" (22 : Nat) ({ cls := "RockingHorseModel", name := "<init>", desc := "()V" } : Jvm.MethodName)) ∈ lw_all := lw_g (lw_at lw_m4 225 rfl) rfl
theorem q1211 : (Jvm.Cond.methodLink "RockingHorseLaw" (48 : Nat) ({ cls := "RockingHorseModel", name := "thrown", desc := "()I" } : Jvm.MethodName)) ∈ lw_all := lw_g (lw_at lw_m5 145 rfl) rfl
theorem q1215 : (Jvm.Cond.methodLink "RockingHorseLaw" (27 : Nat) ({ cls := "RockingHorseModel", name := "sign", desc := "(I)I" } : Jvm.MethodName)) ∈ lw_all := lw_g (lw_at lw_m5 149 rfl) rfl
theorem q1219 : (Jvm.Cond.methodLink "RockingHorseLaw" (32 : Nat) ({ cls := "RockingHorseModel", name := "end", desc := "(I)Z" } : Jvm.MethodName)) ∈ lw_all := lw_g (lw_at lw_m5 153 rfl) rfl
theorem q1226 : (Jvm.Cond.methodLink "RockingHorseLaw" (37 : Nat) ({ cls := "RockingHorseModel", name := "riders", desc := "()I" } : Jvm.MethodName)) ∈ lw_all := lw_g (lw_at lw_m5 160 rfl) rfl
theorem q1266 : (Jvm.Cond.methodLink "RockingHorseLaw" (41 : Nat) ({ cls := "RockingHorseModel", name := "rule", desc := "()I" } : Jvm.MethodName)) ∈ lw_all := lw_g (lw_at lw_m5 200 rfl) rfl
theorem q1301 : (Jvm.Cond.methodLink "RockingHorseLaw" (47 : Nat) ({ cls := "RockingHorseModel", name := "rider", desc := "(II)I" } : Jvm.MethodName)) ∈ lw_all := lw_g (lw_at lw_m5 235 rfl) rfl
theorem q1317 : (Jvm.Cond.methodLink "RockingHorseLaw" (54 : Nat) ({ cls := "RockingHorseModel", name := "hard", desc := "(II)I" } : Jvm.MethodName)) ∈ lw_all := lw_g (lw_at lw_m6 11 rfl) rfl
theorem q1331 : (Jvm.Cond.methodLink "RockingHorseLaw" (58 : Nat) ({ cls := "RockingHorseModel", name := "set", desc := "(II)I" } : Jvm.MethodName)) ∈ lw_all := lw_g (lw_at lw_m6 25 rfl) rfl
theorem q1335 : (Jvm.Cond.methodLink "RockingHorseLaw" (63 : Nat) ({ cls := "RockingHorseModel", name := "sheet", desc := "(IIII)I" } : Jvm.MethodName)) ∈ lw_all := lw_g (lw_at lw_m6 29 rfl) rfl
theorem q1339 : (Jvm.Cond.methodLink "RockingHorseLaw" (67 : Nat) ({ cls := "RockingHorseModel", name := "rota", desc := "()I" } : Jvm.MethodName)) ∈ lw_all := lw_g (lw_at lw_m6 33 rfl) rfl
theorem q1350 : (Jvm.Cond.methodLink "RockingHorseLaw" (71 : Nat) ({ cls := "RockingHorseModel", name := "give", desc := "(II)I" } : Jvm.MethodName)) ∈ lw_all := lw_g (lw_at lw_m6 44 rfl) rfl
theorem q1358 : (Jvm.Cond.methodLink "RockingHorseLaw" (75 : Nat) ({ cls := "RockingHorseModel", name := "ill", desc := "(I)I" } : Jvm.MethodName)) ∈ lw_all := lw_g (lw_at lw_m6 52 rfl) rfl
theorem q1366 : (Jvm.Cond.methodLink "RockingHorseLaw" (79 : Nat) ({ cls := "RockingHorseModel", name := "nights", desc := "(I)I" } : Jvm.MethodName)) ∈ lw_all := lw_g (lw_at lw_m6 60 rfl) rfl
theorem q1390 : (Jvm.Cond.methodLink "RockingHorseLaw" (83 : Nat) ({ cls := "RockingHorseModel", name := "year", desc := "()I" } : Jvm.MethodName)) ∈ lw_all := lw_g (lw_at lw_m6 84 rfl) rfl
theorem q1410 : (Jvm.Cond.methodLink "RockingHorseLaw" (87 : Nat) ({ cls := "RockingHorseModel", name := "undo", desc := "()I" } : Jvm.MethodName)) ∈ lw_all := lw_g (lw_at lw_m6 104 rfl) rfl
theorem q1414 : (Jvm.Cond.methodLink "RockingHorseLaw" (91 : Nat) ({ cls := "RockingHorseModel", name := "gaps", desc := "()I" } : Jvm.MethodName)) ∈ lw_all := lw_g (lw_at lw_m6 108 rfl) rfl
theorem q1418 : (Jvm.Cond.methodLink "RockingHorseLaw" (95 : Nat) ({ cls := "RockingHorseModel", name := "first", desc := "(I)I" } : Jvm.MethodName)) ∈ lw_all := lw_g (lw_at lw_m6 112 rfl) rfl
theorem q1423 : (Jvm.Cond.methodLink "RockingHorseLaw" (99 : Nat) ({ cls := "RockingHorseModel", name := "later", desc := "(I)I" } : Jvm.MethodName)) ∈ lw_all := lw_g (lw_at lw_m6 117 rfl) rfl
theorem q1427 : (Jvm.Cond.methodLink "RockingHorseLaw" (103 : Nat) ({ cls := "RockingHorseModel", name := "vigil", desc := "(I)I" } : Jvm.MethodName)) ∈ lw_all := lw_g (lw_at lw_m6 121 rfl) rfl
theorem q1431 : (Jvm.Cond.methodLink "RockingHorseLaw" (107 : Nat) ({ cls := "RockingHorseModel", name := "trade", desc := "()I" } : Jvm.MethodName)) ∈ lw_all := lw_g (lw_at lw_m6 125 rfl) rfl
theorem q1435 : (Jvm.Cond.methodLink "RockingHorseLaw" (111 : Nat) ({ cls := "RockingHorseModel", name := "easiest", desc := "()I" } : Jvm.MethodName)) ∈ lw_all := lw_g (lw_at lw_m6 129 rfl) rfl
theorem q1491 : (Jvm.Cond.methodLink "RockingHorseLaw" (115 : Nat) ({ cls := "RockingHorseModel", name := "fewest", desc := "()I" } : Jvm.MethodName)) ∈ lw_all := lw_g (lw_at lw_m6 185 rfl) rfl
theorem q1499 : (Jvm.Cond.methodLink "RockingHorseLaw" (119 : Nat) ({ cls := "RockingHorseModel", name := "bare", desc := "()I" } : Jvm.MethodName)) ∈ lw_all := lw_g (lw_at lw_m6 193 rfl) rfl
theorem q1503 : (Jvm.Cond.methodLink "RockingHorseLaw" (123 : Nat) ({ cls := "RockingHorseModel", name := "rotas", desc := "()I" } : Jvm.MethodName)) ∈ lw_all := lw_g (lw_at lw_m6 197 rfl) rfl
theorem q1515 : (Jvm.Cond.methodLink "RockingHorseLaw" (127 : Nat) ({ cls := "RockingHorseModel", name := "mended", desc := "(I)I" } : Jvm.MethodName)) ∈ lw_all := lw_g (lw_at lw_m6 209 rfl) rfl
theorem q1519 : (Jvm.Cond.methodLink "RockingHorseLaw" (131 : Nat) ({ cls := "RockingHorseModel", name := "takes", desc := "()I" } : Jvm.MethodName)) ∈ lw_all := lw_g (lw_at lw_m6 213 rfl) rfl
theorem q1523 : (Jvm.Cond.methodLink "RockingHorseLaw" (135 : Nat) ({ cls := "RockingHorseModel", name := "missed", desc := "(I)I" } : Jvm.MethodName)) ∈ lw_all := lw_g (lw_at lw_m6 217 rfl) rfl
theorem q1527 : (Jvm.Cond.methodLink "RockingHorseLaw" (139 : Nat) ({ cls := "RockingHorseModel", name := "paid", desc := "(I)I" } : Jvm.MethodName)) ∈ lw_all := lw_g (lw_at lw_m6 221 rfl) rfl
theorem q1531 : (Jvm.Cond.methodLink "RockingHorseLaw" (143 : Nat) ({ cls := "RockingHorseModel", name := "fairest", desc := "()I" } : Jvm.MethodName)) ∈ lw_all := lw_g (lw_at lw_m6 225 rfl) rfl
theorem q1535 : (Jvm.Cond.methodLink "RockingHorseLaw" (147 : Nat) ({ cls := "RockingHorseModel", name := "away", desc := "()I" } : Jvm.MethodName)) ∈ lw_all := lw_g (lw_at lw_m6 229 rfl) rfl
theorem q1539 : (Jvm.Cond.methodLink "RockingHorseLaw" (151 : Nat) ({ cls := "RockingHorseModel", name := "able", desc := "(I)I" } : Jvm.MethodName)) ∈ lw_all := lw_g (lw_at lw_m6 233 rfl) rfl
theorem q1543 : (Jvm.Cond.methodLink "RockingHorseLaw" (155 : Nat) ({ cls := "RockingHorseModel", name := "spent", desc := "(I)I" } : Jvm.MethodName)) ∈ lw_all := lw_g (lw_at lw_m6 237 rfl) rfl
theorem q1547 : (Jvm.Cond.methodLink "RockingHorseLaw" (159 : Nat) ({ cls := "RockingHorseModel", name := "shared", desc := "(II)I" } : Jvm.MethodName)) ∈ lw_all := lw_g (lw_at lw_m7 1 rfl) rfl
theorem q1551 : (Jvm.Cond.methodLink "RockingHorseLaw" (163 : Nat) ({ cls := "RockingHorseModel", name := "thin", desc := "()I" } : Jvm.MethodName)) ∈ lw_all := lw_g (lw_at lw_m7 5 rfl) rfl
theorem q1559 : (Jvm.Cond.methodLink "RockingHorseLaw" (167 : Nat) ({ cls := "RockingHorseModel", name := "changes", desc := "()I" } : Jvm.MethodName)) ∈ lw_all := lw_g (lw_at lw_m7 13 rfl) rfl
theorem q1563 : (Jvm.Cond.methodLink "RockingHorseLaw" (171 : Nat) ({ cls := "RockingHorseModel", name := "smoothest", desc := "()I" } : Jvm.MethodName)) ∈ lw_all := lw_g (lw_at lw_m7 17 rfl) rfl
theorem q1571 : (Jvm.Cond.methodLink "RockingHorseLaw" (176 : Nat) ({ cls := "RockingHorseModel", name := "meets", desc := "(III)I" } : Jvm.MethodName)) ∈ lw_all := lw_g (lw_at lw_m7 25 rfl) rfl
theorem q1575 : (Jvm.Cond.methodLink "RockingHorseLaw" (180 : Nat) ({ cls := "RockingHorseModel", name := "found", desc := "(III)I" } : Jvm.MethodName)) ∈ lw_all := lw_g (lw_at lw_m7 29 rfl) rfl
theorem q1579 : (Jvm.Cond.methodLink "RockingHorseLaw" (184 : Nat) ({ cls := "RockingHorseModel", name := "forget", desc := "()I" } : Jvm.MethodName)) ∈ lw_all := lw_g (lw_at lw_m7 33 rfl) rfl
theorem q1583 : (Jvm.Cond.methodLink "RockingHorseLaw" (188 : Nat) ({ cls := "RockingHorseModel", name := "fits", desc := "()I" } : Jvm.MethodName)) ∈ lw_all := lw_g (lw_at lw_m7 37 rfl) rfl
theorem q1595 : (Jvm.Cond.methodLink "RockingHorseLaw" (192 : Nat) ({ cls := "RockingHorseModel", name := "sure", desc := "(II)I" } : Jvm.MethodName)) ∈ lw_all := lw_g (lw_at lw_m7 49 rfl) rfl
theorem q1606 : (Jvm.Cond.methodLink "RockingHorseLaw" (196 : Nat) ({ cls := "RockingHorseModel", name := "ask", desc := "()I" } : Jvm.MethodName)) ∈ lw_all := lw_g (lw_at lw_m7 60 rfl) rfl
theorem q1610 : (Jvm.Cond.methodLink "RockingHorseLaw" (200 : Nat) ({ cls := "RockingHorseModel", name := "held", desc := "(I)I" } : Jvm.MethodName)) ∈ lw_all := lw_g (lw_at lw_m7 64 rfl) rfl
theorem q1626 : (Jvm.Cond.methodLink "RockingHorseLaw" (204 : Nat) ({ cls := "RockingHorseModel", name := "keystone", desc := "(I)I" } : Jvm.MethodName)) ∈ lw_all := lw_g (lw_at lw_m7 80 rfl) rfl
theorem q1630 : (Jvm.Cond.methodLink "RockingHorseLaw" (208 : Nat) ({ cls := "RockingHorseModel", name := "rests", desc := "(II)I" } : Jvm.MethodName)) ∈ lw_all := lw_g (lw_at lw_m7 84 rfl) rfl
theorem q1643 : (Jvm.Cond.methodLink "RockingHorseLaw" (212 : Nat) ({ cls := "RockingHorseModel", name := "law", desc := "()I" } : Jvm.MethodName)) ∈ lw_all := lw_g (lw_at lw_m7 97 rfl) rfl
theorem q1651 : (Jvm.Cond.methodLink "RockingHorseLaw" (216 : Nat) ({ cls := "RockingHorseModel", name := "years", desc := "(II)I" } : Jvm.MethodName)) ∈ lw_all := lw_g (lw_at lw_m7 105 rfl) rfl
theorem q1660 : (Jvm.Cond.methodLink "RockingHorseLaw" (220 : Nat) ({ cls := "RockingHorseModel", name := "keep", desc := "(I)Z" } : Jvm.MethodName)) ∈ lw_all := lw_g (lw_at lw_m7 114 rfl) rfl
theorem q1664 : (Jvm.Cond.methodLink "RockingHorseLaw" (224 : Nat) ({ cls := "RockingHorseModel", name := "again", desc := "(I)Z" } : Jvm.MethodName)) ∈ lw_all := lw_g (lw_at lw_m7 118 rfl) rfl
theorem q1668 : (Jvm.Cond.methodLink "RockingHorseLaw" (228 : Nat) ({ cls := "RockingHorseModel", name := "count", desc := "(I)I" } : Jvm.MethodName)) ∈ lw_all := lw_g (lw_at lw_m7 122 rfl) rfl
theorem q1672 : (Jvm.Cond.methodLink "RockingHorseLaw" (232 : Nat) ({ cls := "RockingHorseModel", name := "row", desc := "(I)J" } : Jvm.MethodName)) ∈ lw_all := lw_g (lw_at lw_m7 126 rfl) rfl
