/-! RockingHorse -/
set_option maxRecDepth 100000
def RX1 : String := "RockingHorse"
def TX1 : u_T := fun k => match k with
  | 0 => ("RockingHorse", "now", "LRockingHorse$Horse;", true)
  | 1 => ("RockingHorse", "tried", "LRockingHorse$Horse;", true)
  | 2 => ("RockingHorse", "most", "[I", true)
  | 3 => ("RockingHorse", "width", "[I", true)
  | 4 => ("RockingHorse", "can", "[I", true)
  | 5 => ("RockingHorse", "riders", "I", false)
  | 6 => ("RockingHorse", "hours", "I", false)
  | 7 => ("RockingHorse", "beats", "I", false)
  | 8 => ("RockingHorse", "changes", "I", false)
  | 9 => ("RockingHorse", "text", "[I", true)
  | 10 => ("RockingHorse", "signMany", "I", false)
  | 11 => ("RockingHorse", "at", "I", false)
  | 12 => ("RockingHorse", "end", "I", false)
  | 13 => ("RockingHorse", "nest", "I", false)
  | 14 => ("RockingHorse", "readMost", "[I", true)
  | 15 => ("RockingHorse", "readWidth", "[I", true)
  | 16 => ("RockingHorse", "readCan", "[I", true)
  | 17 => ("RockingHorse", "readMany", "I", false)
  | 18 => ("RockingHorse", "askedHorse", "LRockingHorse$Horse;", false)
  | 19 => ("RockingHorse", "askedRider", "I", false)
  | 20 => ("RockingHorse", "askedHour", "I", false)
  | 21 => ("RockingHorse", "rule", "LRockingHorse$Node;", false)
  | 22 => ("RockingHorse", "readRule", "LRockingHorse$Node;", false)
  | 23 => ("RockingHorse", "undone", "[LRockingHorse$Horse;", true)
  | 24 => ("RockingHorse", "wasAhead", "LRockingHorse$Horse;", true)
  | 25 => ("RockingHorse", "undoMany", "I", false)
  | 26 => ("RockingHorse", "rode", "[I", true)
  | 27 => ("RockingHorse", "hardship", "[I", true)
  | 28 => ("RockingHorse", "gapBits", "I", false)
  | 29 => ("RockingHorse", "riddenBits", "I", false)
  | 30 => ("RockingHorse", "readRota", "[I", true)
  | 31 => ("RockingHorse", "actSign", "[I", true)
  | 32 => ("RockingHorse", "actOne", "[I", true)
  | 33 => ("RockingHorse", "actTwo", "[I", true)
  | 34 => ("RockingHorse", "actMany", "I", false)
  | 35 => ("RockingHorse", "may", "[I", true)
  | 36 => ("RockingHorse", "wasMay", "[I", true)
  | 37 => ("RockingHorse", "price", "[I", true)
  | 38 => ("RockingHorse", "setPrice", "[I", true)
  | 39 => ("RockingHorse", "least", "[I", true)
  | 40 => ("RockingHorse", "turn", "[I", true)
  | 41 => ("RockingHorse", "ways", "[J", true)
  | 42 => ("RockingHorse", "limit", "I", false)
  | 43 => ("RockingHorse", "smooth", "I", false)
  | 44 => ("RockingHorse", "foundMany", "I", false)
  | 45 => ("RockingHorse", "foundHour", "[I", true)
  | 46 => ("RockingHorse", "foundRider", "[I", true)
  | 47 => ("RockingHorse", "foundIs", "[I", true)
  | 48 => ("RockingHorse", "random", "I", false)
  | 49 => ("RockingHorse", "kept", "[LRockingHorse$Horse;", true)
  | 50 => ("RockingHorse", "keptChanges", "[I", true)
  | 51 => ("RockingHorse", "row", "[J", true)
  | _ => ("RockingHorse", "rowMany", "I", false)
def tyX1 : Nat → FieldType := fun k => match k with
  | 0 => .object "RockingHorse$Horse"
  | 1 => .object "RockingHorse$Horse"
  | 2 => .array .int
  | 3 => .array .int
  | 4 => .array .int
  | 5 => .int
  | 6 => .int
  | 7 => .int
  | 8 => .int
  | 9 => .array .int
  | 10 => .int
  | 11 => .int
  | 12 => .int
  | 13 => .int
  | 14 => .array .int
  | 15 => .array .int
  | 16 => .array .int
  | 17 => .int
  | 18 => .object "RockingHorse$Horse"
  | 19 => .int
  | 20 => .int
  | 21 => .object "RockingHorse$Node"
  | 22 => .object "RockingHorse$Node"
  | 23 => .array (.object "RockingHorse$Horse")
  | 24 => .object "RockingHorse$Horse"
  | 25 => .int
  | 26 => .array .int
  | 27 => .array .int
  | 28 => .int
  | 29 => .int
  | 30 => .array .int
  | 31 => .array .int
  | 32 => .array .int
  | 33 => .array .int
  | 34 => .int
  | 35 => .array .int
  | 36 => .array .int
  | 37 => .array .int
  | 38 => .array .int
  | 39 => .array .int
  | 40 => .array .int
  | 41 => .array .long
  | 42 => .int
  | 43 => .int
  | 44 => .int
  | 45 => .array .int
  | 46 => .array .int
  | 47 => .array .int
  | 48 => .int
  | 49 => .array (.object "RockingHorse$Horse")
  | 50 => .array .int
  | 51 => .array .long
  | _ => .int
abbrev wsX10 : List Cond := u_ws RX1 TX1 53
set_option maxRecDepth 100000 in
theorem nmX1 : ∀ a, a < 53 → ∀ b, b < 53 → a ≠ b → (TX1 a).2.1 ≠ (TX1 b).2.1 := by decide +kernel
set_option maxRecDepth 100000 in
theorem tyX1_ok : ∀ k, k < 53 → parseFieldDescriptor (TX1 k).2.2.1 = some (tyX1 k) := by decide +kernel
abbrev cX1_init : ByteArray := prog_1_method_1_code
def yX1_init : MethodName := ⟨RX1, "<init>", "()V"⟩
def dkwX1_init_11 : List UInt8 := [5, 188, 10, 181, 0, 111, 42, 16, 16, 188, 11, 181, 0, 114, 177]
abbrev dktX1_init_11 : List UInt8 := dkwX1_init_11 ++ []
def dkwX1_init_10 : List UInt8 := [16, 12, 188, 10, 181, 0, 102, 42, 16, 12, 188, 10, 181, 0, 105, 42, 5, 189, 0, 9, 181, 0, 108, 42]
abbrev dktX1_init_10 : List UInt8 := dkwX1_init_10 ++ dktX1_init_11
def dkwX1_init_9 : List UInt8 := [17, 1, 0, 188, 11, 181, 0, 91, 42, 18, 95, 181, 0, 96, 42, 16, 12, 188, 10, 181, 0, 99, 42]
abbrev dktX1_init_9 : List UInt8 := dkwX1_init_9 ++ dktX1_init_10
def dkwX1_init_8 : List UInt8 := [188, 10, 181, 0, 82, 42, 17, 1, 0, 188, 10, 181, 0, 85, 42, 16, 8, 188, 10, 181, 0, 88, 42]
abbrev dktX1_init_8 : List UInt8 := dkwX1_init_8 ++ dktX1_init_9
def dkwX1_init_7 : List UInt8 := [181, 0, 73, 42, 16, 8, 188, 10, 181, 0, 76, 42, 16, 64, 188, 10, 181, 0, 79, 42, 17, 1, 0]
abbrev dktX1_init_7 : List UInt8 := dkwX1_init_7 ++ dktX1_init_8
def dkwX1_init_6 : List UInt8 := [181, 0, 64, 42, 16, 60, 188, 10, 181, 0, 67, 42, 16, 60, 188, 10, 181, 0, 70, 42, 16, 8, 188, 10]
abbrev dktX1_init_6 : List UInt8 := dkwX1_init_6 ++ dktX1_init_7
def dkwX1_init_5 : List UInt8 := [181, 0, 55, 42, 16, 8, 188, 10, 181, 0, 58, 42, 16, 8, 188, 10, 181, 0, 61, 42, 16, 60, 188, 10]
abbrev dktX1_init_5 : List UInt8 := dkwX1_init_5 ++ dktX1_init_6
def dkwX1_init_4 : List UInt8 := [16, 12, 189, 0, 9, 181, 0, 48, 42, 187, 0, 9, 89, 183, 0, 11, 181, 0, 52, 42, 16, 8, 188, 10]
abbrev dktX1_init_4 : List UInt8 := dkwX1_init_4 ++ dktX1_init_5
def dkwX1_init_3 : List UInt8 := [16, 8, 188, 10, 181, 0, 39, 42, 16, 8, 188, 10, 181, 0, 42, 42, 16, 8, 188, 10, 181, 0, 45, 42]
abbrev dktX1_init_3 : List UInt8 := dkwX1_init_3 ++ dktX1_init_4
def dkwX1_init_2 : List UInt8 := [181, 0, 26, 42, 16, 8, 181, 0, 29, 42, 7, 181, 0, 33, 42, 16, 80, 188, 10, 181, 0, 36, 42]
abbrev dktX1_init_2 : List UInt8 := dkwX1_init_2 ++ dktX1_init_3
def dkwX1_init_1 : List UInt8 := [181, 0, 16, 42, 16, 8, 188, 10, 181, 0, 19, 42, 16, 8, 188, 10, 181, 0, 23, 42, 16, 8, 188, 10]
abbrev dktX1_init_1 : List UInt8 := dkwX1_init_1 ++ dktX1_init_2
def dkwX1_init_0 : List UInt8 := [42, 183, 0, 3, 42, 187, 0, 9, 89, 183, 0, 11, 181, 0, 12, 42, 187, 0, 9, 89, 183, 0, 11]
abbrev dktX1_init_0 : List UInt8 := dkwX1_init_0 ++ dktX1_init_1
theorem dksX1_init_0 : cX1_init.data.toList.drop 0 = dktX1_init_0 := by decide +kernel
theorem dksX1_init_1 : cX1_init.data.toList.drop 23 = dktX1_init_1 := dk_seg dksX1_init_0 23 rfl rfl
theorem dksX1_init_2 : cX1_init.data.toList.drop 47 = dktX1_init_2 := dk_seg dksX1_init_1 24 rfl rfl
theorem dksX1_init_3 : cX1_init.data.toList.drop 70 = dktX1_init_3 := dk_seg dksX1_init_2 23 rfl rfl
theorem dksX1_init_4 : cX1_init.data.toList.drop 94 = dktX1_init_4 := dk_seg dksX1_init_3 24 rfl rfl
theorem dksX1_init_5 : cX1_init.data.toList.drop 118 = dktX1_init_5 := dk_seg dksX1_init_4 24 rfl rfl
theorem dksX1_init_6 : cX1_init.data.toList.drop 142 = dktX1_init_6 := dk_seg dksX1_init_5 24 rfl rfl
theorem dksX1_init_7 : cX1_init.data.toList.drop 166 = dktX1_init_7 := dk_seg dksX1_init_6 24 rfl rfl
theorem dksX1_init_8 : cX1_init.data.toList.drop 189 = dktX1_init_8 := dk_seg dksX1_init_7 23 rfl rfl
theorem dksX1_init_9 : cX1_init.data.toList.drop 212 = dktX1_init_9 := dk_seg dksX1_init_8 23 rfl rfl
theorem dksX1_init_10 : cX1_init.data.toList.drop 235 = dktX1_init_10 := dk_seg dksX1_init_9 23 rfl rfl
theorem dksX1_init_11 : cX1_init.data.toList.drop 259 = dktX1_init_11 := dk_seg dksX1_init_10 24 rfl rfl
theorem dX1_init_0 : decode cX1_init 0 = .ok (.aload_n 0, 1) := dk_42 (dk_at dksX1_init_0 0 rfl rfl)
theorem dX1_init_1 : decode cX1_init 1 = .ok (.invokespecial 3, 3) := dk_183 0 3 (dk_at dksX1_init_0 1 rfl rfl)
theorem dX1_init_4 : decode cX1_init 4 = .ok (.aload_n 0, 1) := dk_42 (dk_at dksX1_init_0 4 rfl rfl)
theorem dX1_init_5 : decode cX1_init 5 = .ok (.new 9, 3) := dk_187 0 9 (dk_at dksX1_init_0 5 rfl rfl)
theorem dX1_init_8 : decode cX1_init 8 = .ok (.dup, 1) := dk_89 (dk_at dksX1_init_0 8 rfl rfl)
theorem dX1_init_9 : decode cX1_init 9 = .ok (.invokespecial 11, 3) := dk_183 0 11 (dk_at dksX1_init_0 9 rfl rfl)
theorem dX1_init_12 : decode cX1_init 12 = .ok (.putfield 12, 3) := dk_181 0 12 (dk_at dksX1_init_0 12 rfl rfl)
theorem dX1_init_15 : decode cX1_init 15 = .ok (.aload_n 0, 1) := dk_42 (dk_at dksX1_init_0 15 rfl rfl)
theorem dX1_init_16 : decode cX1_init 16 = .ok (.new 9, 3) := dk_187 0 9 (dk_at dksX1_init_0 16 rfl rfl)
theorem dX1_init_19 : decode cX1_init 19 = .ok (.dup, 1) := dk_89 (dk_at dksX1_init_0 19 rfl rfl)
theorem dX1_init_20 : decode cX1_init 20 = .ok (.invokespecial 11, 3) := dk_183 0 11 (dk_at dksX1_init_0 20 rfl rfl)
theorem dX1_init_23 : decode cX1_init 23 = .ok (.putfield 16, 3) := dk_181 0 16 (dk_at dksX1_init_1 0 rfl rfl)
theorem dX1_init_26 : decode cX1_init 26 = .ok (.aload_n 0, 1) := dk_42 (dk_at dksX1_init_1 3 rfl rfl)
theorem dX1_init_27 : decode cX1_init 27 = .ok (.bipush 8, 2) := dk_16 8 (dk_at dksX1_init_1 4 rfl rfl)
theorem dX1_init_29 : decode cX1_init 29 = .ok (.newarray .int, 2) := dk_188_10 (dk_at dksX1_init_1 6 rfl rfl)
theorem dX1_init_31 : decode cX1_init 31 = .ok (.putfield 19, 3) := dk_181 0 19 (dk_at dksX1_init_1 8 rfl rfl)
theorem dX1_init_34 : decode cX1_init 34 = .ok (.aload_n 0, 1) := dk_42 (dk_at dksX1_init_1 11 rfl rfl)
theorem dX1_init_35 : decode cX1_init 35 = .ok (.bipush 8, 2) := dk_16 8 (dk_at dksX1_init_1 12 rfl rfl)
theorem dX1_init_37 : decode cX1_init 37 = .ok (.newarray .int, 2) := dk_188_10 (dk_at dksX1_init_1 14 rfl rfl)
theorem dX1_init_39 : decode cX1_init 39 = .ok (.putfield 23, 3) := dk_181 0 23 (dk_at dksX1_init_1 16 rfl rfl)
theorem dX1_init_42 : decode cX1_init 42 = .ok (.aload_n 0, 1) := dk_42 (dk_at dksX1_init_1 19 rfl rfl)
theorem dX1_init_43 : decode cX1_init 43 = .ok (.bipush 8, 2) := dk_16 8 (dk_at dksX1_init_1 20 rfl rfl)
theorem dX1_init_45 : decode cX1_init 45 = .ok (.newarray .int, 2) := dk_188_10 (dk_at dksX1_init_1 22 rfl rfl)
theorem dX1_init_47 : decode cX1_init 47 = .ok (.putfield 26, 3) := dk_181 0 26 (dk_at dksX1_init_2 0 rfl rfl)
theorem dX1_init_50 : decode cX1_init 50 = .ok (.aload_n 0, 1) := dk_42 (dk_at dksX1_init_2 3 rfl rfl)
theorem dX1_init_51 : decode cX1_init 51 = .ok (.bipush 8, 2) := dk_16 8 (dk_at dksX1_init_2 4 rfl rfl)
theorem dX1_init_53 : decode cX1_init 53 = .ok (.putfield 29, 3) := dk_181 0 29 (dk_at dksX1_init_2 6 rfl rfl)
theorem dX1_init_56 : decode cX1_init 56 = .ok (.aload_n 0, 1) := dk_42 (dk_at dksX1_init_2 9 rfl rfl)
theorem dX1_init_57 : decode cX1_init 57 = .ok (.iconst 4, 1) := dk_7 (dk_at dksX1_init_2 10 rfl rfl)
theorem dX1_init_58 : decode cX1_init 58 = .ok (.putfield 33, 3) := dk_181 0 33 (dk_at dksX1_init_2 11 rfl rfl)
theorem dX1_init_61 : decode cX1_init 61 = .ok (.aload_n 0, 1) := dk_42 (dk_at dksX1_init_2 14 rfl rfl)
theorem dX1_init_62 : decode cX1_init 62 = .ok (.bipush 80, 2) := dk_16 80 (dk_at dksX1_init_2 15 rfl rfl)
theorem dX1_init_64 : decode cX1_init 64 = .ok (.newarray .int, 2) := dk_188_10 (dk_at dksX1_init_2 17 rfl rfl)
theorem dX1_init_66 : decode cX1_init 66 = .ok (.putfield 36, 3) := dk_181 0 36 (dk_at dksX1_init_2 19 rfl rfl)
theorem dX1_init_69 : decode cX1_init 69 = .ok (.aload_n 0, 1) := dk_42 (dk_at dksX1_init_2 22 rfl rfl)
theorem dX1_init_70 : decode cX1_init 70 = .ok (.bipush 8, 2) := dk_16 8 (dk_at dksX1_init_3 0 rfl rfl)
theorem dX1_init_72 : decode cX1_init 72 = .ok (.newarray .int, 2) := dk_188_10 (dk_at dksX1_init_3 2 rfl rfl)
theorem dX1_init_74 : decode cX1_init 74 = .ok (.putfield 39, 3) := dk_181 0 39 (dk_at dksX1_init_3 4 rfl rfl)
theorem dX1_init_77 : decode cX1_init 77 = .ok (.aload_n 0, 1) := dk_42 (dk_at dksX1_init_3 7 rfl rfl)
theorem dX1_init_78 : decode cX1_init 78 = .ok (.bipush 8, 2) := dk_16 8 (dk_at dksX1_init_3 8 rfl rfl)
theorem dX1_init_80 : decode cX1_init 80 = .ok (.newarray .int, 2) := dk_188_10 (dk_at dksX1_init_3 10 rfl rfl)
theorem dX1_init_82 : decode cX1_init 82 = .ok (.putfield 42, 3) := dk_181 0 42 (dk_at dksX1_init_3 12 rfl rfl)
theorem dX1_init_85 : decode cX1_init 85 = .ok (.aload_n 0, 1) := dk_42 (dk_at dksX1_init_3 15 rfl rfl)
theorem dX1_init_86 : decode cX1_init 86 = .ok (.bipush 8, 2) := dk_16 8 (dk_at dksX1_init_3 16 rfl rfl)
theorem dX1_init_88 : decode cX1_init 88 = .ok (.newarray .int, 2) := dk_188_10 (dk_at dksX1_init_3 18 rfl rfl)
theorem dX1_init_90 : decode cX1_init 90 = .ok (.putfield 45, 3) := dk_181 0 45 (dk_at dksX1_init_3 20 rfl rfl)
theorem dX1_init_93 : decode cX1_init 93 = .ok (.aload_n 0, 1) := dk_42 (dk_at dksX1_init_3 23 rfl rfl)
theorem dX1_init_94 : decode cX1_init 94 = .ok (.bipush 12, 2) := dk_16 12 (dk_at dksX1_init_4 0 rfl rfl)
theorem dX1_init_96 : decode cX1_init 96 = .ok (.anewarray 9, 3) := dk_189 0 9 (dk_at dksX1_init_4 2 rfl rfl)
theorem dX1_init_99 : decode cX1_init 99 = .ok (.putfield 48, 3) := dk_181 0 48 (dk_at dksX1_init_4 5 rfl rfl)
theorem dX1_init_102 : decode cX1_init 102 = .ok (.aload_n 0, 1) := dk_42 (dk_at dksX1_init_4 8 rfl rfl)
theorem dX1_init_103 : decode cX1_init 103 = .ok (.new 9, 3) := dk_187 0 9 (dk_at dksX1_init_4 9 rfl rfl)
theorem dX1_init_106 : decode cX1_init 106 = .ok (.dup, 1) := dk_89 (dk_at dksX1_init_4 12 rfl rfl)
theorem dX1_init_107 : decode cX1_init 107 = .ok (.invokespecial 11, 3) := dk_183 0 11 (dk_at dksX1_init_4 13 rfl rfl)
theorem dX1_init_110 : decode cX1_init 110 = .ok (.putfield 52, 3) := dk_181 0 52 (dk_at dksX1_init_4 16 rfl rfl)
theorem dX1_init_113 : decode cX1_init 113 = .ok (.aload_n 0, 1) := dk_42 (dk_at dksX1_init_4 19 rfl rfl)
theorem dX1_init_114 : decode cX1_init 114 = .ok (.bipush 8, 2) := dk_16 8 (dk_at dksX1_init_4 20 rfl rfl)
theorem dX1_init_116 : decode cX1_init 116 = .ok (.newarray .int, 2) := dk_188_10 (dk_at dksX1_init_4 22 rfl rfl)
theorem dX1_init_118 : decode cX1_init 118 = .ok (.putfield 55, 3) := dk_181 0 55 (dk_at dksX1_init_5 0 rfl rfl)
theorem dX1_init_121 : decode cX1_init 121 = .ok (.aload_n 0, 1) := dk_42 (dk_at dksX1_init_5 3 rfl rfl)
theorem dX1_init_122 : decode cX1_init 122 = .ok (.bipush 8, 2) := dk_16 8 (dk_at dksX1_init_5 4 rfl rfl)
theorem dX1_init_124 : decode cX1_init 124 = .ok (.newarray .int, 2) := dk_188_10 (dk_at dksX1_init_5 6 rfl rfl)
theorem dX1_init_126 : decode cX1_init 126 = .ok (.putfield 58, 3) := dk_181 0 58 (dk_at dksX1_init_5 8 rfl rfl)
theorem dX1_init_129 : decode cX1_init 129 = .ok (.aload_n 0, 1) := dk_42 (dk_at dksX1_init_5 11 rfl rfl)
theorem dX1_init_130 : decode cX1_init 130 = .ok (.bipush 8, 2) := dk_16 8 (dk_at dksX1_init_5 12 rfl rfl)
theorem dX1_init_132 : decode cX1_init 132 = .ok (.newarray .int, 2) := dk_188_10 (dk_at dksX1_init_5 14 rfl rfl)
theorem dX1_init_134 : decode cX1_init 134 = .ok (.putfield 61, 3) := dk_181 0 61 (dk_at dksX1_init_5 16 rfl rfl)
theorem dX1_init_137 : decode cX1_init 137 = .ok (.aload_n 0, 1) := dk_42 (dk_at dksX1_init_5 19 rfl rfl)
theorem dX1_init_138 : decode cX1_init 138 = .ok (.bipush 60, 2) := dk_16 60 (dk_at dksX1_init_5 20 rfl rfl)
theorem dX1_init_140 : decode cX1_init 140 = .ok (.newarray .int, 2) := dk_188_10 (dk_at dksX1_init_5 22 rfl rfl)
theorem dX1_init_142 : decode cX1_init 142 = .ok (.putfield 64, 3) := dk_181 0 64 (dk_at dksX1_init_6 0 rfl rfl)
theorem dX1_init_145 : decode cX1_init 145 = .ok (.aload_n 0, 1) := dk_42 (dk_at dksX1_init_6 3 rfl rfl)
theorem dX1_init_146 : decode cX1_init 146 = .ok (.bipush 60, 2) := dk_16 60 (dk_at dksX1_init_6 4 rfl rfl)
theorem dX1_init_148 : decode cX1_init 148 = .ok (.newarray .int, 2) := dk_188_10 (dk_at dksX1_init_6 6 rfl rfl)
theorem dX1_init_150 : decode cX1_init 150 = .ok (.putfield 67, 3) := dk_181 0 67 (dk_at dksX1_init_6 8 rfl rfl)
theorem dX1_init_153 : decode cX1_init 153 = .ok (.aload_n 0, 1) := dk_42 (dk_at dksX1_init_6 11 rfl rfl)
theorem dX1_init_154 : decode cX1_init 154 = .ok (.bipush 60, 2) := dk_16 60 (dk_at dksX1_init_6 12 rfl rfl)
theorem dX1_init_156 : decode cX1_init 156 = .ok (.newarray .int, 2) := dk_188_10 (dk_at dksX1_init_6 14 rfl rfl)
theorem dX1_init_158 : decode cX1_init 158 = .ok (.putfield 70, 3) := dk_181 0 70 (dk_at dksX1_init_6 16 rfl rfl)
theorem dX1_init_161 : decode cX1_init 161 = .ok (.aload_n 0, 1) := dk_42 (dk_at dksX1_init_6 19 rfl rfl)
theorem dX1_init_162 : decode cX1_init 162 = .ok (.bipush 8, 2) := dk_16 8 (dk_at dksX1_init_6 20 rfl rfl)
theorem dX1_init_164 : decode cX1_init 164 = .ok (.newarray .int, 2) := dk_188_10 (dk_at dksX1_init_6 22 rfl rfl)
theorem dX1_init_166 : decode cX1_init 166 = .ok (.putfield 73, 3) := dk_181 0 73 (dk_at dksX1_init_7 0 rfl rfl)
theorem dX1_init_169 : decode cX1_init 169 = .ok (.aload_n 0, 1) := dk_42 (dk_at dksX1_init_7 3 rfl rfl)
theorem dX1_init_170 : decode cX1_init 170 = .ok (.bipush 8, 2) := dk_16 8 (dk_at dksX1_init_7 4 rfl rfl)
theorem dX1_init_172 : decode cX1_init 172 = .ok (.newarray .int, 2) := dk_188_10 (dk_at dksX1_init_7 6 rfl rfl)
theorem dX1_init_174 : decode cX1_init 174 = .ok (.putfield 76, 3) := dk_181 0 76 (dk_at dksX1_init_7 8 rfl rfl)
theorem dX1_init_177 : decode cX1_init 177 = .ok (.aload_n 0, 1) := dk_42 (dk_at dksX1_init_7 11 rfl rfl)
theorem dX1_init_178 : decode cX1_init 178 = .ok (.bipush 64, 2) := dk_16 64 (dk_at dksX1_init_7 12 rfl rfl)
theorem dX1_init_180 : decode cX1_init 180 = .ok (.newarray .int, 2) := dk_188_10 (dk_at dksX1_init_7 14 rfl rfl)
theorem dX1_init_182 : decode cX1_init 182 = .ok (.putfield 79, 3) := dk_181 0 79 (dk_at dksX1_init_7 16 rfl rfl)
theorem dX1_init_185 : decode cX1_init 185 = .ok (.aload_n 0, 1) := dk_42 (dk_at dksX1_init_7 19 rfl rfl)
theorem dX1_init_186 : decode cX1_init 186 = .ok (.sipush 256, 3) := dk_17 1 0 (dk_at dksX1_init_7 20 rfl rfl)
theorem dX1_init_189 : decode cX1_init 189 = .ok (.newarray .int, 2) := dk_188_10 (dk_at dksX1_init_8 0 rfl rfl)
theorem dX1_init_191 : decode cX1_init 191 = .ok (.putfield 82, 3) := dk_181 0 82 (dk_at dksX1_init_8 2 rfl rfl)
theorem dX1_init_194 : decode cX1_init 194 = .ok (.aload_n 0, 1) := dk_42 (dk_at dksX1_init_8 5 rfl rfl)
theorem dX1_init_195 : decode cX1_init 195 = .ok (.sipush 256, 3) := dk_17 1 0 (dk_at dksX1_init_8 6 rfl rfl)
theorem dX1_init_198 : decode cX1_init 198 = .ok (.newarray .int, 2) := dk_188_10 (dk_at dksX1_init_8 9 rfl rfl)
theorem dX1_init_200 : decode cX1_init 200 = .ok (.putfield 85, 3) := dk_181 0 85 (dk_at dksX1_init_8 11 rfl rfl)
theorem dX1_init_203 : decode cX1_init 203 = .ok (.aload_n 0, 1) := dk_42 (dk_at dksX1_init_8 14 rfl rfl)
theorem dX1_init_204 : decode cX1_init 204 = .ok (.bipush 8, 2) := dk_16 8 (dk_at dksX1_init_8 15 rfl rfl)
theorem dX1_init_206 : decode cX1_init 206 = .ok (.newarray .int, 2) := dk_188_10 (dk_at dksX1_init_8 17 rfl rfl)
theorem dX1_init_208 : decode cX1_init 208 = .ok (.putfield 88, 3) := dk_181 0 88 (dk_at dksX1_init_8 19 rfl rfl)
theorem dX1_init_211 : decode cX1_init 211 = .ok (.aload_n 0, 1) := dk_42 (dk_at dksX1_init_8 22 rfl rfl)
theorem dX1_init_212 : decode cX1_init 212 = .ok (.sipush 256, 3) := dk_17 1 0 (dk_at dksX1_init_9 0 rfl rfl)
theorem dX1_init_215 : decode cX1_init 215 = .ok (.newarray .long, 2) := dk_188_11 (dk_at dksX1_init_9 3 rfl rfl)
theorem dX1_init_217 : decode cX1_init 217 = .ok (.putfield 91, 3) := dk_181 0 91 (dk_at dksX1_init_9 5 rfl rfl)
theorem dX1_init_220 : decode cX1_init 220 = .ok (.aload_n 0, 1) := dk_42 (dk_at dksX1_init_9 8 rfl rfl)
theorem dX1_init_221 : decode cX1_init 221 = .ok (.ldc 95, 2) := dk_18 95 (dk_at dksX1_init_9 9 rfl rfl)
theorem dX1_init_223 : decode cX1_init 223 = .ok (.putfield 96, 3) := dk_181 0 96 (dk_at dksX1_init_9 11 rfl rfl)
theorem dX1_init_226 : decode cX1_init 226 = .ok (.aload_n 0, 1) := dk_42 (dk_at dksX1_init_9 14 rfl rfl)
theorem dX1_init_227 : decode cX1_init 227 = .ok (.bipush 12, 2) := dk_16 12 (dk_at dksX1_init_9 15 rfl rfl)
theorem dX1_init_229 : decode cX1_init 229 = .ok (.newarray .int, 2) := dk_188_10 (dk_at dksX1_init_9 17 rfl rfl)
theorem dX1_init_231 : decode cX1_init 231 = .ok (.putfield 99, 3) := dk_181 0 99 (dk_at dksX1_init_9 19 rfl rfl)
theorem dX1_init_234 : decode cX1_init 234 = .ok (.aload_n 0, 1) := dk_42 (dk_at dksX1_init_9 22 rfl rfl)
theorem dX1_init_235 : decode cX1_init 235 = .ok (.bipush 12, 2) := dk_16 12 (dk_at dksX1_init_10 0 rfl rfl)
theorem dX1_init_237 : decode cX1_init 237 = .ok (.newarray .int, 2) := dk_188_10 (dk_at dksX1_init_10 2 rfl rfl)
theorem dX1_init_239 : decode cX1_init 239 = .ok (.putfield 102, 3) := dk_181 0 102 (dk_at dksX1_init_10 4 rfl rfl)
theorem dX1_init_242 : decode cX1_init 242 = .ok (.aload_n 0, 1) := dk_42 (dk_at dksX1_init_10 7 rfl rfl)
theorem dX1_init_243 : decode cX1_init 243 = .ok (.bipush 12, 2) := dk_16 12 (dk_at dksX1_init_10 8 rfl rfl)
theorem dX1_init_245 : decode cX1_init 245 = .ok (.newarray .int, 2) := dk_188_10 (dk_at dksX1_init_10 10 rfl rfl)
theorem dX1_init_247 : decode cX1_init 247 = .ok (.putfield 105, 3) := dk_181 0 105 (dk_at dksX1_init_10 12 rfl rfl)
theorem dX1_init_250 : decode cX1_init 250 = .ok (.aload_n 0, 1) := dk_42 (dk_at dksX1_init_10 15 rfl rfl)
theorem dX1_init_251 : decode cX1_init 251 = .ok (.iconst 2, 1) := dk_5 (dk_at dksX1_init_10 16 rfl rfl)
theorem dX1_init_252 : decode cX1_init 252 = .ok (.anewarray 9, 3) := dk_189 0 9 (dk_at dksX1_init_10 17 rfl rfl)
theorem dX1_init_255 : decode cX1_init 255 = .ok (.putfield 108, 3) := dk_181 0 108 (dk_at dksX1_init_10 20 rfl rfl)
theorem dX1_init_258 : decode cX1_init 258 = .ok (.aload_n 0, 1) := dk_42 (dk_at dksX1_init_10 23 rfl rfl)
theorem dX1_init_259 : decode cX1_init 259 = .ok (.iconst 2, 1) := dk_5 (dk_at dksX1_init_11 0 rfl rfl)
theorem dX1_init_260 : decode cX1_init 260 = .ok (.newarray .int, 2) := dk_188_10 (dk_at dksX1_init_11 1 rfl rfl)
theorem dX1_init_262 : decode cX1_init 262 = .ok (.putfield 111, 3) := dk_181 0 111 (dk_at dksX1_init_11 3 rfl rfl)
theorem dX1_init_265 : decode cX1_init 265 = .ok (.aload_n 0, 1) := dk_42 (dk_at dksX1_init_11 6 rfl rfl)
theorem dX1_init_266 : decode cX1_init 266 = .ok (.bipush 16, 2) := dk_16 16 (dk_at dksX1_init_11 7 rfl rfl)
theorem dX1_init_268 : decode cX1_init 268 = .ok (.newarray .long, 2) := dk_188_11 (dk_at dksX1_init_11 9 rfl rfl)
theorem dX1_init_270 : decode cX1_init 270 = .ok (.putfield 114, 3) := dk_181 0 114 (dk_at dksX1_init_11 11 rfl rfl)
theorem dX1_init_273 : decode cX1_init 273 = .ok (.return_, 1) := dk_177 (dk_at dksX1_init_11 14 rfl rfl)
abbrev cX1_sign : ByteArray := prog_1_method_11_code
def yX1_sign : MethodName := ⟨RX1, "sign", "(I)I"⟩
def dkwX1_sign_2 : List UInt8 := [167, 255, 224, 42, 89, 180, 0, 132, 7, 96, 181, 0, 132, 42, 180, 0, 132, 172]
abbrev dktX1_sign_2 : List UInt8 := dkwX1_sign_2 ++ []
def dkwX1_sign_1 : List UInt8 := [180, 0, 132, 28, 96, 27, 16, 24, 16, 8, 28, 104, 100, 122, 17, 0, 255, 126, 79, 132, 2, 1]
abbrev dktX1_sign_1 : List UInt8 := dkwX1_sign_1 ++ dktX1_sign_2
def dkwX1_sign_0 : List UInt8 := [42, 180, 0, 132, 16, 76, 164, 0, 5, 2, 172, 3, 61, 28, 7, 162, 0, 33, 42, 180, 0, 36, 42]
abbrev dktX1_sign_0 : List UInt8 := dkwX1_sign_0 ++ dktX1_sign_1
theorem dksX1_sign_0 : cX1_sign.data.toList.drop 0 = dktX1_sign_0 := by decide +kernel
theorem dksX1_sign_1 : cX1_sign.data.toList.drop 23 = dktX1_sign_1 := dk_seg dksX1_sign_0 23 rfl rfl
theorem dksX1_sign_2 : cX1_sign.data.toList.drop 45 = dktX1_sign_2 := dk_seg dksX1_sign_1 22 rfl rfl
theorem dX1_sign_0 : decode cX1_sign 0 = .ok (.aload_n 0, 1) := dk_42 (dk_at dksX1_sign_0 0 rfl rfl)
theorem dX1_sign_1 : decode cX1_sign 1 = .ok (.getfield 132, 3) := dk_180 0 132 (dk_at dksX1_sign_0 1 rfl rfl)
theorem dX1_sign_4 : decode cX1_sign 4 = .ok (.bipush 76, 2) := dk_16 76 (dk_at dksX1_sign_0 4 rfl rfl)
theorem dX1_sign_6 : decode cX1_sign 6 = .ok (.if_icmp .le 5, 3) := dk_164 0 5 (dk_at dksX1_sign_0 6 rfl rfl)
theorem dX1_sign_9 : decode cX1_sign 9 = .ok (.iconst (-1), 1) := dk_2 (dk_at dksX1_sign_0 9 rfl rfl)
theorem dX1_sign_10 : decode cX1_sign 10 = .ok (.ireturn, 1) := dk_172 (dk_at dksX1_sign_0 10 rfl rfl)
theorem dX1_sign_11 : decode cX1_sign 11 = .ok (.iconst 0, 1) := dk_3 (dk_at dksX1_sign_0 11 rfl rfl)
theorem dX1_sign_12 : decode cX1_sign 12 = .ok (.istore_n 2, 1) := dk_61 (dk_at dksX1_sign_0 12 rfl rfl)
theorem dX1_sign_13 : decode cX1_sign 13 = .ok (.iload_n 2, 1) := dk_28 (dk_at dksX1_sign_0 13 rfl rfl)
theorem dX1_sign_14 : decode cX1_sign 14 = .ok (.iconst 4, 1) := dk_7 (dk_at dksX1_sign_0 14 rfl rfl)
theorem dX1_sign_15 : decode cX1_sign 15 = .ok (.if_icmp .ge 33, 3) := dk_162 0 33 (dk_at dksX1_sign_0 15 rfl rfl)
theorem dX1_sign_18 : decode cX1_sign 18 = .ok (.aload_n 0, 1) := dk_42 (dk_at dksX1_sign_0 18 rfl rfl)
theorem dX1_sign_19 : decode cX1_sign 19 = .ok (.getfield 36, 3) := dk_180 0 36 (dk_at dksX1_sign_0 19 rfl rfl)
theorem dX1_sign_22 : decode cX1_sign 22 = .ok (.aload_n 0, 1) := dk_42 (dk_at dksX1_sign_0 22 rfl rfl)
theorem dX1_sign_23 : decode cX1_sign 23 = .ok (.getfield 132, 3) := dk_180 0 132 (dk_at dksX1_sign_1 0 rfl rfl)
theorem dX1_sign_26 : decode cX1_sign 26 = .ok (.iload_n 2, 1) := dk_28 (dk_at dksX1_sign_1 3 rfl rfl)
theorem dX1_sign_27 : decode cX1_sign 27 = .ok (.iadd, 1) := dk_96 (dk_at dksX1_sign_1 4 rfl rfl)
theorem dX1_sign_28 : decode cX1_sign 28 = .ok (.iload_n 1, 1) := dk_27 (dk_at dksX1_sign_1 5 rfl rfl)
theorem dX1_sign_29 : decode cX1_sign 29 = .ok (.bipush 24, 2) := dk_16 24 (dk_at dksX1_sign_1 6 rfl rfl)
theorem dX1_sign_31 : decode cX1_sign 31 = .ok (.bipush 8, 2) := dk_16 8 (dk_at dksX1_sign_1 8 rfl rfl)
theorem dX1_sign_33 : decode cX1_sign 33 = .ok (.iload_n 2, 1) := dk_28 (dk_at dksX1_sign_1 10 rfl rfl)
theorem dX1_sign_34 : decode cX1_sign 34 = .ok (.imul, 1) := dk_104 (dk_at dksX1_sign_1 11 rfl rfl)
theorem dX1_sign_35 : decode cX1_sign 35 = .ok (.isub, 1) := dk_100 (dk_at dksX1_sign_1 12 rfl rfl)
theorem dX1_sign_36 : decode cX1_sign 36 = .ok (.ishr, 1) := dk_122 (dk_at dksX1_sign_1 13 rfl rfl)
theorem dX1_sign_37 : decode cX1_sign 37 = .ok (.sipush 255, 3) := dk_17 0 255 (dk_at dksX1_sign_1 14 rfl rfl)
theorem dX1_sign_40 : decode cX1_sign 40 = .ok (.iand, 1) := dk_126 (dk_at dksX1_sign_1 17 rfl rfl)
theorem dX1_sign_41 : decode cX1_sign 41 = .ok (.iastore, 1) := dk_79 (dk_at dksX1_sign_1 18 rfl rfl)
theorem dX1_sign_42 : decode cX1_sign 42 = .ok (.iinc 2 1, 3) := dk_132 2 1 (dk_at dksX1_sign_1 19 rfl rfl)
theorem dX1_sign_45 : decode cX1_sign 45 = .ok (.goto (-32), 3) := dk_167 255 224 (dk_at dksX1_sign_2 0 rfl rfl)
theorem dX1_sign_48 : decode cX1_sign 48 = .ok (.aload_n 0, 1) := dk_42 (dk_at dksX1_sign_2 3 rfl rfl)
theorem dX1_sign_49 : decode cX1_sign 49 = .ok (.dup, 1) := dk_89 (dk_at dksX1_sign_2 4 rfl rfl)
theorem dX1_sign_50 : decode cX1_sign 50 = .ok (.getfield 132, 3) := dk_180 0 132 (dk_at dksX1_sign_2 5 rfl rfl)
theorem dX1_sign_53 : decode cX1_sign 53 = .ok (.iconst 4, 1) := dk_7 (dk_at dksX1_sign_2 8 rfl rfl)
theorem dX1_sign_54 : decode cX1_sign 54 = .ok (.iadd, 1) := dk_96 (dk_at dksX1_sign_2 9 rfl rfl)
theorem dX1_sign_55 : decode cX1_sign 55 = .ok (.putfield 132, 3) := dk_181 0 132 (dk_at dksX1_sign_2 10 rfl rfl)
theorem dX1_sign_58 : decode cX1_sign 58 = .ok (.aload_n 0, 1) := dk_42 (dk_at dksX1_sign_2 13 rfl rfl)
theorem dX1_sign_59 : decode cX1_sign 59 = .ok (.getfield 132, 3) := dk_180 0 132 (dk_at dksX1_sign_2 14 rfl rfl)
theorem dX1_sign_62 : decode cX1_sign 62 = .ok (.ireturn, 1) := dk_172 (dk_at dksX1_sign_2 17 rfl rfl)
abbrev cX1_end : ByteArray := prog_1_method_12_code
def yX1_end : MethodName := ⟨RX1, "end", "(I)Z"⟩
def dkwX1_end_0 : List UInt8 := [27, 133, 9, 42, 180, 0, 132, 133, 184, 0, 124, 154, 0, 5, 3, 172, 42, 27, 181, 0, 132, 4, 172]
abbrev dktX1_end_0 : List UInt8 := dkwX1_end_0 ++ []
theorem dksX1_end_0 : cX1_end.data.toList.drop 0 = dktX1_end_0 := by decide +kernel
theorem dX1_end_0 : decode cX1_end 0 = .ok (.iload_n 1, 1) := dk_27 (dk_at dksX1_end_0 0 rfl rfl)
theorem dX1_end_1 : decode cX1_end 1 = .ok (.i2l, 1) := dk_133 (dk_at dksX1_end_0 1 rfl rfl)
theorem dX1_end_2 : decode cX1_end 2 = .ok (.lconst 0, 1) := dk_9 (dk_at dksX1_end_0 2 rfl rfl)
theorem dX1_end_3 : decode cX1_end 3 = .ok (.aload_n 0, 1) := dk_42 (dk_at dksX1_end_0 3 rfl rfl)
theorem dX1_end_4 : decode cX1_end 4 = .ok (.getfield 132, 3) := dk_180 0 132 (dk_at dksX1_end_0 4 rfl rfl)
theorem dX1_end_7 : decode cX1_end 7 = .ok (.i2l, 1) := dk_133 (dk_at dksX1_end_0 7 rfl rfl)
theorem dX1_end_8 : decode cX1_end 8 = .ok (.invokestatic 124, 3) := dk_184 0 124 (dk_at dksX1_end_0 8 rfl rfl)
theorem dX1_end_11 : decode cX1_end 11 = .ok (.ifCond .ne 5, 3) := dk_154 0 5 (dk_at dksX1_end_0 11 rfl rfl)
theorem dX1_end_14 : decode cX1_end 14 = .ok (.iconst 0, 1) := dk_3 (dk_at dksX1_end_0 14 rfl rfl)
theorem dX1_end_15 : decode cX1_end 15 = .ok (.ireturn, 1) := dk_172 (dk_at dksX1_end_0 15 rfl rfl)
theorem dX1_end_16 : decode cX1_end 16 = .ok (.aload_n 0, 1) := dk_42 (dk_at dksX1_end_0 16 rfl rfl)
theorem dX1_end_17 : decode cX1_end 17 = .ok (.iload_n 1, 1) := dk_27 (dk_at dksX1_end_0 17 rfl rfl)
theorem dX1_end_18 : decode cX1_end 18 = .ok (.putfield 132, 3) := dk_181 0 132 (dk_at dksX1_end_0 18 rfl rfl)
theorem dX1_end_21 : decode cX1_end 21 = .ok (.iconst 1, 1) := dk_4 (dk_at dksX1_end_0 21 rfl rfl)
theorem dX1_end_22 : decode cX1_end 22 = .ok (.ireturn, 1) := dk_172 (dk_at dksX1_end_0 22 rfl rfl)
abbrev cX1_in : ByteArray := prog_1_method_2_code
def yX1_in : MethodName := ⟨RX1, "in", "(JJJ)Z"⟩
def dkwX1_in_0 : List UInt8 := [30, 32, 148, 155, 0, 14, 30, 22, 4, 148, 157, 0, 7, 4, 167, 0, 4, 3, 172]
abbrev dktX1_in_0 : List UInt8 := dkwX1_in_0 ++ []
theorem dksX1_in_0 : cX1_in.data.toList.drop 0 = dktX1_in_0 := by decide +kernel
theorem dX1_in_0 : decode cX1_in 0 = .ok (.lload_n 0, 1) := dk_30 (dk_at dksX1_in_0 0 rfl rfl)
theorem dX1_in_1 : decode cX1_in 1 = .ok (.lload_n 2, 1) := dk_32 (dk_at dksX1_in_0 1 rfl rfl)
theorem dX1_in_2 : decode cX1_in 2 = .ok (.lcmp, 1) := dk_148 (dk_at dksX1_in_0 2 rfl rfl)
theorem dX1_in_3 : decode cX1_in 3 = .ok (.ifCond .lt 14, 3) := dk_155 0 14 (dk_at dksX1_in_0 3 rfl rfl)
theorem dX1_in_6 : decode cX1_in 6 = .ok (.lload_n 0, 1) := dk_30 (dk_at dksX1_in_0 6 rfl rfl)
theorem dX1_in_7 : decode cX1_in 7 = .ok (.lload 4, 2) := dk_22 4 (dk_at dksX1_in_0 7 rfl rfl)
theorem dX1_in_9 : decode cX1_in 9 = .ok (.lcmp, 1) := dk_148 (dk_at dksX1_in_0 9 rfl rfl)
theorem dX1_in_10 : decode cX1_in 10 = .ok (.ifCond .gt 7, 3) := dk_157 0 7 (dk_at dksX1_in_0 10 rfl rfl)
theorem dX1_in_13 : decode cX1_in 13 = .ok (.iconst 1, 1) := dk_4 (dk_at dksX1_in_0 13 rfl rfl)
theorem dX1_in_14 : decode cX1_in 14 = .ok (.goto 4, 3) := dk_167 0 4 (dk_at dksX1_in_0 14 rfl rfl)
theorem dX1_in_17 : decode cX1_in 17 = .ok (.iconst 0, 1) := dk_3 (dk_at dksX1_in_0 17 rfl rfl)
theorem dX1_in_18 : decode cX1_in 18 = .ok (.ireturn, 1) := dk_172 (dk_at dksX1_in_0 18 rfl rfl)
abbrev cX1_riders : ByteArray := prog_1_method_22_code
def yX1_riders : MethodName := ⟨RX1, "riders", "()I"⟩
def dkwX1_riders_9 : List UInt8 := [21, 5, 172]
abbrev dktX1_riders_9 : List UInt8 := dkwX1_riders_9 ++ []
def dkwX1_riders_8 : List UInt8 := [4, 96, 181, 0, 121, 167, 255, 148, 42, 3, 181, 0, 203, 42, 89, 180, 0, 206, 4, 96, 181, 0, 206]
abbrev dktX1_riders_8 : List UInt8 := dkwX1_riders_8 ++ dktX1_riders_9
def dkwX1_riders_7 : List UInt8 := [180, 0, 12, 89, 180, 0, 200, 4, 42, 180, 0, 121, 120, 2, 130, 126, 181, 0, 200, 42, 89, 180, 0, 121]
abbrev dktX1_riders_7 : List UInt8 := dkwX1_riders_7 ++ dktX1_riders_8
def dkwX1_riders_6 : List UInt8 := [180, 0, 45, 42, 180, 0, 121, 46, 79, 42, 180, 0, 12, 180, 0, 197, 42, 180, 0, 121, 3, 79, 42]
abbrev dktX1_riders_6 : List UInt8 := dkwX1_riders_6 ++ dktX1_riders_7
def dkwX1_riders_5 : List UInt8 := [180, 0, 121, 42, 180, 0, 42, 42, 180, 0, 121, 46, 79, 42, 180, 0, 26, 42, 180, 0, 121, 42]
abbrev dktX1_riders_5 : List UInt8 := dkwX1_riders_5 ++ dktX1_riders_6
def dkwX1_riders_4 : List UInt8 := [180, 0, 19, 42, 180, 0, 121, 42, 180, 0, 39, 42, 180, 0, 121, 46, 79, 42, 180, 0, 23, 42]
abbrev dktX1_riders_4 : List UInt8 := dkwX1_riders_4 ++ dktX1_riders_5
def dkwX1_riders_3 : List UInt8 := [42, 180, 0, 172, 42, 180, 0, 121, 100, 54, 5, 42, 180, 0, 121, 42, 180, 0, 172, 162, 0, 103, 42]
abbrev dktX1_riders_3 : List UInt8 := dkwX1_riders_3 ++ dktX1_riders_4
def dkwX1_riders_2 : List UInt8 := [167, 0, 4, 3, 62, 167, 255, 228, 42, 27, 28, 182, 0, 193, 54, 4, 21, 4, 156, 0, 6, 21, 4, 172]
abbrev dktX1_riders_2 : List UInt8 := dkwX1_riders_2 ++ dktX1_riders_3
def dkwX1_riders_1 : List UInt8 := [62, 29, 153, 0, 30, 42, 182, 0, 187, 61, 28, 153, 0, 16, 42, 16, 59, 182, 0, 190, 153, 0, 7, 4]
abbrev dktX1_riders_1 : List UInt8 := dkwX1_riders_1 ++ dktX1_riders_2
def dkwX1_riders_0 : List UInt8 := [42, 16, 76, 182, 0, 184, 60, 27, 154, 0, 5, 3, 172, 42, 42, 180, 0, 121, 181, 0, 172, 4, 61, 4]
abbrev dktX1_riders_0 : List UInt8 := dkwX1_riders_0 ++ dktX1_riders_1
theorem dksX1_riders_0 : cX1_riders.data.toList.drop 0 = dktX1_riders_0 := by decide +kernel
theorem dksX1_riders_1 : cX1_riders.data.toList.drop 24 = dktX1_riders_1 := dk_seg dksX1_riders_0 24 rfl rfl
theorem dksX1_riders_2 : cX1_riders.data.toList.drop 48 = dktX1_riders_2 := dk_seg dksX1_riders_1 24 rfl rfl
theorem dksX1_riders_3 : cX1_riders.data.toList.drop 72 = dktX1_riders_3 := dk_seg dksX1_riders_2 24 rfl rfl
theorem dksX1_riders_4 : cX1_riders.data.toList.drop 95 = dktX1_riders_4 := dk_seg dksX1_riders_3 23 rfl rfl
theorem dksX1_riders_5 : cX1_riders.data.toList.drop 117 = dktX1_riders_5 := dk_seg dksX1_riders_4 22 rfl rfl
theorem dksX1_riders_6 : cX1_riders.data.toList.drop 139 = dktX1_riders_6 := dk_seg dksX1_riders_5 22 rfl rfl
theorem dksX1_riders_7 : cX1_riders.data.toList.drop 162 = dktX1_riders_7 := dk_seg dksX1_riders_6 23 rfl rfl
theorem dksX1_riders_8 : cX1_riders.data.toList.drop 186 = dktX1_riders_8 := dk_seg dksX1_riders_7 24 rfl rfl
theorem dksX1_riders_9 : cX1_riders.data.toList.drop 209 = dktX1_riders_9 := dk_seg dksX1_riders_8 23 rfl rfl
theorem dX1_riders_0 : decode cX1_riders 0 = .ok (.aload_n 0, 1) := dk_42 (dk_at dksX1_riders_0 0 rfl rfl)
theorem dX1_riders_1 : decode cX1_riders 1 = .ok (.bipush 76, 2) := dk_16 76 (dk_at dksX1_riders_0 1 rfl rfl)
theorem dX1_riders_3 : decode cX1_riders 3 = .ok (.invokevirtual 184, 3) := dk_182 0 184 (dk_at dksX1_riders_0 3 rfl rfl)
theorem dX1_riders_6 : decode cX1_riders 6 = .ok (.istore_n 1, 1) := dk_60 (dk_at dksX1_riders_0 6 rfl rfl)
theorem dX1_riders_7 : decode cX1_riders 7 = .ok (.iload_n 1, 1) := dk_27 (dk_at dksX1_riders_0 7 rfl rfl)
theorem dX1_riders_8 : decode cX1_riders 8 = .ok (.ifCond .ne 5, 3) := dk_154 0 5 (dk_at dksX1_riders_0 8 rfl rfl)
theorem dX1_riders_11 : decode cX1_riders 11 = .ok (.iconst 0, 1) := dk_3 (dk_at dksX1_riders_0 11 rfl rfl)
theorem dX1_riders_12 : decode cX1_riders 12 = .ok (.ireturn, 1) := dk_172 (dk_at dksX1_riders_0 12 rfl rfl)
theorem dX1_riders_13 : decode cX1_riders 13 = .ok (.aload_n 0, 1) := dk_42 (dk_at dksX1_riders_0 13 rfl rfl)
theorem dX1_riders_14 : decode cX1_riders 14 = .ok (.aload_n 0, 1) := dk_42 (dk_at dksX1_riders_0 14 rfl rfl)
theorem dX1_riders_15 : decode cX1_riders 15 = .ok (.getfield 121, 3) := dk_180 0 121 (dk_at dksX1_riders_0 15 rfl rfl)
theorem dX1_riders_18 : decode cX1_riders 18 = .ok (.putfield 172, 3) := dk_181 0 172 (dk_at dksX1_riders_0 18 rfl rfl)
theorem dX1_riders_21 : decode cX1_riders 21 = .ok (.iconst 1, 1) := dk_4 (dk_at dksX1_riders_0 21 rfl rfl)
theorem dX1_riders_22 : decode cX1_riders 22 = .ok (.istore_n 2, 1) := dk_61 (dk_at dksX1_riders_0 22 rfl rfl)
theorem dX1_riders_23 : decode cX1_riders 23 = .ok (.iconst 1, 1) := dk_4 (dk_at dksX1_riders_0 23 rfl rfl)
theorem dX1_riders_24 : decode cX1_riders 24 = .ok (.istore_n 3, 1) := dk_62 (dk_at dksX1_riders_1 0 rfl rfl)
theorem dX1_riders_25 : decode cX1_riders 25 = .ok (.iload_n 3, 1) := dk_29 (dk_at dksX1_riders_1 1 rfl rfl)
theorem dX1_riders_26 : decode cX1_riders 26 = .ok (.ifCond .eq 30, 3) := dk_153 0 30 (dk_at dksX1_riders_1 2 rfl rfl)
theorem dX1_riders_29 : decode cX1_riders 29 = .ok (.aload_n 0, 1) := dk_42 (dk_at dksX1_riders_1 5 rfl rfl)
theorem dX1_riders_30 : decode cX1_riders 30 = .ok (.invokevirtual 187, 3) := dk_182 0 187 (dk_at dksX1_riders_1 6 rfl rfl)
theorem dX1_riders_33 : decode cX1_riders 33 = .ok (.istore_n 2, 1) := dk_61 (dk_at dksX1_riders_1 9 rfl rfl)
theorem dX1_riders_34 : decode cX1_riders 34 = .ok (.iload_n 2, 1) := dk_28 (dk_at dksX1_riders_1 10 rfl rfl)
theorem dX1_riders_35 : decode cX1_riders 35 = .ok (.ifCond .eq 16, 3) := dk_153 0 16 (dk_at dksX1_riders_1 11 rfl rfl)
theorem dX1_riders_38 : decode cX1_riders 38 = .ok (.aload_n 0, 1) := dk_42 (dk_at dksX1_riders_1 14 rfl rfl)
theorem dX1_riders_39 : decode cX1_riders 39 = .ok (.bipush 59, 2) := dk_16 59 (dk_at dksX1_riders_1 15 rfl rfl)
theorem dX1_riders_41 : decode cX1_riders 41 = .ok (.invokevirtual 190, 3) := dk_182 0 190 (dk_at dksX1_riders_1 17 rfl rfl)
theorem dX1_riders_44 : decode cX1_riders 44 = .ok (.ifCond .eq 7, 3) := dk_153 0 7 (dk_at dksX1_riders_1 20 rfl rfl)
theorem dX1_riders_47 : decode cX1_riders 47 = .ok (.iconst 1, 1) := dk_4 (dk_at dksX1_riders_1 23 rfl rfl)
theorem dX1_riders_48 : decode cX1_riders 48 = .ok (.goto 4, 3) := dk_167 0 4 (dk_at dksX1_riders_2 0 rfl rfl)
theorem dX1_riders_51 : decode cX1_riders 51 = .ok (.iconst 0, 1) := dk_3 (dk_at dksX1_riders_2 3 rfl rfl)
theorem dX1_riders_52 : decode cX1_riders 52 = .ok (.istore_n 3, 1) := dk_62 (dk_at dksX1_riders_2 4 rfl rfl)
theorem dX1_riders_53 : decode cX1_riders 53 = .ok (.goto (-28), 3) := dk_167 255 228 (dk_at dksX1_riders_2 5 rfl rfl)
theorem dX1_riders_56 : decode cX1_riders 56 = .ok (.aload_n 0, 1) := dk_42 (dk_at dksX1_riders_2 8 rfl rfl)
theorem dX1_riders_57 : decode cX1_riders 57 = .ok (.iload_n 1, 1) := dk_27 (dk_at dksX1_riders_2 9 rfl rfl)
theorem dX1_riders_58 : decode cX1_riders 58 = .ok (.iload_n 2, 1) := dk_28 (dk_at dksX1_riders_2 10 rfl rfl)
theorem dX1_riders_59 : decode cX1_riders 59 = .ok (.invokevirtual 193, 3) := dk_182 0 193 (dk_at dksX1_riders_2 11 rfl rfl)
theorem dX1_riders_62 : decode cX1_riders 62 = .ok (.istore 4, 2) := dk_54 4 (dk_at dksX1_riders_2 14 rfl rfl)
theorem dX1_riders_64 : decode cX1_riders 64 = .ok (.iload 4, 2) := dk_21 4 (dk_at dksX1_riders_2 16 rfl rfl)
theorem dX1_riders_66 : decode cX1_riders 66 = .ok (.ifCond .ge 6, 3) := dk_156 0 6 (dk_at dksX1_riders_2 18 rfl rfl)
theorem dX1_riders_69 : decode cX1_riders 69 = .ok (.iload 4, 2) := dk_21 4 (dk_at dksX1_riders_2 21 rfl rfl)
theorem dX1_riders_71 : decode cX1_riders 71 = .ok (.ireturn, 1) := dk_172 (dk_at dksX1_riders_2 23 rfl rfl)
theorem dX1_riders_72 : decode cX1_riders 72 = .ok (.aload_n 0, 1) := dk_42 (dk_at dksX1_riders_3 0 rfl rfl)
theorem dX1_riders_73 : decode cX1_riders 73 = .ok (.getfield 172, 3) := dk_180 0 172 (dk_at dksX1_riders_3 1 rfl rfl)
theorem dX1_riders_76 : decode cX1_riders 76 = .ok (.aload_n 0, 1) := dk_42 (dk_at dksX1_riders_3 4 rfl rfl)
theorem dX1_riders_77 : decode cX1_riders 77 = .ok (.getfield 121, 3) := dk_180 0 121 (dk_at dksX1_riders_3 5 rfl rfl)
theorem dX1_riders_80 : decode cX1_riders 80 = .ok (.isub, 1) := dk_100 (dk_at dksX1_riders_3 8 rfl rfl)
theorem dX1_riders_81 : decode cX1_riders 81 = .ok (.istore 5, 2) := dk_54 5 (dk_at dksX1_riders_3 9 rfl rfl)
theorem dX1_riders_83 : decode cX1_riders 83 = .ok (.aload_n 0, 1) := dk_42 (dk_at dksX1_riders_3 11 rfl rfl)
theorem dX1_riders_84 : decode cX1_riders 84 = .ok (.getfield 121, 3) := dk_180 0 121 (dk_at dksX1_riders_3 12 rfl rfl)
theorem dX1_riders_87 : decode cX1_riders 87 = .ok (.aload_n 0, 1) := dk_42 (dk_at dksX1_riders_3 15 rfl rfl)
theorem dX1_riders_88 : decode cX1_riders 88 = .ok (.getfield 172, 3) := dk_180 0 172 (dk_at dksX1_riders_3 16 rfl rfl)
theorem dX1_riders_91 : decode cX1_riders 91 = .ok (.if_icmp .ge 103, 3) := dk_162 0 103 (dk_at dksX1_riders_3 19 rfl rfl)
theorem dX1_riders_94 : decode cX1_riders 94 = .ok (.aload_n 0, 1) := dk_42 (dk_at dksX1_riders_3 22 rfl rfl)
theorem dX1_riders_95 : decode cX1_riders 95 = .ok (.getfield 19, 3) := dk_180 0 19 (dk_at dksX1_riders_4 0 rfl rfl)
theorem dX1_riders_98 : decode cX1_riders 98 = .ok (.aload_n 0, 1) := dk_42 (dk_at dksX1_riders_4 3 rfl rfl)
theorem dX1_riders_99 : decode cX1_riders 99 = .ok (.getfield 121, 3) := dk_180 0 121 (dk_at dksX1_riders_4 4 rfl rfl)
theorem dX1_riders_102 : decode cX1_riders 102 = .ok (.aload_n 0, 1) := dk_42 (dk_at dksX1_riders_4 7 rfl rfl)
theorem dX1_riders_103 : decode cX1_riders 103 = .ok (.getfield 39, 3) := dk_180 0 39 (dk_at dksX1_riders_4 8 rfl rfl)
theorem dX1_riders_106 : decode cX1_riders 106 = .ok (.aload_n 0, 1) := dk_42 (dk_at dksX1_riders_4 11 rfl rfl)
theorem dX1_riders_107 : decode cX1_riders 107 = .ok (.getfield 121, 3) := dk_180 0 121 (dk_at dksX1_riders_4 12 rfl rfl)
theorem dX1_riders_110 : decode cX1_riders 110 = .ok (.iaload, 1) := dk_46 (dk_at dksX1_riders_4 15 rfl rfl)
theorem dX1_riders_111 : decode cX1_riders 111 = .ok (.iastore, 1) := dk_79 (dk_at dksX1_riders_4 16 rfl rfl)
theorem dX1_riders_112 : decode cX1_riders 112 = .ok (.aload_n 0, 1) := dk_42 (dk_at dksX1_riders_4 17 rfl rfl)
theorem dX1_riders_113 : decode cX1_riders 113 = .ok (.getfield 23, 3) := dk_180 0 23 (dk_at dksX1_riders_4 18 rfl rfl)
theorem dX1_riders_116 : decode cX1_riders 116 = .ok (.aload_n 0, 1) := dk_42 (dk_at dksX1_riders_4 21 rfl rfl)
theorem dX1_riders_117 : decode cX1_riders 117 = .ok (.getfield 121, 3) := dk_180 0 121 (dk_at dksX1_riders_5 0 rfl rfl)
theorem dX1_riders_120 : decode cX1_riders 120 = .ok (.aload_n 0, 1) := dk_42 (dk_at dksX1_riders_5 3 rfl rfl)
theorem dX1_riders_121 : decode cX1_riders 121 = .ok (.getfield 42, 3) := dk_180 0 42 (dk_at dksX1_riders_5 4 rfl rfl)
theorem dX1_riders_124 : decode cX1_riders 124 = .ok (.aload_n 0, 1) := dk_42 (dk_at dksX1_riders_5 7 rfl rfl)
theorem dX1_riders_125 : decode cX1_riders 125 = .ok (.getfield 121, 3) := dk_180 0 121 (dk_at dksX1_riders_5 8 rfl rfl)
theorem dX1_riders_128 : decode cX1_riders 128 = .ok (.iaload, 1) := dk_46 (dk_at dksX1_riders_5 11 rfl rfl)
theorem dX1_riders_129 : decode cX1_riders 129 = .ok (.iastore, 1) := dk_79 (dk_at dksX1_riders_5 12 rfl rfl)
theorem dX1_riders_130 : decode cX1_riders 130 = .ok (.aload_n 0, 1) := dk_42 (dk_at dksX1_riders_5 13 rfl rfl)
theorem dX1_riders_131 : decode cX1_riders 131 = .ok (.getfield 26, 3) := dk_180 0 26 (dk_at dksX1_riders_5 14 rfl rfl)
theorem dX1_riders_134 : decode cX1_riders 134 = .ok (.aload_n 0, 1) := dk_42 (dk_at dksX1_riders_5 17 rfl rfl)
theorem dX1_riders_135 : decode cX1_riders 135 = .ok (.getfield 121, 3) := dk_180 0 121 (dk_at dksX1_riders_5 18 rfl rfl)
theorem dX1_riders_138 : decode cX1_riders 138 = .ok (.aload_n 0, 1) := dk_42 (dk_at dksX1_riders_5 21 rfl rfl)
theorem dX1_riders_139 : decode cX1_riders 139 = .ok (.getfield 45, 3) := dk_180 0 45 (dk_at dksX1_riders_6 0 rfl rfl)
theorem dX1_riders_142 : decode cX1_riders 142 = .ok (.aload_n 0, 1) := dk_42 (dk_at dksX1_riders_6 3 rfl rfl)
theorem dX1_riders_143 : decode cX1_riders 143 = .ok (.getfield 121, 3) := dk_180 0 121 (dk_at dksX1_riders_6 4 rfl rfl)
theorem dX1_riders_146 : decode cX1_riders 146 = .ok (.iaload, 1) := dk_46 (dk_at dksX1_riders_6 7 rfl rfl)
theorem dX1_riders_147 : decode cX1_riders 147 = .ok (.iastore, 1) := dk_79 (dk_at dksX1_riders_6 8 rfl rfl)
theorem dX1_riders_148 : decode cX1_riders 148 = .ok (.aload_n 0, 1) := dk_42 (dk_at dksX1_riders_6 9 rfl rfl)
theorem dX1_riders_149 : decode cX1_riders 149 = .ok (.getfield 12, 3) := dk_180 0 12 (dk_at dksX1_riders_6 10 rfl rfl)
theorem dX1_riders_152 : decode cX1_riders 152 = .ok (.getfield 197, 3) := dk_180 0 197 (dk_at dksX1_riders_6 13 rfl rfl)
theorem dX1_riders_155 : decode cX1_riders 155 = .ok (.aload_n 0, 1) := dk_42 (dk_at dksX1_riders_6 16 rfl rfl)
theorem dX1_riders_156 : decode cX1_riders 156 = .ok (.getfield 121, 3) := dk_180 0 121 (dk_at dksX1_riders_6 17 rfl rfl)
theorem dX1_riders_159 : decode cX1_riders 159 = .ok (.iconst 0, 1) := dk_3 (dk_at dksX1_riders_6 20 rfl rfl)
theorem dX1_riders_160 : decode cX1_riders 160 = .ok (.iastore, 1) := dk_79 (dk_at dksX1_riders_6 21 rfl rfl)
theorem dX1_riders_161 : decode cX1_riders 161 = .ok (.aload_n 0, 1) := dk_42 (dk_at dksX1_riders_6 22 rfl rfl)
theorem dX1_riders_162 : decode cX1_riders 162 = .ok (.getfield 12, 3) := dk_180 0 12 (dk_at dksX1_riders_7 0 rfl rfl)
theorem dX1_riders_165 : decode cX1_riders 165 = .ok (.dup, 1) := dk_89 (dk_at dksX1_riders_7 3 rfl rfl)
theorem dX1_riders_166 : decode cX1_riders 166 = .ok (.getfield 200, 3) := dk_180 0 200 (dk_at dksX1_riders_7 4 rfl rfl)
theorem dX1_riders_169 : decode cX1_riders 169 = .ok (.iconst 1, 1) := dk_4 (dk_at dksX1_riders_7 7 rfl rfl)
theorem dX1_riders_170 : decode cX1_riders 170 = .ok (.aload_n 0, 1) := dk_42 (dk_at dksX1_riders_7 8 rfl rfl)
theorem dX1_riders_171 : decode cX1_riders 171 = .ok (.getfield 121, 3) := dk_180 0 121 (dk_at dksX1_riders_7 9 rfl rfl)
theorem dX1_riders_174 : decode cX1_riders 174 = .ok (.ishl, 1) := dk_120 (dk_at dksX1_riders_7 12 rfl rfl)
theorem dX1_riders_175 : decode cX1_riders 175 = .ok (.iconst (-1), 1) := dk_2 (dk_at dksX1_riders_7 13 rfl rfl)
theorem dX1_riders_176 : decode cX1_riders 176 = .ok (.ixor, 1) := dk_130 (dk_at dksX1_riders_7 14 rfl rfl)
theorem dX1_riders_177 : decode cX1_riders 177 = .ok (.iand, 1) := dk_126 (dk_at dksX1_riders_7 15 rfl rfl)
theorem dX1_riders_178 : decode cX1_riders 178 = .ok (.putfield 200, 3) := dk_181 0 200 (dk_at dksX1_riders_7 16 rfl rfl)
theorem dX1_riders_181 : decode cX1_riders 181 = .ok (.aload_n 0, 1) := dk_42 (dk_at dksX1_riders_7 19 rfl rfl)
theorem dX1_riders_182 : decode cX1_riders 182 = .ok (.dup, 1) := dk_89 (dk_at dksX1_riders_7 20 rfl rfl)
theorem dX1_riders_183 : decode cX1_riders 183 = .ok (.getfield 121, 3) := dk_180 0 121 (dk_at dksX1_riders_7 21 rfl rfl)
theorem dX1_riders_186 : decode cX1_riders 186 = .ok (.iconst 1, 1) := dk_4 (dk_at dksX1_riders_8 0 rfl rfl)
theorem dX1_riders_187 : decode cX1_riders 187 = .ok (.iadd, 1) := dk_96 (dk_at dksX1_riders_8 1 rfl rfl)
theorem dX1_riders_188 : decode cX1_riders 188 = .ok (.putfield 121, 3) := dk_181 0 121 (dk_at dksX1_riders_8 2 rfl rfl)
theorem dX1_riders_191 : decode cX1_riders 191 = .ok (.goto (-108), 3) := dk_167 255 148 (dk_at dksX1_riders_8 5 rfl rfl)
theorem dX1_riders_194 : decode cX1_riders 194 = .ok (.aload_n 0, 1) := dk_42 (dk_at dksX1_riders_8 8 rfl rfl)
theorem dX1_riders_195 : decode cX1_riders 195 = .ok (.iconst 0, 1) := dk_3 (dk_at dksX1_riders_8 9 rfl rfl)
theorem dX1_riders_196 : decode cX1_riders 196 = .ok (.putfield 203, 3) := dk_181 0 203 (dk_at dksX1_riders_8 10 rfl rfl)
theorem dX1_riders_199 : decode cX1_riders 199 = .ok (.aload_n 0, 1) := dk_42 (dk_at dksX1_riders_8 13 rfl rfl)
theorem dX1_riders_200 : decode cX1_riders 200 = .ok (.dup, 1) := dk_89 (dk_at dksX1_riders_8 14 rfl rfl)
theorem dX1_riders_201 : decode cX1_riders 201 = .ok (.getfield 206, 3) := dk_180 0 206 (dk_at dksX1_riders_8 15 rfl rfl)
theorem dX1_riders_204 : decode cX1_riders 204 = .ok (.iconst 1, 1) := dk_4 (dk_at dksX1_riders_8 18 rfl rfl)
theorem dX1_riders_205 : decode cX1_riders 205 = .ok (.iadd, 1) := dk_96 (dk_at dksX1_riders_8 19 rfl rfl)
theorem dX1_riders_206 : decode cX1_riders 206 = .ok (.putfield 206, 3) := dk_181 0 206 (dk_at dksX1_riders_8 20 rfl rfl)
theorem dX1_riders_209 : decode cX1_riders 209 = .ok (.iload 5, 2) := dk_21 5 (dk_at dksX1_riders_9 0 rfl rfl)
theorem dX1_riders_211 : decode cX1_riders 211 = .ok (.ireturn, 1) := dk_172 (dk_at dksX1_riders_9 2 rfl rfl)
abbrev cX1_begins : ByteArray := prog_1_method_13_code
def yX1_begins : MethodName := ⟨RX1, "begins", "(I)I"⟩
def dkwX1_begins_1 : List UInt8 := [184, 0, 141, 181, 0, 147, 28, 172]
abbrev dktX1_begins_1 : List UInt8 := dkwX1_begins_1 ++ []
def dkwX1_begins_0 : List UInt8 := [42, 180, 0, 132, 61, 42, 3, 181, 0, 132, 42, 3, 181, 0, 135, 42, 3, 181, 0, 138, 42, 28, 27]
abbrev dktX1_begins_0 : List UInt8 := dkwX1_begins_0 ++ dktX1_begins_1
theorem dksX1_begins_0 : cX1_begins.data.toList.drop 0 = dktX1_begins_0 := by decide +kernel
theorem dksX1_begins_1 : cX1_begins.data.toList.drop 23 = dktX1_begins_1 := dk_seg dksX1_begins_0 23 rfl rfl
theorem dX1_begins_0 : decode cX1_begins 0 = .ok (.aload_n 0, 1) := dk_42 (dk_at dksX1_begins_0 0 rfl rfl)
theorem dX1_begins_1 : decode cX1_begins 1 = .ok (.getfield 132, 3) := dk_180 0 132 (dk_at dksX1_begins_0 1 rfl rfl)
theorem dX1_begins_4 : decode cX1_begins 4 = .ok (.istore_n 2, 1) := dk_61 (dk_at dksX1_begins_0 4 rfl rfl)
theorem dX1_begins_5 : decode cX1_begins 5 = .ok (.aload_n 0, 1) := dk_42 (dk_at dksX1_begins_0 5 rfl rfl)
theorem dX1_begins_6 : decode cX1_begins 6 = .ok (.iconst 0, 1) := dk_3 (dk_at dksX1_begins_0 6 rfl rfl)
theorem dX1_begins_7 : decode cX1_begins 7 = .ok (.putfield 132, 3) := dk_181 0 132 (dk_at dksX1_begins_0 7 rfl rfl)
theorem dX1_begins_10 : decode cX1_begins 10 = .ok (.aload_n 0, 1) := dk_42 (dk_at dksX1_begins_0 10 rfl rfl)
theorem dX1_begins_11 : decode cX1_begins 11 = .ok (.iconst 0, 1) := dk_3 (dk_at dksX1_begins_0 11 rfl rfl)
theorem dX1_begins_12 : decode cX1_begins 12 = .ok (.putfield 135, 3) := dk_181 0 135 (dk_at dksX1_begins_0 12 rfl rfl)
theorem dX1_begins_15 : decode cX1_begins 15 = .ok (.aload_n 0, 1) := dk_42 (dk_at dksX1_begins_0 15 rfl rfl)
theorem dX1_begins_16 : decode cX1_begins 16 = .ok (.iconst 0, 1) := dk_3 (dk_at dksX1_begins_0 16 rfl rfl)
theorem dX1_begins_17 : decode cX1_begins 17 = .ok (.putfield 138, 3) := dk_181 0 138 (dk_at dksX1_begins_0 17 rfl rfl)
theorem dX1_begins_20 : decode cX1_begins 20 = .ok (.aload_n 0, 1) := dk_42 (dk_at dksX1_begins_0 20 rfl rfl)
theorem dX1_begins_21 : decode cX1_begins 21 = .ok (.iload_n 2, 1) := dk_28 (dk_at dksX1_begins_0 21 rfl rfl)
theorem dX1_begins_22 : decode cX1_begins 22 = .ok (.iload_n 1, 1) := dk_27 (dk_at dksX1_begins_0 22 rfl rfl)
theorem dX1_begins_23 : decode cX1_begins 23 = .ok (.invokestatic 141, 3) := dk_184 0 141 (dk_at dksX1_begins_1 0 rfl rfl)
theorem dX1_begins_26 : decode cX1_begins 26 = .ok (.putfield 147, 3) := dk_181 0 147 (dk_at dksX1_begins_1 3 rfl rfl)
theorem dX1_begins_29 : decode cX1_begins 29 = .ok (.iload_n 2, 1) := dk_28 (dk_at dksX1_begins_1 6 rfl rfl)
theorem dX1_begins_30 : decode cX1_begins 30 = .ok (.ireturn, 1) := dk_172 (dk_at dksX1_begins_1 7 rfl rfl)
abbrev cX1_readsRider : ByteArray := prog_1_method_21_code
def yX1_readsRider : MethodName := ⟨RX1, "readsRider", "()Z"⟩
def dkwX1_readsRider_5 : List UInt8 := [181, 0, 172, 4, 172]
abbrev dktX1_readsRider_5 : List UInt8 := dkwX1_readsRider_5 ++ []
def dkwX1_readsRider_4 : List UInt8 := [182, 0, 177, 120, 128, 61, 167, 255, 225, 42, 180, 0, 45, 27, 28, 79, 42, 89, 180, 0, 172, 4, 96]
abbrev dktX1_readsRider_4 : List UInt8 := dkwX1_readsRider_4 ++ dktX1_readsRider_5
def dkwX1_readsRider_3 : List UInt8 := [182, 0, 160, 155, 0, 28, 28, 42, 18, 182, 182, 0, 160, 122, 154, 0, 17, 28, 4, 42, 18, 182]
abbrev dktX1_readsRider_3 : List UInt8 := dkwX1_readsRider_3 ++ dktX1_readsRider_4
def dkwX1_readsRider_2 : List UInt8 := [18, 180, 182, 0, 177, 96, 79, 42, 180, 0, 42, 27, 46, 154, 0, 5, 3, 172, 3, 61, 42, 18, 182]
abbrev dktX1_readsRider_2 : List UInt8 := dkwX1_readsRider_2 ++ dktX1_readsRider_3
def dkwX1_readsRider_1 : List UInt8 := [182, 0, 177, 96, 79, 42, 180, 0, 39, 27, 46, 154, 0, 5, 3, 172, 42, 180, 0, 42, 27, 4, 42]
abbrev dktX1_readsRider_1 : List UInt8 := dkwX1_readsRider_1 ++ dktX1_readsRider_2
def dkwX1_readsRider_0 : List UInt8 := [42, 180, 0, 172, 60, 27, 16, 8, 160, 0, 5, 3, 172, 42, 180, 0, 39, 27, 4, 42, 18, 175]
abbrev dktX1_readsRider_0 : List UInt8 := dkwX1_readsRider_0 ++ dktX1_readsRider_1
theorem dksX1_readsRider_0 : cX1_readsRider.data.toList.drop 0 = dktX1_readsRider_0 := by decide +kernel
theorem dksX1_readsRider_1 : cX1_readsRider.data.toList.drop 22 = dktX1_readsRider_1 := dk_seg dksX1_readsRider_0 22 rfl rfl
theorem dksX1_readsRider_2 : cX1_readsRider.data.toList.drop 45 = dktX1_readsRider_2 := dk_seg dksX1_readsRider_1 23 rfl rfl
theorem dksX1_readsRider_3 : cX1_readsRider.data.toList.drop 68 = dktX1_readsRider_3 := dk_seg dksX1_readsRider_2 23 rfl rfl
theorem dksX1_readsRider_4 : cX1_readsRider.data.toList.drop 90 = dktX1_readsRider_4 := dk_seg dksX1_readsRider_3 22 rfl rfl
theorem dksX1_readsRider_5 : cX1_readsRider.data.toList.drop 113 = dktX1_readsRider_5 := dk_seg dksX1_readsRider_4 23 rfl rfl
theorem dX1_readsRider_0 : decode cX1_readsRider 0 = .ok (.aload_n 0, 1) := dk_42 (dk_at dksX1_readsRider_0 0 rfl rfl)
theorem dX1_readsRider_1 : decode cX1_readsRider 1 = .ok (.getfield 172, 3) := dk_180 0 172 (dk_at dksX1_readsRider_0 1 rfl rfl)
theorem dX1_readsRider_4 : decode cX1_readsRider 4 = .ok (.istore_n 1, 1) := dk_60 (dk_at dksX1_readsRider_0 4 rfl rfl)
theorem dX1_readsRider_5 : decode cX1_readsRider 5 = .ok (.iload_n 1, 1) := dk_27 (dk_at dksX1_readsRider_0 5 rfl rfl)
theorem dX1_readsRider_6 : decode cX1_readsRider 6 = .ok (.bipush 8, 2) := dk_16 8 (dk_at dksX1_readsRider_0 6 rfl rfl)
theorem dX1_readsRider_8 : decode cX1_readsRider 8 = .ok (.if_icmp .ne 5, 3) := dk_160 0 5 (dk_at dksX1_readsRider_0 8 rfl rfl)
theorem dX1_readsRider_11 : decode cX1_readsRider 11 = .ok (.iconst 0, 1) := dk_3 (dk_at dksX1_readsRider_0 11 rfl rfl)
theorem dX1_readsRider_12 : decode cX1_readsRider 12 = .ok (.ireturn, 1) := dk_172 (dk_at dksX1_readsRider_0 12 rfl rfl)
theorem dX1_readsRider_13 : decode cX1_readsRider 13 = .ok (.aload_n 0, 1) := dk_42 (dk_at dksX1_readsRider_0 13 rfl rfl)
theorem dX1_readsRider_14 : decode cX1_readsRider 14 = .ok (.getfield 39, 3) := dk_180 0 39 (dk_at dksX1_readsRider_0 14 rfl rfl)
theorem dX1_readsRider_17 : decode cX1_readsRider 17 = .ok (.iload_n 1, 1) := dk_27 (dk_at dksX1_readsRider_0 17 rfl rfl)
theorem dX1_readsRider_18 : decode cX1_readsRider 18 = .ok (.iconst 1, 1) := dk_4 (dk_at dksX1_readsRider_0 18 rfl rfl)
theorem dX1_readsRider_19 : decode cX1_readsRider 19 = .ok (.aload_n 0, 1) := dk_42 (dk_at dksX1_readsRider_0 19 rfl rfl)
theorem dX1_readsRider_20 : decode cX1_readsRider 20 = .ok (.ldc 175, 2) := dk_18 175 (dk_at dksX1_readsRider_0 20 rfl rfl)
theorem dX1_readsRider_22 : decode cX1_readsRider 22 = .ok (.invokevirtual 177, 3) := dk_182 0 177 (dk_at dksX1_readsRider_1 0 rfl rfl)
theorem dX1_readsRider_25 : decode cX1_readsRider 25 = .ok (.iadd, 1) := dk_96 (dk_at dksX1_readsRider_1 3 rfl rfl)
theorem dX1_readsRider_26 : decode cX1_readsRider 26 = .ok (.iastore, 1) := dk_79 (dk_at dksX1_readsRider_1 4 rfl rfl)
theorem dX1_readsRider_27 : decode cX1_readsRider 27 = .ok (.aload_n 0, 1) := dk_42 (dk_at dksX1_readsRider_1 5 rfl rfl)
theorem dX1_readsRider_28 : decode cX1_readsRider 28 = .ok (.getfield 39, 3) := dk_180 0 39 (dk_at dksX1_readsRider_1 6 rfl rfl)
theorem dX1_readsRider_31 : decode cX1_readsRider 31 = .ok (.iload_n 1, 1) := dk_27 (dk_at dksX1_readsRider_1 9 rfl rfl)
theorem dX1_readsRider_32 : decode cX1_readsRider 32 = .ok (.iaload, 1) := dk_46 (dk_at dksX1_readsRider_1 10 rfl rfl)
theorem dX1_readsRider_33 : decode cX1_readsRider 33 = .ok (.ifCond .ne 5, 3) := dk_154 0 5 (dk_at dksX1_readsRider_1 11 rfl rfl)
theorem dX1_readsRider_36 : decode cX1_readsRider 36 = .ok (.iconst 0, 1) := dk_3 (dk_at dksX1_readsRider_1 14 rfl rfl)
theorem dX1_readsRider_37 : decode cX1_readsRider 37 = .ok (.ireturn, 1) := dk_172 (dk_at dksX1_readsRider_1 15 rfl rfl)
theorem dX1_readsRider_38 : decode cX1_readsRider 38 = .ok (.aload_n 0, 1) := dk_42 (dk_at dksX1_readsRider_1 16 rfl rfl)
theorem dX1_readsRider_39 : decode cX1_readsRider 39 = .ok (.getfield 42, 3) := dk_180 0 42 (dk_at dksX1_readsRider_1 17 rfl rfl)
theorem dX1_readsRider_42 : decode cX1_readsRider 42 = .ok (.iload_n 1, 1) := dk_27 (dk_at dksX1_readsRider_1 20 rfl rfl)
theorem dX1_readsRider_43 : decode cX1_readsRider 43 = .ok (.iconst 1, 1) := dk_4 (dk_at dksX1_readsRider_1 21 rfl rfl)
theorem dX1_readsRider_44 : decode cX1_readsRider 44 = .ok (.aload_n 0, 1) := dk_42 (dk_at dksX1_readsRider_1 22 rfl rfl)
theorem dX1_readsRider_45 : decode cX1_readsRider 45 = .ok (.ldc 180, 2) := dk_18 180 (dk_at dksX1_readsRider_2 0 rfl rfl)
theorem dX1_readsRider_47 : decode cX1_readsRider 47 = .ok (.invokevirtual 177, 3) := dk_182 0 177 (dk_at dksX1_readsRider_2 2 rfl rfl)
theorem dX1_readsRider_50 : decode cX1_readsRider 50 = .ok (.iadd, 1) := dk_96 (dk_at dksX1_readsRider_2 5 rfl rfl)
theorem dX1_readsRider_51 : decode cX1_readsRider 51 = .ok (.iastore, 1) := dk_79 (dk_at dksX1_readsRider_2 6 rfl rfl)
theorem dX1_readsRider_52 : decode cX1_readsRider 52 = .ok (.aload_n 0, 1) := dk_42 (dk_at dksX1_readsRider_2 7 rfl rfl)
theorem dX1_readsRider_53 : decode cX1_readsRider 53 = .ok (.getfield 42, 3) := dk_180 0 42 (dk_at dksX1_readsRider_2 8 rfl rfl)
theorem dX1_readsRider_56 : decode cX1_readsRider 56 = .ok (.iload_n 1, 1) := dk_27 (dk_at dksX1_readsRider_2 11 rfl rfl)
theorem dX1_readsRider_57 : decode cX1_readsRider 57 = .ok (.iaload, 1) := dk_46 (dk_at dksX1_readsRider_2 12 rfl rfl)
theorem dX1_readsRider_58 : decode cX1_readsRider 58 = .ok (.ifCond .ne 5, 3) := dk_154 0 5 (dk_at dksX1_readsRider_2 13 rfl rfl)
theorem dX1_readsRider_61 : decode cX1_readsRider 61 = .ok (.iconst 0, 1) := dk_3 (dk_at dksX1_readsRider_2 16 rfl rfl)
theorem dX1_readsRider_62 : decode cX1_readsRider 62 = .ok (.ireturn, 1) := dk_172 (dk_at dksX1_readsRider_2 17 rfl rfl)
theorem dX1_readsRider_63 : decode cX1_readsRider 63 = .ok (.iconst 0, 1) := dk_3 (dk_at dksX1_readsRider_2 18 rfl rfl)
theorem dX1_readsRider_64 : decode cX1_readsRider 64 = .ok (.istore_n 2, 1) := dk_61 (dk_at dksX1_readsRider_2 19 rfl rfl)
theorem dX1_readsRider_65 : decode cX1_readsRider 65 = .ok (.aload_n 0, 1) := dk_42 (dk_at dksX1_readsRider_2 20 rfl rfl)
theorem dX1_readsRider_66 : decode cX1_readsRider 66 = .ok (.ldc 182, 2) := dk_18 182 (dk_at dksX1_readsRider_2 21 rfl rfl)
theorem dX1_readsRider_68 : decode cX1_readsRider 68 = .ok (.invokevirtual 160, 3) := dk_182 0 160 (dk_at dksX1_readsRider_3 0 rfl rfl)
theorem dX1_readsRider_71 : decode cX1_readsRider 71 = .ok (.ifCond .lt 28, 3) := dk_155 0 28 (dk_at dksX1_readsRider_3 3 rfl rfl)
theorem dX1_readsRider_74 : decode cX1_readsRider 74 = .ok (.iload_n 2, 1) := dk_28 (dk_at dksX1_readsRider_3 6 rfl rfl)
theorem dX1_readsRider_75 : decode cX1_readsRider 75 = .ok (.aload_n 0, 1) := dk_42 (dk_at dksX1_readsRider_3 7 rfl rfl)
theorem dX1_readsRider_76 : decode cX1_readsRider 76 = .ok (.ldc 182, 2) := dk_18 182 (dk_at dksX1_readsRider_3 8 rfl rfl)
theorem dX1_readsRider_78 : decode cX1_readsRider 78 = .ok (.invokevirtual 160, 3) := dk_182 0 160 (dk_at dksX1_readsRider_3 10 rfl rfl)
theorem dX1_readsRider_81 : decode cX1_readsRider 81 = .ok (.ishr, 1) := dk_122 (dk_at dksX1_readsRider_3 13 rfl rfl)
theorem dX1_readsRider_82 : decode cX1_readsRider 82 = .ok (.ifCond .ne 17, 3) := dk_154 0 17 (dk_at dksX1_readsRider_3 14 rfl rfl)
theorem dX1_readsRider_85 : decode cX1_readsRider 85 = .ok (.iload_n 2, 1) := dk_28 (dk_at dksX1_readsRider_3 17 rfl rfl)
theorem dX1_readsRider_86 : decode cX1_readsRider 86 = .ok (.iconst 1, 1) := dk_4 (dk_at dksX1_readsRider_3 18 rfl rfl)
theorem dX1_readsRider_87 : decode cX1_readsRider 87 = .ok (.aload_n 0, 1) := dk_42 (dk_at dksX1_readsRider_3 19 rfl rfl)
theorem dX1_readsRider_88 : decode cX1_readsRider 88 = .ok (.ldc 182, 2) := dk_18 182 (dk_at dksX1_readsRider_3 20 rfl rfl)
theorem dX1_readsRider_90 : decode cX1_readsRider 90 = .ok (.invokevirtual 177, 3) := dk_182 0 177 (dk_at dksX1_readsRider_4 0 rfl rfl)
theorem dX1_readsRider_93 : decode cX1_readsRider 93 = .ok (.ishl, 1) := dk_120 (dk_at dksX1_readsRider_4 3 rfl rfl)
theorem dX1_readsRider_94 : decode cX1_readsRider 94 = .ok (.ior, 1) := dk_128 (dk_at dksX1_readsRider_4 4 rfl rfl)
theorem dX1_readsRider_95 : decode cX1_readsRider 95 = .ok (.istore_n 2, 1) := dk_61 (dk_at dksX1_readsRider_4 5 rfl rfl)
theorem dX1_readsRider_96 : decode cX1_readsRider 96 = .ok (.goto (-31), 3) := dk_167 255 225 (dk_at dksX1_readsRider_4 6 rfl rfl)
theorem dX1_readsRider_99 : decode cX1_readsRider 99 = .ok (.aload_n 0, 1) := dk_42 (dk_at dksX1_readsRider_4 9 rfl rfl)
theorem dX1_readsRider_100 : decode cX1_readsRider 100 = .ok (.getfield 45, 3) := dk_180 0 45 (dk_at dksX1_readsRider_4 10 rfl rfl)
theorem dX1_readsRider_103 : decode cX1_readsRider 103 = .ok (.iload_n 1, 1) := dk_27 (dk_at dksX1_readsRider_4 13 rfl rfl)
theorem dX1_readsRider_104 : decode cX1_readsRider 104 = .ok (.iload_n 2, 1) := dk_28 (dk_at dksX1_readsRider_4 14 rfl rfl)
theorem dX1_readsRider_105 : decode cX1_readsRider 105 = .ok (.iastore, 1) := dk_79 (dk_at dksX1_readsRider_4 15 rfl rfl)
theorem dX1_readsRider_106 : decode cX1_readsRider 106 = .ok (.aload_n 0, 1) := dk_42 (dk_at dksX1_readsRider_4 16 rfl rfl)
theorem dX1_readsRider_107 : decode cX1_readsRider 107 = .ok (.dup, 1) := dk_89 (dk_at dksX1_readsRider_4 17 rfl rfl)
theorem dX1_readsRider_108 : decode cX1_readsRider 108 = .ok (.getfield 172, 3) := dk_180 0 172 (dk_at dksX1_readsRider_4 18 rfl rfl)
theorem dX1_readsRider_111 : decode cX1_readsRider 111 = .ok (.iconst 1, 1) := dk_4 (dk_at dksX1_readsRider_4 21 rfl rfl)
theorem dX1_readsRider_112 : decode cX1_readsRider 112 = .ok (.iadd, 1) := dk_96 (dk_at dksX1_readsRider_4 22 rfl rfl)
theorem dX1_readsRider_113 : decode cX1_readsRider 113 = .ok (.putfield 172, 3) := dk_181 0 172 (dk_at dksX1_readsRider_5 0 rfl rfl)
theorem dX1_readsRider_116 : decode cX1_readsRider 116 = .ok (.iconst 1, 1) := dk_4 (dk_at dksX1_readsRider_5 3 rfl rfl)
theorem dX1_readsRider_117 : decode cX1_readsRider 117 = .ok (.ireturn, 1) := dk_172 (dk_at dksX1_readsRider_5 4 rfl rfl)
abbrev cX1_takesOf : ByteArray := prog_1_method_17_code
def yX1_takesOf : MethodName := ⟨RX1, "takesOf", "(Ljava/lang/String;)I"⟩
def dkwX1_takesOf_1 : List UInt8 := [28, 172]
abbrev dktX1_takesOf_1 : List UInt8 := dkwX1_takesOf_1 ++ []
def dkwX1_takesOf_0 : List UInt8 := [42, 43, 182, 0, 160, 61, 42, 89, 180, 0, 135, 28, 155, 0, 7, 4, 167, 0, 4, 3, 96, 181, 0, 135]
abbrev dktX1_takesOf_0 : List UInt8 := dkwX1_takesOf_0 ++ dktX1_takesOf_1
theorem dksX1_takesOf_0 : cX1_takesOf.data.toList.drop 0 = dktX1_takesOf_0 := by decide +kernel
theorem dksX1_takesOf_1 : cX1_takesOf.data.toList.drop 24 = dktX1_takesOf_1 := dk_seg dksX1_takesOf_0 24 rfl rfl
theorem dX1_takesOf_0 : decode cX1_takesOf 0 = .ok (.aload_n 0, 1) := dk_42 (dk_at dksX1_takesOf_0 0 rfl rfl)
theorem dX1_takesOf_1 : decode cX1_takesOf 1 = .ok (.aload_n 1, 1) := dk_43 (dk_at dksX1_takesOf_0 1 rfl rfl)
theorem dX1_takesOf_2 : decode cX1_takesOf 2 = .ok (.invokevirtual 160, 3) := dk_182 0 160 (dk_at dksX1_takesOf_0 2 rfl rfl)
theorem dX1_takesOf_5 : decode cX1_takesOf 5 = .ok (.istore_n 2, 1) := dk_61 (dk_at dksX1_takesOf_0 5 rfl rfl)
theorem dX1_takesOf_6 : decode cX1_takesOf 6 = .ok (.aload_n 0, 1) := dk_42 (dk_at dksX1_takesOf_0 6 rfl rfl)
theorem dX1_takesOf_7 : decode cX1_takesOf 7 = .ok (.dup, 1) := dk_89 (dk_at dksX1_takesOf_0 7 rfl rfl)
theorem dX1_takesOf_8 : decode cX1_takesOf 8 = .ok (.getfield 135, 3) := dk_180 0 135 (dk_at dksX1_takesOf_0 8 rfl rfl)
theorem dX1_takesOf_11 : decode cX1_takesOf 11 = .ok (.iload_n 2, 1) := dk_28 (dk_at dksX1_takesOf_0 11 rfl rfl)
theorem dX1_takesOf_12 : decode cX1_takesOf 12 = .ok (.ifCond .lt 7, 3) := dk_155 0 7 (dk_at dksX1_takesOf_0 12 rfl rfl)
theorem dX1_takesOf_15 : decode cX1_takesOf 15 = .ok (.iconst 1, 1) := dk_4 (dk_at dksX1_takesOf_0 15 rfl rfl)
theorem dX1_takesOf_16 : decode cX1_takesOf 16 = .ok (.goto 4, 3) := dk_167 0 4 (dk_at dksX1_takesOf_0 16 rfl rfl)
theorem dX1_takesOf_19 : decode cX1_takesOf 19 = .ok (.iconst 0, 1) := dk_3 (dk_at dksX1_takesOf_0 19 rfl rfl)
theorem dX1_takesOf_20 : decode cX1_takesOf 20 = .ok (.iadd, 1) := dk_96 (dk_at dksX1_takesOf_0 20 rfl rfl)
theorem dX1_takesOf_21 : decode cX1_takesOf 21 = .ok (.putfield 135, 3) := dk_181 0 135 (dk_at dksX1_takesOf_0 21 rfl rfl)
theorem dX1_takesOf_24 : decode cX1_takesOf 24 = .ok (.iload_n 2, 1) := dk_28 (dk_at dksX1_takesOf_1 0 rfl rfl)
theorem dX1_takesOf_25 : decode cX1_takesOf 25 = .ok (.ireturn, 1) := dk_172 (dk_at dksX1_takesOf_1 1 rfl rfl)
abbrev cX1_among : ByteArray := prog_1_method_16_code
def yX1_among : MethodName := ⟨RX1, "among", "(Ljava/lang/String;)I"⟩
def dkwX1_among_1 : List UInt8 := [42, 180, 0, 36, 42, 180, 0, 135, 46, 182, 0, 154, 167, 0, 4, 2, 172]
abbrev dktX1_among_1 : List UInt8 := dkwX1_among_1 ++ []
def dkwX1_among_0 : List UInt8 := [42, 180, 0, 135, 42, 180, 0, 147, 162, 0, 31, 42, 180, 0, 36, 42, 180, 0, 135, 46, 158, 0, 19, 43]
abbrev dktX1_among_0 : List UInt8 := dkwX1_among_0 ++ dktX1_among_1
theorem dksX1_among_0 : cX1_among.data.toList.drop 0 = dktX1_among_0 := by decide +kernel
theorem dksX1_among_1 : cX1_among.data.toList.drop 24 = dktX1_among_1 := dk_seg dksX1_among_0 24 rfl rfl
theorem dX1_among_0 : decode cX1_among 0 = .ok (.aload_n 0, 1) := dk_42 (dk_at dksX1_among_0 0 rfl rfl)
theorem dX1_among_1 : decode cX1_among 1 = .ok (.getfield 135, 3) := dk_180 0 135 (dk_at dksX1_among_0 1 rfl rfl)
theorem dX1_among_4 : decode cX1_among 4 = .ok (.aload_n 0, 1) := dk_42 (dk_at dksX1_among_0 4 rfl rfl)
theorem dX1_among_5 : decode cX1_among 5 = .ok (.getfield 147, 3) := dk_180 0 147 (dk_at dksX1_among_0 5 rfl rfl)
theorem dX1_among_8 : decode cX1_among 8 = .ok (.if_icmp .ge 31, 3) := dk_162 0 31 (dk_at dksX1_among_0 8 rfl rfl)
theorem dX1_among_11 : decode cX1_among 11 = .ok (.aload_n 0, 1) := dk_42 (dk_at dksX1_among_0 11 rfl rfl)
theorem dX1_among_12 : decode cX1_among 12 = .ok (.getfield 36, 3) := dk_180 0 36 (dk_at dksX1_among_0 12 rfl rfl)
theorem dX1_among_15 : decode cX1_among 15 = .ok (.aload_n 0, 1) := dk_42 (dk_at dksX1_among_0 15 rfl rfl)
theorem dX1_among_16 : decode cX1_among 16 = .ok (.getfield 135, 3) := dk_180 0 135 (dk_at dksX1_among_0 16 rfl rfl)
theorem dX1_among_19 : decode cX1_among 19 = .ok (.iaload, 1) := dk_46 (dk_at dksX1_among_0 19 rfl rfl)
theorem dX1_among_20 : decode cX1_among 20 = .ok (.ifCond .le 19, 3) := dk_158 0 19 (dk_at dksX1_among_0 20 rfl rfl)
theorem dX1_among_23 : decode cX1_among 23 = .ok (.aload_n 1, 1) := dk_43 (dk_at dksX1_among_0 23 rfl rfl)
theorem dX1_among_24 : decode cX1_among 24 = .ok (.aload_n 0, 1) := dk_42 (dk_at dksX1_among_1 0 rfl rfl)
theorem dX1_among_25 : decode cX1_among 25 = .ok (.getfield 36, 3) := dk_180 0 36 (dk_at dksX1_among_1 1 rfl rfl)
theorem dX1_among_28 : decode cX1_among 28 = .ok (.aload_n 0, 1) := dk_42 (dk_at dksX1_among_1 4 rfl rfl)
theorem dX1_among_29 : decode cX1_among 29 = .ok (.getfield 135, 3) := dk_180 0 135 (dk_at dksX1_among_1 5 rfl rfl)
theorem dX1_among_32 : decode cX1_among 32 = .ok (.iaload, 1) := dk_46 (dk_at dksX1_among_1 8 rfl rfl)
theorem dX1_among_33 : decode cX1_among 33 = .ok (.invokevirtual 154, 3) := dk_182 0 154 (dk_at dksX1_among_1 9 rfl rfl)
theorem dX1_among_36 : decode cX1_among 36 = .ok (.goto 4, 3) := dk_167 0 4 (dk_at dksX1_among_1 12 rfl rfl)
theorem dX1_among_39 : decode cX1_among 39 = .ok (.iconst (-1), 1) := dk_2 (dk_at dksX1_among_1 15 rfl rfl)
theorem dX1_among_40 : decode cX1_among 40 = .ok (.ireturn, 1) := dk_172 (dk_at dksX1_among_1 16 rfl rfl)
abbrev cX1_takes : ByteArray := prog_1_method_15_code
def yX1_takes : MethodName := ⟨RX1, "takes", "(C)Z"⟩
def dkwX1_takes_1 : List UInt8 := [28, 172]
abbrev dktX1_takes_1 : List UInt8 := dkwX1_takes_1 ++ []
def dkwX1_takes_0 : List UInt8 := [42, 27, 182, 0, 150, 61, 42, 89, 180, 0, 135, 28, 153, 0, 7, 4, 167, 0, 4, 3, 96, 181, 0, 135]
abbrev dktX1_takes_0 : List UInt8 := dkwX1_takes_0 ++ dktX1_takes_1
theorem dksX1_takes_0 : cX1_takes.data.toList.drop 0 = dktX1_takes_0 := by decide +kernel
theorem dksX1_takes_1 : cX1_takes.data.toList.drop 24 = dktX1_takes_1 := dk_seg dksX1_takes_0 24 rfl rfl
theorem dX1_takes_0 : decode cX1_takes 0 = .ok (.aload_n 0, 1) := dk_42 (dk_at dksX1_takes_0 0 rfl rfl)
theorem dX1_takes_1 : decode cX1_takes 1 = .ok (.iload_n 1, 1) := dk_27 (dk_at dksX1_takes_0 1 rfl rfl)
theorem dX1_takes_2 : decode cX1_takes 2 = .ok (.invokevirtual 150, 3) := dk_182 0 150 (dk_at dksX1_takes_0 2 rfl rfl)
theorem dX1_takes_5 : decode cX1_takes 5 = .ok (.istore_n 2, 1) := dk_61 (dk_at dksX1_takes_0 5 rfl rfl)
theorem dX1_takes_6 : decode cX1_takes 6 = .ok (.aload_n 0, 1) := dk_42 (dk_at dksX1_takes_0 6 rfl rfl)
theorem dX1_takes_7 : decode cX1_takes 7 = .ok (.dup, 1) := dk_89 (dk_at dksX1_takes_0 7 rfl rfl)
theorem dX1_takes_8 : decode cX1_takes 8 = .ok (.getfield 135, 3) := dk_180 0 135 (dk_at dksX1_takes_0 8 rfl rfl)
theorem dX1_takes_11 : decode cX1_takes 11 = .ok (.iload_n 2, 1) := dk_28 (dk_at dksX1_takes_0 11 rfl rfl)
theorem dX1_takes_12 : decode cX1_takes 12 = .ok (.ifCond .eq 7, 3) := dk_153 0 7 (dk_at dksX1_takes_0 12 rfl rfl)
theorem dX1_takes_15 : decode cX1_takes 15 = .ok (.iconst 1, 1) := dk_4 (dk_at dksX1_takes_0 15 rfl rfl)
theorem dX1_takes_16 : decode cX1_takes 16 = .ok (.goto 4, 3) := dk_167 0 4 (dk_at dksX1_takes_0 16 rfl rfl)
theorem dX1_takes_19 : decode cX1_takes 19 = .ok (.iconst 0, 1) := dk_3 (dk_at dksX1_takes_0 19 rfl rfl)
theorem dX1_takes_20 : decode cX1_takes 20 = .ok (.iadd, 1) := dk_96 (dk_at dksX1_takes_0 20 rfl rfl)
theorem dX1_takes_21 : decode cX1_takes 21 = .ok (.putfield 135, 3) := dk_181 0 135 (dk_at dksX1_takes_0 21 rfl rfl)
theorem dX1_takes_24 : decode cX1_takes 24 = .ok (.iload_n 2, 1) := dk_28 (dk_at dksX1_takes_1 0 rfl rfl)
theorem dX1_takes_25 : decode cX1_takes 25 = .ok (.ireturn, 1) := dk_172 (dk_at dksX1_takes_1 1 rfl rfl)
abbrev cX1_isAt : ByteArray := prog_1_method_14_code
def yX1_isAt : MethodName := ⟨RX1, "isAt", "(C)Z"⟩
def dkwX1_isAt_1 : List UInt8 := [4, 167, 0, 4, 3, 172]
abbrev dktX1_isAt_1 : List UInt8 := dkwX1_isAt_1 ++ []
def dkwX1_isAt_0 : List UInt8 := [42, 180, 0, 135, 42, 180, 0, 147, 162, 0, 20, 42, 180, 0, 36, 42, 180, 0, 135, 46, 27, 160, 0, 7]
abbrev dktX1_isAt_0 : List UInt8 := dkwX1_isAt_0 ++ dktX1_isAt_1
theorem dksX1_isAt_0 : cX1_isAt.data.toList.drop 0 = dktX1_isAt_0 := by decide +kernel
theorem dksX1_isAt_1 : cX1_isAt.data.toList.drop 24 = dktX1_isAt_1 := dk_seg dksX1_isAt_0 24 rfl rfl
theorem dX1_isAt_0 : decode cX1_isAt 0 = .ok (.aload_n 0, 1) := dk_42 (dk_at dksX1_isAt_0 0 rfl rfl)
theorem dX1_isAt_1 : decode cX1_isAt 1 = .ok (.getfield 135, 3) := dk_180 0 135 (dk_at dksX1_isAt_0 1 rfl rfl)
theorem dX1_isAt_4 : decode cX1_isAt 4 = .ok (.aload_n 0, 1) := dk_42 (dk_at dksX1_isAt_0 4 rfl rfl)
theorem dX1_isAt_5 : decode cX1_isAt 5 = .ok (.getfield 147, 3) := dk_180 0 147 (dk_at dksX1_isAt_0 5 rfl rfl)
theorem dX1_isAt_8 : decode cX1_isAt 8 = .ok (.if_icmp .ge 20, 3) := dk_162 0 20 (dk_at dksX1_isAt_0 8 rfl rfl)
theorem dX1_isAt_11 : decode cX1_isAt 11 = .ok (.aload_n 0, 1) := dk_42 (dk_at dksX1_isAt_0 11 rfl rfl)
theorem dX1_isAt_12 : decode cX1_isAt 12 = .ok (.getfield 36, 3) := dk_180 0 36 (dk_at dksX1_isAt_0 12 rfl rfl)
theorem dX1_isAt_15 : decode cX1_isAt 15 = .ok (.aload_n 0, 1) := dk_42 (dk_at dksX1_isAt_0 15 rfl rfl)
theorem dX1_isAt_16 : decode cX1_isAt 16 = .ok (.getfield 135, 3) := dk_180 0 135 (dk_at dksX1_isAt_0 16 rfl rfl)
theorem dX1_isAt_19 : decode cX1_isAt 19 = .ok (.iaload, 1) := dk_46 (dk_at dksX1_isAt_0 19 rfl rfl)
theorem dX1_isAt_20 : decode cX1_isAt 20 = .ok (.iload_n 1, 1) := dk_27 (dk_at dksX1_isAt_0 20 rfl rfl)
theorem dX1_isAt_21 : decode cX1_isAt 21 = .ok (.if_icmp .ne 7, 3) := dk_160 0 7 (dk_at dksX1_isAt_0 21 rfl rfl)
theorem dX1_isAt_24 : decode cX1_isAt 24 = .ok (.iconst 1, 1) := dk_4 (dk_at dksX1_isAt_1 0 rfl rfl)
theorem dX1_isAt_25 : decode cX1_isAt 25 = .ok (.goto 4, 3) := dk_167 0 4 (dk_at dksX1_isAt_1 1 rfl rfl)
theorem dX1_isAt_28 : decode cX1_isAt 28 = .ok (.iconst 0, 1) := dk_3 (dk_at dksX1_isAt_1 4 rfl rfl)
theorem dX1_isAt_29 : decode cX1_isAt 29 = .ok (.ireturn, 1) := dk_172 (dk_at dksX1_isAt_1 5 rfl rfl)
abbrev cX1_faultOf : ByteArray := prog_1_method_20_code
def yX1_faultOf : MethodName := ⟨RX1, "faultOf", "(IZ)I"⟩
def dkwX1_faultOf_2 : List UInt8 := [180, 0, 147, 100, 172, 29, 153, 0, 7, 3, 167, 0, 9, 2, 42, 180, 0, 135, 100, 172]
abbrev dktX1_faultOf_2 : List UInt8 := dkwX1_faultOf_2 ++ []
def dkwX1_faultOf_1 : List UInt8 := [180, 0, 147, 164, 0, 25, 29, 154, 0, 14, 42, 180, 0, 135, 42, 180, 0, 147, 160, 0, 10, 2, 42]
abbrev dktX1_faultOf_1 : List UInt8 := dkwX1_faultOf_1 ++ dktX1_faultOf_2
def dkwX1_faultOf_0 : List UInt8 := [28, 153, 0, 18, 42, 180, 0, 135, 42, 180, 0, 147, 160, 0, 7, 4, 167, 0, 4, 3, 62, 27, 42]
abbrev dktX1_faultOf_0 : List UInt8 := dkwX1_faultOf_0 ++ dktX1_faultOf_1
theorem dksX1_faultOf_0 : cX1_faultOf.data.toList.drop 0 = dktX1_faultOf_0 := by decide +kernel
theorem dksX1_faultOf_1 : cX1_faultOf.data.toList.drop 23 = dktX1_faultOf_1 := dk_seg dksX1_faultOf_0 23 rfl rfl
theorem dksX1_faultOf_2 : cX1_faultOf.data.toList.drop 46 = dktX1_faultOf_2 := dk_seg dksX1_faultOf_1 23 rfl rfl
theorem dX1_faultOf_0 : decode cX1_faultOf 0 = .ok (.iload_n 2, 1) := dk_28 (dk_at dksX1_faultOf_0 0 rfl rfl)
theorem dX1_faultOf_1 : decode cX1_faultOf 1 = .ok (.ifCond .eq 18, 3) := dk_153 0 18 (dk_at dksX1_faultOf_0 1 rfl rfl)
theorem dX1_faultOf_4 : decode cX1_faultOf 4 = .ok (.aload_n 0, 1) := dk_42 (dk_at dksX1_faultOf_0 4 rfl rfl)
theorem dX1_faultOf_5 : decode cX1_faultOf 5 = .ok (.getfield 135, 3) := dk_180 0 135 (dk_at dksX1_faultOf_0 5 rfl rfl)
theorem dX1_faultOf_8 : decode cX1_faultOf 8 = .ok (.aload_n 0, 1) := dk_42 (dk_at dksX1_faultOf_0 8 rfl rfl)
theorem dX1_faultOf_9 : decode cX1_faultOf 9 = .ok (.getfield 147, 3) := dk_180 0 147 (dk_at dksX1_faultOf_0 9 rfl rfl)
theorem dX1_faultOf_12 : decode cX1_faultOf 12 = .ok (.if_icmp .ne 7, 3) := dk_160 0 7 (dk_at dksX1_faultOf_0 12 rfl rfl)
theorem dX1_faultOf_15 : decode cX1_faultOf 15 = .ok (.iconst 1, 1) := dk_4 (dk_at dksX1_faultOf_0 15 rfl rfl)
theorem dX1_faultOf_16 : decode cX1_faultOf 16 = .ok (.goto 4, 3) := dk_167 0 4 (dk_at dksX1_faultOf_0 16 rfl rfl)
theorem dX1_faultOf_19 : decode cX1_faultOf 19 = .ok (.iconst 0, 1) := dk_3 (dk_at dksX1_faultOf_0 19 rfl rfl)
theorem dX1_faultOf_20 : decode cX1_faultOf 20 = .ok (.istore_n 3, 1) := dk_62 (dk_at dksX1_faultOf_0 20 rfl rfl)
theorem dX1_faultOf_21 : decode cX1_faultOf 21 = .ok (.iload_n 1, 1) := dk_27 (dk_at dksX1_faultOf_0 21 rfl rfl)
theorem dX1_faultOf_22 : decode cX1_faultOf 22 = .ok (.aload_n 0, 1) := dk_42 (dk_at dksX1_faultOf_0 22 rfl rfl)
theorem dX1_faultOf_23 : decode cX1_faultOf 23 = .ok (.getfield 147, 3) := dk_180 0 147 (dk_at dksX1_faultOf_1 0 rfl rfl)
theorem dX1_faultOf_26 : decode cX1_faultOf 26 = .ok (.if_icmp .le 25, 3) := dk_164 0 25 (dk_at dksX1_faultOf_1 3 rfl rfl)
theorem dX1_faultOf_29 : decode cX1_faultOf 29 = .ok (.iload_n 3, 1) := dk_29 (dk_at dksX1_faultOf_1 6 rfl rfl)
theorem dX1_faultOf_30 : decode cX1_faultOf 30 = .ok (.ifCond .ne 14, 3) := dk_154 0 14 (dk_at dksX1_faultOf_1 7 rfl rfl)
theorem dX1_faultOf_33 : decode cX1_faultOf 33 = .ok (.aload_n 0, 1) := dk_42 (dk_at dksX1_faultOf_1 10 rfl rfl)
theorem dX1_faultOf_34 : decode cX1_faultOf 34 = .ok (.getfield 135, 3) := dk_180 0 135 (dk_at dksX1_faultOf_1 11 rfl rfl)
theorem dX1_faultOf_37 : decode cX1_faultOf 37 = .ok (.aload_n 0, 1) := dk_42 (dk_at dksX1_faultOf_1 14 rfl rfl)
theorem dX1_faultOf_38 : decode cX1_faultOf 38 = .ok (.getfield 147, 3) := dk_180 0 147 (dk_at dksX1_faultOf_1 15 rfl rfl)
theorem dX1_faultOf_41 : decode cX1_faultOf 41 = .ok (.if_icmp .ne 10, 3) := dk_160 0 10 (dk_at dksX1_faultOf_1 18 rfl rfl)
theorem dX1_faultOf_44 : decode cX1_faultOf 44 = .ok (.iconst (-1), 1) := dk_2 (dk_at dksX1_faultOf_1 21 rfl rfl)
theorem dX1_faultOf_45 : decode cX1_faultOf 45 = .ok (.aload_n 0, 1) := dk_42 (dk_at dksX1_faultOf_1 22 rfl rfl)
theorem dX1_faultOf_46 : decode cX1_faultOf 46 = .ok (.getfield 147, 3) := dk_180 0 147 (dk_at dksX1_faultOf_2 0 rfl rfl)
theorem dX1_faultOf_49 : decode cX1_faultOf 49 = .ok (.isub, 1) := dk_100 (dk_at dksX1_faultOf_2 3 rfl rfl)
theorem dX1_faultOf_50 : decode cX1_faultOf 50 = .ok (.ireturn, 1) := dk_172 (dk_at dksX1_faultOf_2 4 rfl rfl)
theorem dX1_faultOf_51 : decode cX1_faultOf 51 = .ok (.iload_n 3, 1) := dk_29 (dk_at dksX1_faultOf_2 5 rfl rfl)
theorem dX1_faultOf_52 : decode cX1_faultOf 52 = .ok (.ifCond .eq 7, 3) := dk_153 0 7 (dk_at dksX1_faultOf_2 6 rfl rfl)
theorem dX1_faultOf_55 : decode cX1_faultOf 55 = .ok (.iconst 0, 1) := dk_3 (dk_at dksX1_faultOf_2 9 rfl rfl)
theorem dX1_faultOf_56 : decode cX1_faultOf 56 = .ok (.goto 9, 3) := dk_167 0 9 (dk_at dksX1_faultOf_2 10 rfl rfl)
theorem dX1_faultOf_59 : decode cX1_faultOf 59 = .ok (.iconst (-1), 1) := dk_2 (dk_at dksX1_faultOf_2 13 rfl rfl)
theorem dX1_faultOf_60 : decode cX1_faultOf 60 = .ok (.aload_n 0, 1) := dk_42 (dk_at dksX1_faultOf_2 14 rfl rfl)
theorem dX1_faultOf_61 : decode cX1_faultOf 61 = .ok (.getfield 135, 3) := dk_180 0 135 (dk_at dksX1_faultOf_2 15 rfl rfl)
theorem dX1_faultOf_64 : decode cX1_faultOf 64 = .ok (.isub, 1) := dk_100 (dk_at dksX1_faultOf_2 18 rfl rfl)
theorem dX1_faultOf_65 : decode cX1_faultOf 65 = .ok (.ireturn, 1) := dk_172 (dk_at dksX1_faultOf_2 19 rfl rfl)
abbrev cX1_rule : ByteArray := prog_1_method_27_code
def yX1_rule : MethodName := ⟨RX1, "rule", "()I"⟩
def dkwX1_rule_0 : List UInt8 := [42, 182, 0, 254, 60, 27, 154, 0, 11, 42, 42, 180, 0, 250, 181, 1, 2, 27, 172]
abbrev dktX1_rule_0 : List UInt8 := dkwX1_rule_0 ++ []
theorem dksX1_rule_0 : cX1_rule.data.toList.drop 0 = dktX1_rule_0 := by decide +kernel
theorem dX1_rule_0 : decode cX1_rule 0 = .ok (.aload_n 0, 1) := dk_42 (dk_at dksX1_rule_0 0 rfl rfl)
theorem dX1_rule_1 : decode cX1_rule 1 = .ok (.invokevirtual 254, 3) := dk_182 0 254 (dk_at dksX1_rule_0 1 rfl rfl)
theorem dX1_rule_4 : decode cX1_rule 4 = .ok (.istore_n 1, 1) := dk_60 (dk_at dksX1_rule_0 4 rfl rfl)
theorem dX1_rule_5 : decode cX1_rule 5 = .ok (.iload_n 1, 1) := dk_27 (dk_at dksX1_rule_0 5 rfl rfl)
theorem dX1_rule_6 : decode cX1_rule 6 = .ok (.ifCond .ne 11, 3) := dk_154 0 11 (dk_at dksX1_rule_0 6 rfl rfl)
theorem dX1_rule_9 : decode cX1_rule 9 = .ok (.aload_n 0, 1) := dk_42 (dk_at dksX1_rule_0 9 rfl rfl)
theorem dX1_rule_10 : decode cX1_rule 10 = .ok (.aload_n 0, 1) := dk_42 (dk_at dksX1_rule_0 10 rfl rfl)
theorem dX1_rule_11 : decode cX1_rule 11 = .ok (.getfield 250, 3) := dk_180 0 250 (dk_at dksX1_rule_0 11 rfl rfl)
theorem dX1_rule_14 : decode cX1_rule 14 = .ok (.putfield 258, 3) := dk_181 1 2 (dk_at dksX1_rule_0 14 rfl rfl)
theorem dX1_rule_17 : decode cX1_rule 17 = .ok (.iload_n 1, 1) := dk_27 (dk_at dksX1_rule_0 17 rfl rfl)
theorem dX1_rule_18 : decode cX1_rule 18 = .ok (.ireturn, 1) := dk_172 (dk_at dksX1_rule_0 18 rfl rfl)
abbrev cX1_readsRule : ByteArray := prog_1_method_26_code
def yX1_readsRule : MethodName := ⟨RX1, "readsRule", "()I"⟩
def dkwX1_readsRule_2 : List UInt8 := [182, 0, 193, 172]
abbrev dktX1_readsRule_2 : List UInt8 := dkwX1_readsRule_2 ++ []
def dkwX1_readsRule_1 : List UInt8 := [27, 154, 0, 7, 3, 167, 0, 20, 42, 27, 42, 180, 0, 250, 198, 0, 7, 4, 167, 0, 4, 3]
abbrev dktX1_readsRule_1 : List UInt8 := dkwX1_readsRule_1 ++ dktX1_readsRule_2
def dkwX1_readsRule_0 : List UInt8 := [42, 16, 40, 182, 0, 184, 60, 42, 27, 154, 0, 7, 1, 167, 0, 8, 42, 3, 182, 0, 231, 181, 0, 250]
abbrev dktX1_readsRule_0 : List UInt8 := dkwX1_readsRule_0 ++ dktX1_readsRule_1
theorem dksX1_readsRule_0 : cX1_readsRule.data.toList.drop 0 = dktX1_readsRule_0 := by decide +kernel
theorem dksX1_readsRule_1 : cX1_readsRule.data.toList.drop 24 = dktX1_readsRule_1 := dk_seg dksX1_readsRule_0 24 rfl rfl
theorem dksX1_readsRule_2 : cX1_readsRule.data.toList.drop 46 = dktX1_readsRule_2 := dk_seg dksX1_readsRule_1 22 rfl rfl
theorem dX1_readsRule_0 : decode cX1_readsRule 0 = .ok (.aload_n 0, 1) := dk_42 (dk_at dksX1_readsRule_0 0 rfl rfl)
theorem dX1_readsRule_1 : decode cX1_readsRule 1 = .ok (.bipush 40, 2) := dk_16 40 (dk_at dksX1_readsRule_0 1 rfl rfl)
theorem dX1_readsRule_3 : decode cX1_readsRule 3 = .ok (.invokevirtual 184, 3) := dk_182 0 184 (dk_at dksX1_readsRule_0 3 rfl rfl)
theorem dX1_readsRule_6 : decode cX1_readsRule 6 = .ok (.istore_n 1, 1) := dk_60 (dk_at dksX1_readsRule_0 6 rfl rfl)
theorem dX1_readsRule_7 : decode cX1_readsRule 7 = .ok (.aload_n 0, 1) := dk_42 (dk_at dksX1_readsRule_0 7 rfl rfl)
theorem dX1_readsRule_8 : decode cX1_readsRule 8 = .ok (.iload_n 1, 1) := dk_27 (dk_at dksX1_readsRule_0 8 rfl rfl)
theorem dX1_readsRule_9 : decode cX1_readsRule 9 = .ok (.ifCond .ne 7, 3) := dk_154 0 7 (dk_at dksX1_readsRule_0 9 rfl rfl)
theorem dX1_readsRule_12 : decode cX1_readsRule 12 = .ok (.aconst_null, 1) := dk_1 (dk_at dksX1_readsRule_0 12 rfl rfl)
theorem dX1_readsRule_13 : decode cX1_readsRule 13 = .ok (.goto 8, 3) := dk_167 0 8 (dk_at dksX1_readsRule_0 13 rfl rfl)
theorem dX1_readsRule_16 : decode cX1_readsRule 16 = .ok (.aload_n 0, 1) := dk_42 (dk_at dksX1_readsRule_0 16 rfl rfl)
theorem dX1_readsRule_17 : decode cX1_readsRule 17 = .ok (.iconst 0, 1) := dk_3 (dk_at dksX1_readsRule_0 17 rfl rfl)
theorem dX1_readsRule_18 : decode cX1_readsRule 18 = .ok (.invokevirtual 231, 3) := dk_182 0 231 (dk_at dksX1_readsRule_0 18 rfl rfl)
theorem dX1_readsRule_21 : decode cX1_readsRule 21 = .ok (.putfield 250, 3) := dk_181 0 250 (dk_at dksX1_readsRule_0 21 rfl rfl)
theorem dX1_readsRule_24 : decode cX1_readsRule 24 = .ok (.iload_n 1, 1) := dk_27 (dk_at dksX1_readsRule_1 0 rfl rfl)
theorem dX1_readsRule_25 : decode cX1_readsRule 25 = .ok (.ifCond .ne 7, 3) := dk_154 0 7 (dk_at dksX1_readsRule_1 1 rfl rfl)
theorem dX1_readsRule_28 : decode cX1_readsRule 28 = .ok (.iconst 0, 1) := dk_3 (dk_at dksX1_readsRule_1 4 rfl rfl)
theorem dX1_readsRule_29 : decode cX1_readsRule 29 = .ok (.goto 20, 3) := dk_167 0 20 (dk_at dksX1_readsRule_1 5 rfl rfl)
theorem dX1_readsRule_32 : decode cX1_readsRule 32 = .ok (.aload_n 0, 1) := dk_42 (dk_at dksX1_readsRule_1 8 rfl rfl)
theorem dX1_readsRule_33 : decode cX1_readsRule 33 = .ok (.iload_n 1, 1) := dk_27 (dk_at dksX1_readsRule_1 9 rfl rfl)
theorem dX1_readsRule_34 : decode cX1_readsRule 34 = .ok (.aload_n 0, 1) := dk_42 (dk_at dksX1_readsRule_1 10 rfl rfl)
theorem dX1_readsRule_35 : decode cX1_readsRule 35 = .ok (.getfield 250, 3) := dk_180 0 250 (dk_at dksX1_readsRule_1 11 rfl rfl)
theorem dX1_readsRule_38 : decode cX1_readsRule 38 = .ok (.ifnull 7, 3) := dk_198 0 7 (dk_at dksX1_readsRule_1 14 rfl rfl)
theorem dX1_readsRule_41 : decode cX1_readsRule 41 = .ok (.iconst 1, 1) := dk_4 (dk_at dksX1_readsRule_1 17 rfl rfl)
theorem dX1_readsRule_42 : decode cX1_readsRule 42 = .ok (.goto 4, 3) := dk_167 0 4 (dk_at dksX1_readsRule_1 18 rfl rfl)
theorem dX1_readsRule_45 : decode cX1_readsRule 45 = .ok (.iconst 0, 1) := dk_3 (dk_at dksX1_readsRule_1 21 rfl rfl)
theorem dX1_readsRule_46 : decode cX1_readsRule 46 = .ok (.invokevirtual 193, 3) := dk_182 0 193 (dk_at dksX1_readsRule_2 0 rfl rfl)
theorem dX1_readsRule_49 : decode cX1_readsRule 49 = .ok (.ireturn, 1) := dk_172 (dk_at dksX1_readsRule_2 3 rfl rfl)
abbrev cX1_reads : ByteArray := prog_1_method_25_code
def yX1_reads : MethodName := ⟨RX1, "reads", "(I)LRockingHorse$Node;"⟩
def dkwX1_reads_4 : List UInt8 := [158, 0, 7, 4, 167, 0, 4, 3, 62, 167, 255, 173, 44, 176]
abbrev dktX1_reads_4 : List UInt8 := dkwX1_reads_4 ++ []
def dkwX1_reads_3 : List UInt8 := [199, 0, 7, 1, 167, 0, 16, 187, 0, 245, 89, 42, 21, 4, 44, 25, 5, 183, 0, 247, 77, 27]
abbrev dktX1_reads_3 : List UInt8 := dkwX1_reads_3 ++ dktX1_reads_4
def dkwX1_reads_2 : List UInt8 := [146, 54, 4, 42, 89, 180, 0, 135, 4, 96, 181, 0, 135, 42, 27, 4, 96, 182, 0, 231, 58, 5, 25, 5]
abbrev dktX1_reads_2 : List UInt8 := dkwX1_reads_2 ++ dktX1_reads_3
def dkwX1_reads_1 : List UInt8 := [29, 153, 0, 81, 42, 27, 184, 0, 241, 182, 0, 160, 155, 0, 70, 42, 180, 0, 36, 42, 180, 0, 135, 46]
abbrev dktX1_reads_1 : List UInt8 := dkwX1_reads_1 ++ dktX1_reads_2
def dkwX1_reads_0 : List UInt8 := [27, 6, 160, 0, 8, 42, 182, 0, 209, 176, 42, 27, 4, 96, 182, 0, 231, 77, 4, 62, 44, 198, 0, 85]
abbrev dktX1_reads_0 : List UInt8 := dkwX1_reads_0 ++ dktX1_reads_1
theorem dksX1_reads_0 : cX1_reads.data.toList.drop 0 = dktX1_reads_0 := by decide +kernel
theorem dksX1_reads_1 : cX1_reads.data.toList.drop 24 = dktX1_reads_1 := dk_seg dksX1_reads_0 24 rfl rfl
theorem dksX1_reads_2 : cX1_reads.data.toList.drop 48 = dktX1_reads_2 := dk_seg dksX1_reads_1 24 rfl rfl
theorem dksX1_reads_3 : cX1_reads.data.toList.drop 72 = dktX1_reads_3 := dk_seg dksX1_reads_2 24 rfl rfl
theorem dksX1_reads_4 : cX1_reads.data.toList.drop 94 = dktX1_reads_4 := dk_seg dksX1_reads_3 22 rfl rfl
theorem dX1_reads_0 : decode cX1_reads 0 = .ok (.iload_n 1, 1) := dk_27 (dk_at dksX1_reads_0 0 rfl rfl)
theorem dX1_reads_1 : decode cX1_reads 1 = .ok (.iconst 3, 1) := dk_6 (dk_at dksX1_reads_0 1 rfl rfl)
theorem dX1_reads_2 : decode cX1_reads 2 = .ok (.if_icmp .ne 8, 3) := dk_160 0 8 (dk_at dksX1_reads_0 2 rfl rfl)
theorem dX1_reads_5 : decode cX1_reads 5 = .ok (.aload_n 0, 1) := dk_42 (dk_at dksX1_reads_0 5 rfl rfl)
theorem dX1_reads_6 : decode cX1_reads 6 = .ok (.invokevirtual 209, 3) := dk_182 0 209 (dk_at dksX1_reads_0 6 rfl rfl)
theorem dX1_reads_9 : decode cX1_reads 9 = .ok (.areturn, 1) := dk_176 (dk_at dksX1_reads_0 9 rfl rfl)
theorem dX1_reads_10 : decode cX1_reads 10 = .ok (.aload_n 0, 1) := dk_42 (dk_at dksX1_reads_0 10 rfl rfl)
theorem dX1_reads_11 : decode cX1_reads 11 = .ok (.iload_n 1, 1) := dk_27 (dk_at dksX1_reads_0 11 rfl rfl)
theorem dX1_reads_12 : decode cX1_reads 12 = .ok (.iconst 1, 1) := dk_4 (dk_at dksX1_reads_0 12 rfl rfl)
theorem dX1_reads_13 : decode cX1_reads 13 = .ok (.iadd, 1) := dk_96 (dk_at dksX1_reads_0 13 rfl rfl)
theorem dX1_reads_14 : decode cX1_reads 14 = .ok (.invokevirtual 231, 3) := dk_182 0 231 (dk_at dksX1_reads_0 14 rfl rfl)
theorem dX1_reads_17 : decode cX1_reads 17 = .ok (.astore_n 2, 1) := dk_77 (dk_at dksX1_reads_0 17 rfl rfl)
theorem dX1_reads_18 : decode cX1_reads 18 = .ok (.iconst 1, 1) := dk_4 (dk_at dksX1_reads_0 18 rfl rfl)
theorem dX1_reads_19 : decode cX1_reads 19 = .ok (.istore_n 3, 1) := dk_62 (dk_at dksX1_reads_0 19 rfl rfl)
theorem dX1_reads_20 : decode cX1_reads 20 = .ok (.aload_n 2, 1) := dk_44 (dk_at dksX1_reads_0 20 rfl rfl)
theorem dX1_reads_21 : decode cX1_reads 21 = .ok (.ifnull 85, 3) := dk_198 0 85 (dk_at dksX1_reads_0 21 rfl rfl)
theorem dX1_reads_24 : decode cX1_reads 24 = .ok (.iload_n 3, 1) := dk_29 (dk_at dksX1_reads_1 0 rfl rfl)
theorem dX1_reads_25 : decode cX1_reads 25 = .ok (.ifCond .eq 81, 3) := dk_153 0 81 (dk_at dksX1_reads_1 1 rfl rfl)
theorem dX1_reads_28 : decode cX1_reads 28 = .ok (.aload_n 0, 1) := dk_42 (dk_at dksX1_reads_1 4 rfl rfl)
theorem dX1_reads_29 : decode cX1_reads 29 = .ok (.iload_n 1, 1) := dk_27 (dk_at dksX1_reads_1 5 rfl rfl)
theorem dX1_reads_30 : decode cX1_reads 30 = .ok (.invokestatic 241, 3) := dk_184 0 241 (dk_at dksX1_reads_1 6 rfl rfl)
theorem dX1_reads_33 : decode cX1_reads 33 = .ok (.invokevirtual 160, 3) := dk_182 0 160 (dk_at dksX1_reads_1 9 rfl rfl)
theorem dX1_reads_36 : decode cX1_reads 36 = .ok (.ifCond .lt 70, 3) := dk_155 0 70 (dk_at dksX1_reads_1 12 rfl rfl)
theorem dX1_reads_39 : decode cX1_reads 39 = .ok (.aload_n 0, 1) := dk_42 (dk_at dksX1_reads_1 15 rfl rfl)
theorem dX1_reads_40 : decode cX1_reads 40 = .ok (.getfield 36, 3) := dk_180 0 36 (dk_at dksX1_reads_1 16 rfl rfl)
theorem dX1_reads_43 : decode cX1_reads 43 = .ok (.aload_n 0, 1) := dk_42 (dk_at dksX1_reads_1 19 rfl rfl)
theorem dX1_reads_44 : decode cX1_reads 44 = .ok (.getfield 135, 3) := dk_180 0 135 (dk_at dksX1_reads_1 20 rfl rfl)
theorem dX1_reads_47 : decode cX1_reads 47 = .ok (.iaload, 1) := dk_46 (dk_at dksX1_reads_1 23 rfl rfl)
theorem dX1_reads_48 : decode cX1_reads 48 = .ok (.i2c, 1) := dk_146 (dk_at dksX1_reads_2 0 rfl rfl)
theorem dX1_reads_49 : decode cX1_reads 49 = .ok (.istore 4, 2) := dk_54 4 (dk_at dksX1_reads_2 1 rfl rfl)
theorem dX1_reads_51 : decode cX1_reads 51 = .ok (.aload_n 0, 1) := dk_42 (dk_at dksX1_reads_2 3 rfl rfl)
theorem dX1_reads_52 : decode cX1_reads 52 = .ok (.dup, 1) := dk_89 (dk_at dksX1_reads_2 4 rfl rfl)
theorem dX1_reads_53 : decode cX1_reads 53 = .ok (.getfield 135, 3) := dk_180 0 135 (dk_at dksX1_reads_2 5 rfl rfl)
theorem dX1_reads_56 : decode cX1_reads 56 = .ok (.iconst 1, 1) := dk_4 (dk_at dksX1_reads_2 8 rfl rfl)
theorem dX1_reads_57 : decode cX1_reads 57 = .ok (.iadd, 1) := dk_96 (dk_at dksX1_reads_2 9 rfl rfl)
theorem dX1_reads_58 : decode cX1_reads 58 = .ok (.putfield 135, 3) := dk_181 0 135 (dk_at dksX1_reads_2 10 rfl rfl)
theorem dX1_reads_61 : decode cX1_reads 61 = .ok (.aload_n 0, 1) := dk_42 (dk_at dksX1_reads_2 13 rfl rfl)
theorem dX1_reads_62 : decode cX1_reads 62 = .ok (.iload_n 1, 1) := dk_27 (dk_at dksX1_reads_2 14 rfl rfl)
theorem dX1_reads_63 : decode cX1_reads 63 = .ok (.iconst 1, 1) := dk_4 (dk_at dksX1_reads_2 15 rfl rfl)
theorem dX1_reads_64 : decode cX1_reads 64 = .ok (.iadd, 1) := dk_96 (dk_at dksX1_reads_2 16 rfl rfl)
theorem dX1_reads_65 : decode cX1_reads 65 = .ok (.invokevirtual 231, 3) := dk_182 0 231 (dk_at dksX1_reads_2 17 rfl rfl)
theorem dX1_reads_68 : decode cX1_reads 68 = .ok (.astore 5, 2) := dk_58 5 (dk_at dksX1_reads_2 20 rfl rfl)
theorem dX1_reads_70 : decode cX1_reads 70 = .ok (.aload 5, 2) := dk_25 5 (dk_at dksX1_reads_2 22 rfl rfl)
theorem dX1_reads_72 : decode cX1_reads 72 = .ok (.ifnonnull 7, 3) := dk_199 0 7 (dk_at dksX1_reads_3 0 rfl rfl)
theorem dX1_reads_75 : decode cX1_reads 75 = .ok (.aconst_null, 1) := dk_1 (dk_at dksX1_reads_3 3 rfl rfl)
theorem dX1_reads_76 : decode cX1_reads 76 = .ok (.goto 16, 3) := dk_167 0 16 (dk_at dksX1_reads_3 4 rfl rfl)
theorem dX1_reads_79 : decode cX1_reads 79 = .ok (.new 245, 3) := dk_187 0 245 (dk_at dksX1_reads_3 7 rfl rfl)
theorem dX1_reads_82 : decode cX1_reads 82 = .ok (.dup, 1) := dk_89 (dk_at dksX1_reads_3 10 rfl rfl)
theorem dX1_reads_83 : decode cX1_reads 83 = .ok (.aload_n 0, 1) := dk_42 (dk_at dksX1_reads_3 11 rfl rfl)
theorem dX1_reads_84 : decode cX1_reads 84 = .ok (.iload 4, 2) := dk_21 4 (dk_at dksX1_reads_3 12 rfl rfl)
theorem dX1_reads_86 : decode cX1_reads 86 = .ok (.aload_n 2, 1) := dk_44 (dk_at dksX1_reads_3 14 rfl rfl)
theorem dX1_reads_87 : decode cX1_reads 87 = .ok (.aload 5, 2) := dk_25 5 (dk_at dksX1_reads_3 15 rfl rfl)
theorem dX1_reads_89 : decode cX1_reads 89 = .ok (.invokespecial 247, 3) := dk_183 0 247 (dk_at dksX1_reads_3 17 rfl rfl)
theorem dX1_reads_92 : decode cX1_reads 92 = .ok (.astore_n 2, 1) := dk_77 (dk_at dksX1_reads_3 20 rfl rfl)
theorem dX1_reads_93 : decode cX1_reads 93 = .ok (.iload_n 1, 1) := dk_27 (dk_at dksX1_reads_3 21 rfl rfl)
theorem dX1_reads_94 : decode cX1_reads 94 = .ok (.ifCond .le 7, 3) := dk_158 0 7 (dk_at dksX1_reads_4 0 rfl rfl)
theorem dX1_reads_97 : decode cX1_reads 97 = .ok (.iconst 1, 1) := dk_4 (dk_at dksX1_reads_4 3 rfl rfl)
theorem dX1_reads_98 : decode cX1_reads 98 = .ok (.goto 4, 3) := dk_167 0 4 (dk_at dksX1_reads_4 4 rfl rfl)
theorem dX1_reads_101 : decode cX1_reads 101 = .ok (.iconst 0, 1) := dk_3 (dk_at dksX1_reads_4 7 rfl rfl)
theorem dX1_reads_102 : decode cX1_reads 102 = .ok (.istore_n 3, 1) := dk_62 (dk_at dksX1_reads_4 8 rfl rfl)
theorem dX1_reads_103 : decode cX1_reads 103 = .ok (.goto (-83), 3) := dk_167 255 173 (dk_at dksX1_reads_4 9 rfl rfl)
theorem dX1_reads_106 : decode cX1_reads 106 = .ok (.aload_n 2, 1) := dk_44 (dk_at dksX1_reads_4 12 rfl rfl)
theorem dX1_reads_107 : decode cX1_reads 107 = .ok (.areturn, 1) := dk_176 (dk_at dksX1_reads_4 13 rfl rfl)
abbrev cX1_readsThing : ByteArray := prog_1_method_23_code
def yX1_readsThing : MethodName := ⟨RX1, "readsThing", "()LRockingHorse$Node;"⟩
def dkwX1_readsThing_6 : List UInt8 := [42, 16, 41, 182, 0, 190, 154, 0, 5, 1, 176, 42, 89, 180, 0, 138, 4, 100, 181, 0, 138, 43, 176]
abbrev dktX1_readsThing_6 : List UInt8 := dkwX1_readsThing_6 ++ []
def dkwX1_readsThing_5 : List UInt8 := [96, 181, 0, 135, 42, 89, 180, 0, 138, 4, 96, 181, 0, 138, 42, 3, 182, 0, 231, 76, 43, 198, 0, 12]
abbrev dktX1_readsThing_5 : List UInt8 := dkwX1_readsThing_5 ++ dktX1_readsThing_6
def dkwX1_readsThing_4 : List UInt8 := [16, 40, 182, 0, 150, 153, 0, 11, 42, 180, 0, 138, 7, 160, 0, 5, 1, 176, 42, 89, 180, 0, 135, 4]
abbrev dktX1_readsThing_4 : List UInt8 := dkwX1_readsThing_4 ++ dktX1_readsThing_5
def dkwX1_readsThing_3 : List UInt8 := [181, 0, 135, 187, 0, 228, 89, 42, 42, 180, 0, 36, 42, 180, 0, 135, 4, 100, 46, 183, 0, 230, 176, 42]
abbrev dktX1_readsThing_3 : List UInt8 := dkwX1_readsThing_3 ++ dktX1_readsThing_4
def dkwX1_readsThing_2 : List UInt8 := [182, 0, 220, 183, 0, 223, 176, 42, 18, 226, 182, 0, 160, 155, 0, 33, 42, 89, 180, 0, 135, 4, 96]
abbrev dktX1_readsThing_2 : List UInt8 := dkwX1_readsThing_2 ++ dktX1_readsThing_3
def dkwX1_readsThing_1 : List UInt8 := [187, 0, 213, 89, 42, 43, 183, 0, 215, 176, 42, 182, 0, 168, 153, 0, 17, 187, 0, 218, 89, 42, 42, 6]
abbrev dktX1_readsThing_1 : List UInt8 := dkwX1_readsThing_1 ++ dktX1_readsThing_2
def dkwX1_readsThing_0 : List UInt8 := [42, 16, 45, 182, 0, 190, 153, 0, 26, 42, 182, 0, 209, 76, 43, 199, 0, 7, 1, 167, 0, 12]
abbrev dktX1_readsThing_0 : List UInt8 := dkwX1_readsThing_0 ++ dktX1_readsThing_1
theorem dksX1_readsThing_0 : cX1_readsThing.data.toList.drop 0 = dktX1_readsThing_0 := by decide +kernel
theorem dksX1_readsThing_1 : cX1_readsThing.data.toList.drop 22 = dktX1_readsThing_1 := dk_seg dksX1_readsThing_0 22 rfl rfl
theorem dksX1_readsThing_2 : cX1_readsThing.data.toList.drop 46 = dktX1_readsThing_2 := dk_seg dksX1_readsThing_1 24 rfl rfl
theorem dksX1_readsThing_3 : cX1_readsThing.data.toList.drop 69 = dktX1_readsThing_3 := dk_seg dksX1_readsThing_2 23 rfl rfl
theorem dksX1_readsThing_4 : cX1_readsThing.data.toList.drop 93 = dktX1_readsThing_4 := dk_seg dksX1_readsThing_3 24 rfl rfl
theorem dksX1_readsThing_5 : cX1_readsThing.data.toList.drop 117 = dktX1_readsThing_5 := dk_seg dksX1_readsThing_4 24 rfl rfl
theorem dksX1_readsThing_6 : cX1_readsThing.data.toList.drop 141 = dktX1_readsThing_6 := dk_seg dksX1_readsThing_5 24 rfl rfl
theorem dX1_readsThing_0 : decode cX1_readsThing 0 = .ok (.aload_n 0, 1) := dk_42 (dk_at dksX1_readsThing_0 0 rfl rfl)
theorem dX1_readsThing_1 : decode cX1_readsThing 1 = .ok (.bipush 45, 2) := dk_16 45 (dk_at dksX1_readsThing_0 1 rfl rfl)
theorem dX1_readsThing_3 : decode cX1_readsThing 3 = .ok (.invokevirtual 190, 3) := dk_182 0 190 (dk_at dksX1_readsThing_0 3 rfl rfl)
theorem dX1_readsThing_6 : decode cX1_readsThing 6 = .ok (.ifCond .eq 26, 3) := dk_153 0 26 (dk_at dksX1_readsThing_0 6 rfl rfl)
theorem dX1_readsThing_9 : decode cX1_readsThing 9 = .ok (.aload_n 0, 1) := dk_42 (dk_at dksX1_readsThing_0 9 rfl rfl)
theorem dX1_readsThing_10 : decode cX1_readsThing 10 = .ok (.invokevirtual 209, 3) := dk_182 0 209 (dk_at dksX1_readsThing_0 10 rfl rfl)
theorem dX1_readsThing_13 : decode cX1_readsThing 13 = .ok (.astore_n 1, 1) := dk_76 (dk_at dksX1_readsThing_0 13 rfl rfl)
theorem dX1_readsThing_14 : decode cX1_readsThing 14 = .ok (.aload_n 1, 1) := dk_43 (dk_at dksX1_readsThing_0 14 rfl rfl)
theorem dX1_readsThing_15 : decode cX1_readsThing 15 = .ok (.ifnonnull 7, 3) := dk_199 0 7 (dk_at dksX1_readsThing_0 15 rfl rfl)
theorem dX1_readsThing_18 : decode cX1_readsThing 18 = .ok (.aconst_null, 1) := dk_1 (dk_at dksX1_readsThing_0 18 rfl rfl)
theorem dX1_readsThing_19 : decode cX1_readsThing 19 = .ok (.goto 12, 3) := dk_167 0 12 (dk_at dksX1_readsThing_0 19 rfl rfl)
theorem dX1_readsThing_22 : decode cX1_readsThing 22 = .ok (.new 213, 3) := dk_187 0 213 (dk_at dksX1_readsThing_1 0 rfl rfl)
theorem dX1_readsThing_25 : decode cX1_readsThing 25 = .ok (.dup, 1) := dk_89 (dk_at dksX1_readsThing_1 3 rfl rfl)
theorem dX1_readsThing_26 : decode cX1_readsThing 26 = .ok (.aload_n 0, 1) := dk_42 (dk_at dksX1_readsThing_1 4 rfl rfl)
theorem dX1_readsThing_27 : decode cX1_readsThing 27 = .ok (.aload_n 1, 1) := dk_43 (dk_at dksX1_readsThing_1 5 rfl rfl)
theorem dX1_readsThing_28 : decode cX1_readsThing 28 = .ok (.invokespecial 215, 3) := dk_183 0 215 (dk_at dksX1_readsThing_1 6 rfl rfl)
theorem dX1_readsThing_31 : decode cX1_readsThing 31 = .ok (.areturn, 1) := dk_176 (dk_at dksX1_readsThing_1 9 rfl rfl)
theorem dX1_readsThing_32 : decode cX1_readsThing 32 = .ok (.aload_n 0, 1) := dk_42 (dk_at dksX1_readsThing_1 10 rfl rfl)
theorem dX1_readsThing_33 : decode cX1_readsThing 33 = .ok (.invokevirtual 168, 3) := dk_182 0 168 (dk_at dksX1_readsThing_1 11 rfl rfl)
theorem dX1_readsThing_36 : decode cX1_readsThing 36 = .ok (.ifCond .eq 17, 3) := dk_153 0 17 (dk_at dksX1_readsThing_1 14 rfl rfl)
theorem dX1_readsThing_39 : decode cX1_readsThing 39 = .ok (.new 218, 3) := dk_187 0 218 (dk_at dksX1_readsThing_1 17 rfl rfl)
theorem dX1_readsThing_42 : decode cX1_readsThing 42 = .ok (.dup, 1) := dk_89 (dk_at dksX1_readsThing_1 20 rfl rfl)
theorem dX1_readsThing_43 : decode cX1_readsThing 43 = .ok (.aload_n 0, 1) := dk_42 (dk_at dksX1_readsThing_1 21 rfl rfl)
theorem dX1_readsThing_44 : decode cX1_readsThing 44 = .ok (.aload_n 0, 1) := dk_42 (dk_at dksX1_readsThing_1 22 rfl rfl)
theorem dX1_readsThing_45 : decode cX1_readsThing 45 = .ok (.iconst 3, 1) := dk_6 (dk_at dksX1_readsThing_1 23 rfl rfl)
theorem dX1_readsThing_46 : decode cX1_readsThing 46 = .ok (.invokevirtual 220, 3) := dk_182 0 220 (dk_at dksX1_readsThing_2 0 rfl rfl)
theorem dX1_readsThing_49 : decode cX1_readsThing 49 = .ok (.invokespecial 223, 3) := dk_183 0 223 (dk_at dksX1_readsThing_2 3 rfl rfl)
theorem dX1_readsThing_52 : decode cX1_readsThing 52 = .ok (.areturn, 1) := dk_176 (dk_at dksX1_readsThing_2 6 rfl rfl)
theorem dX1_readsThing_53 : decode cX1_readsThing 53 = .ok (.aload_n 0, 1) := dk_42 (dk_at dksX1_readsThing_2 7 rfl rfl)
theorem dX1_readsThing_54 : decode cX1_readsThing 54 = .ok (.ldc 226, 2) := dk_18 226 (dk_at dksX1_readsThing_2 8 rfl rfl)
theorem dX1_readsThing_56 : decode cX1_readsThing 56 = .ok (.invokevirtual 160, 3) := dk_182 0 160 (dk_at dksX1_readsThing_2 10 rfl rfl)
theorem dX1_readsThing_59 : decode cX1_readsThing 59 = .ok (.ifCond .lt 33, 3) := dk_155 0 33 (dk_at dksX1_readsThing_2 13 rfl rfl)
theorem dX1_readsThing_62 : decode cX1_readsThing 62 = .ok (.aload_n 0, 1) := dk_42 (dk_at dksX1_readsThing_2 16 rfl rfl)
theorem dX1_readsThing_63 : decode cX1_readsThing 63 = .ok (.dup, 1) := dk_89 (dk_at dksX1_readsThing_2 17 rfl rfl)
theorem dX1_readsThing_64 : decode cX1_readsThing 64 = .ok (.getfield 135, 3) := dk_180 0 135 (dk_at dksX1_readsThing_2 18 rfl rfl)
theorem dX1_readsThing_67 : decode cX1_readsThing 67 = .ok (.iconst 1, 1) := dk_4 (dk_at dksX1_readsThing_2 21 rfl rfl)
theorem dX1_readsThing_68 : decode cX1_readsThing 68 = .ok (.iadd, 1) := dk_96 (dk_at dksX1_readsThing_2 22 rfl rfl)
theorem dX1_readsThing_69 : decode cX1_readsThing 69 = .ok (.putfield 135, 3) := dk_181 0 135 (dk_at dksX1_readsThing_3 0 rfl rfl)
theorem dX1_readsThing_72 : decode cX1_readsThing 72 = .ok (.new 228, 3) := dk_187 0 228 (dk_at dksX1_readsThing_3 3 rfl rfl)
theorem dX1_readsThing_75 : decode cX1_readsThing 75 = .ok (.dup, 1) := dk_89 (dk_at dksX1_readsThing_3 6 rfl rfl)
theorem dX1_readsThing_76 : decode cX1_readsThing 76 = .ok (.aload_n 0, 1) := dk_42 (dk_at dksX1_readsThing_3 7 rfl rfl)
theorem dX1_readsThing_77 : decode cX1_readsThing 77 = .ok (.aload_n 0, 1) := dk_42 (dk_at dksX1_readsThing_3 8 rfl rfl)
theorem dX1_readsThing_78 : decode cX1_readsThing 78 = .ok (.getfield 36, 3) := dk_180 0 36 (dk_at dksX1_readsThing_3 9 rfl rfl)
theorem dX1_readsThing_81 : decode cX1_readsThing 81 = .ok (.aload_n 0, 1) := dk_42 (dk_at dksX1_readsThing_3 12 rfl rfl)
theorem dX1_readsThing_82 : decode cX1_readsThing 82 = .ok (.getfield 135, 3) := dk_180 0 135 (dk_at dksX1_readsThing_3 13 rfl rfl)
theorem dX1_readsThing_85 : decode cX1_readsThing 85 = .ok (.iconst 1, 1) := dk_4 (dk_at dksX1_readsThing_3 16 rfl rfl)
theorem dX1_readsThing_86 : decode cX1_readsThing 86 = .ok (.isub, 1) := dk_100 (dk_at dksX1_readsThing_3 17 rfl rfl)
theorem dX1_readsThing_87 : decode cX1_readsThing 87 = .ok (.iaload, 1) := dk_46 (dk_at dksX1_readsThing_3 18 rfl rfl)
theorem dX1_readsThing_88 : decode cX1_readsThing 88 = .ok (.invokespecial 230, 3) := dk_183 0 230 (dk_at dksX1_readsThing_3 19 rfl rfl)
theorem dX1_readsThing_91 : decode cX1_readsThing 91 = .ok (.areturn, 1) := dk_176 (dk_at dksX1_readsThing_3 22 rfl rfl)
theorem dX1_readsThing_92 : decode cX1_readsThing 92 = .ok (.aload_n 0, 1) := dk_42 (dk_at dksX1_readsThing_3 23 rfl rfl)
theorem dX1_readsThing_93 : decode cX1_readsThing 93 = .ok (.bipush 40, 2) := dk_16 40 (dk_at dksX1_readsThing_4 0 rfl rfl)
theorem dX1_readsThing_95 : decode cX1_readsThing 95 = .ok (.invokevirtual 150, 3) := dk_182 0 150 (dk_at dksX1_readsThing_4 2 rfl rfl)
theorem dX1_readsThing_98 : decode cX1_readsThing 98 = .ok (.ifCond .eq 11, 3) := dk_153 0 11 (dk_at dksX1_readsThing_4 5 rfl rfl)
theorem dX1_readsThing_101 : decode cX1_readsThing 101 = .ok (.aload_n 0, 1) := dk_42 (dk_at dksX1_readsThing_4 8 rfl rfl)
theorem dX1_readsThing_102 : decode cX1_readsThing 102 = .ok (.getfield 138, 3) := dk_180 0 138 (dk_at dksX1_readsThing_4 9 rfl rfl)
theorem dX1_readsThing_105 : decode cX1_readsThing 105 = .ok (.iconst 4, 1) := dk_7 (dk_at dksX1_readsThing_4 12 rfl rfl)
theorem dX1_readsThing_106 : decode cX1_readsThing 106 = .ok (.if_icmp .ne 5, 3) := dk_160 0 5 (dk_at dksX1_readsThing_4 13 rfl rfl)
theorem dX1_readsThing_109 : decode cX1_readsThing 109 = .ok (.aconst_null, 1) := dk_1 (dk_at dksX1_readsThing_4 16 rfl rfl)
theorem dX1_readsThing_110 : decode cX1_readsThing 110 = .ok (.areturn, 1) := dk_176 (dk_at dksX1_readsThing_4 17 rfl rfl)
theorem dX1_readsThing_111 : decode cX1_readsThing 111 = .ok (.aload_n 0, 1) := dk_42 (dk_at dksX1_readsThing_4 18 rfl rfl)
theorem dX1_readsThing_112 : decode cX1_readsThing 112 = .ok (.dup, 1) := dk_89 (dk_at dksX1_readsThing_4 19 rfl rfl)
theorem dX1_readsThing_113 : decode cX1_readsThing 113 = .ok (.getfield 135, 3) := dk_180 0 135 (dk_at dksX1_readsThing_4 20 rfl rfl)
theorem dX1_readsThing_116 : decode cX1_readsThing 116 = .ok (.iconst 1, 1) := dk_4 (dk_at dksX1_readsThing_4 23 rfl rfl)
theorem dX1_readsThing_117 : decode cX1_readsThing 117 = .ok (.iadd, 1) := dk_96 (dk_at dksX1_readsThing_5 0 rfl rfl)
theorem dX1_readsThing_118 : decode cX1_readsThing 118 = .ok (.putfield 135, 3) := dk_181 0 135 (dk_at dksX1_readsThing_5 1 rfl rfl)
theorem dX1_readsThing_121 : decode cX1_readsThing 121 = .ok (.aload_n 0, 1) := dk_42 (dk_at dksX1_readsThing_5 4 rfl rfl)
theorem dX1_readsThing_122 : decode cX1_readsThing 122 = .ok (.dup, 1) := dk_89 (dk_at dksX1_readsThing_5 5 rfl rfl)
theorem dX1_readsThing_123 : decode cX1_readsThing 123 = .ok (.getfield 138, 3) := dk_180 0 138 (dk_at dksX1_readsThing_5 6 rfl rfl)
theorem dX1_readsThing_126 : decode cX1_readsThing 126 = .ok (.iconst 1, 1) := dk_4 (dk_at dksX1_readsThing_5 9 rfl rfl)
theorem dX1_readsThing_127 : decode cX1_readsThing 127 = .ok (.iadd, 1) := dk_96 (dk_at dksX1_readsThing_5 10 rfl rfl)
theorem dX1_readsThing_128 : decode cX1_readsThing 128 = .ok (.putfield 138, 3) := dk_181 0 138 (dk_at dksX1_readsThing_5 11 rfl rfl)
theorem dX1_readsThing_131 : decode cX1_readsThing 131 = .ok (.aload_n 0, 1) := dk_42 (dk_at dksX1_readsThing_5 14 rfl rfl)
theorem dX1_readsThing_132 : decode cX1_readsThing 132 = .ok (.iconst 0, 1) := dk_3 (dk_at dksX1_readsThing_5 15 rfl rfl)
theorem dX1_readsThing_133 : decode cX1_readsThing 133 = .ok (.invokevirtual 231, 3) := dk_182 0 231 (dk_at dksX1_readsThing_5 16 rfl rfl)
theorem dX1_readsThing_136 : decode cX1_readsThing 136 = .ok (.astore_n 1, 1) := dk_76 (dk_at dksX1_readsThing_5 19 rfl rfl)
theorem dX1_readsThing_137 : decode cX1_readsThing 137 = .ok (.aload_n 1, 1) := dk_43 (dk_at dksX1_readsThing_5 20 rfl rfl)
theorem dX1_readsThing_138 : decode cX1_readsThing 138 = .ok (.ifnull 12, 3) := dk_198 0 12 (dk_at dksX1_readsThing_5 21 rfl rfl)
theorem dX1_readsThing_141 : decode cX1_readsThing 141 = .ok (.aload_n 0, 1) := dk_42 (dk_at dksX1_readsThing_6 0 rfl rfl)
theorem dX1_readsThing_142 : decode cX1_readsThing 142 = .ok (.bipush 41, 2) := dk_16 41 (dk_at dksX1_readsThing_6 1 rfl rfl)
theorem dX1_readsThing_144 : decode cX1_readsThing 144 = .ok (.invokevirtual 190, 3) := dk_182 0 190 (dk_at dksX1_readsThing_6 3 rfl rfl)
theorem dX1_readsThing_147 : decode cX1_readsThing 147 = .ok (.ifCond .ne 5, 3) := dk_154 0 5 (dk_at dksX1_readsThing_6 6 rfl rfl)
theorem dX1_readsThing_150 : decode cX1_readsThing 150 = .ok (.aconst_null, 1) := dk_1 (dk_at dksX1_readsThing_6 9 rfl rfl)
theorem dX1_readsThing_151 : decode cX1_readsThing 151 = .ok (.areturn, 1) := dk_176 (dk_at dksX1_readsThing_6 10 rfl rfl)
theorem dX1_readsThing_152 : decode cX1_readsThing 152 = .ok (.aload_n 0, 1) := dk_42 (dk_at dksX1_readsThing_6 11 rfl rfl)
theorem dX1_readsThing_153 : decode cX1_readsThing 153 = .ok (.dup, 1) := dk_89 (dk_at dksX1_readsThing_6 12 rfl rfl)
theorem dX1_readsThing_154 : decode cX1_readsThing 154 = .ok (.getfield 138, 3) := dk_180 0 138 (dk_at dksX1_readsThing_6 13 rfl rfl)
theorem dX1_readsThing_157 : decode cX1_readsThing 157 = .ok (.iconst 1, 1) := dk_4 (dk_at dksX1_readsThing_6 16 rfl rfl)
theorem dX1_readsThing_158 : decode cX1_readsThing 158 = .ok (.isub, 1) := dk_100 (dk_at dksX1_readsThing_6 17 rfl rfl)
theorem dX1_readsThing_159 : decode cX1_readsThing 159 = .ok (.putfield 138, 3) := dk_181 0 138 (dk_at dksX1_readsThing_6 18 rfl rfl)
theorem dX1_readsThing_162 : decode cX1_readsThing 162 = .ok (.aload_n 1, 1) := dk_43 (dk_at dksX1_readsThing_6 21 rfl rfl)
theorem dX1_readsThing_163 : decode cX1_readsThing 163 = .ok (.areturn, 1) := dk_176 (dk_at dksX1_readsThing_6 22 rfl rfl)
abbrev cX1_isDigit : ByteArray := prog_1_method_18_code
def yX1_isDigit : MethodName := ⟨RX1, "isDigit", "()Z"⟩
def dkwX1_isDigit_1 : List UInt8 := [20, 0, 166, 184, 0, 124, 153, 0, 7, 4, 167, 0, 4, 3, 172]
abbrev dktX1_isDigit_1 : List UInt8 := dkwX1_isDigit_1 ++ []
def dkwX1_isDigit_0 : List UInt8 := [42, 180, 0, 135, 42, 180, 0, 147, 162, 0, 29, 42, 180, 0, 36, 42, 180, 0, 135, 46, 133, 20, 0, 164]
abbrev dktX1_isDigit_0 : List UInt8 := dkwX1_isDigit_0 ++ dktX1_isDigit_1
theorem dksX1_isDigit_0 : cX1_isDigit.data.toList.drop 0 = dktX1_isDigit_0 := by decide +kernel
theorem dksX1_isDigit_1 : cX1_isDigit.data.toList.drop 24 = dktX1_isDigit_1 := dk_seg dksX1_isDigit_0 24 rfl rfl
theorem dX1_isDigit_0 : decode cX1_isDigit 0 = .ok (.aload_n 0, 1) := dk_42 (dk_at dksX1_isDigit_0 0 rfl rfl)
theorem dX1_isDigit_1 : decode cX1_isDigit 1 = .ok (.getfield 135, 3) := dk_180 0 135 (dk_at dksX1_isDigit_0 1 rfl rfl)
theorem dX1_isDigit_4 : decode cX1_isDigit 4 = .ok (.aload_n 0, 1) := dk_42 (dk_at dksX1_isDigit_0 4 rfl rfl)
theorem dX1_isDigit_5 : decode cX1_isDigit 5 = .ok (.getfield 147, 3) := dk_180 0 147 (dk_at dksX1_isDigit_0 5 rfl rfl)
theorem dX1_isDigit_8 : decode cX1_isDigit 8 = .ok (.if_icmp .ge 29, 3) := dk_162 0 29 (dk_at dksX1_isDigit_0 8 rfl rfl)
theorem dX1_isDigit_11 : decode cX1_isDigit 11 = .ok (.aload_n 0, 1) := dk_42 (dk_at dksX1_isDigit_0 11 rfl rfl)
theorem dX1_isDigit_12 : decode cX1_isDigit 12 = .ok (.getfield 36, 3) := dk_180 0 36 (dk_at dksX1_isDigit_0 12 rfl rfl)
theorem dX1_isDigit_15 : decode cX1_isDigit 15 = .ok (.aload_n 0, 1) := dk_42 (dk_at dksX1_isDigit_0 15 rfl rfl)
theorem dX1_isDigit_16 : decode cX1_isDigit 16 = .ok (.getfield 135, 3) := dk_180 0 135 (dk_at dksX1_isDigit_0 16 rfl rfl)
theorem dX1_isDigit_19 : decode cX1_isDigit 19 = .ok (.iaload, 1) := dk_46 (dk_at dksX1_isDigit_0 19 rfl rfl)
theorem dX1_isDigit_20 : decode cX1_isDigit 20 = .ok (.i2l, 1) := dk_133 (dk_at dksX1_isDigit_0 20 rfl rfl)
theorem dX1_isDigit_21 : decode cX1_isDigit 21 = .ok (.ldc2_w 164, 3) := dk_20 0 164 (dk_at dksX1_isDigit_0 21 rfl rfl)
theorem dX1_isDigit_24 : decode cX1_isDigit 24 = .ok (.ldc2_w 166, 3) := dk_20 0 166 (dk_at dksX1_isDigit_1 0 rfl rfl)
theorem dX1_isDigit_27 : decode cX1_isDigit 27 = .ok (.invokestatic 124, 3) := dk_184 0 124 (dk_at dksX1_isDigit_1 3 rfl rfl)
theorem dX1_isDigit_30 : decode cX1_isDigit 30 = .ok (.ifCond .eq 7, 3) := dk_153 0 7 (dk_at dksX1_isDigit_1 6 rfl rfl)
theorem dX1_isDigit_33 : decode cX1_isDigit 33 = .ok (.iconst 1, 1) := dk_4 (dk_at dksX1_isDigit_1 9 rfl rfl)
theorem dX1_isDigit_34 : decode cX1_isDigit 34 = .ok (.goto 4, 3) := dk_167 0 4 (dk_at dksX1_isDigit_1 10 rfl rfl)
theorem dX1_isDigit_37 : decode cX1_isDigit 37 = .ok (.iconst 0, 1) := dk_3 (dk_at dksX1_isDigit_1 13 rfl rfl)
theorem dX1_isDigit_38 : decode cX1_isDigit 38 = .ok (.ireturn, 1) := dk_172 (dk_at dksX1_isDigit_1 14 rfl rfl)
abbrev cX1_number : ByteArray := prog_1_method_19_code
def yX1_number : MethodName := ⟨RX1, "number", "(I)I"⟩
def dkwX1_number_2 : List UInt8 := [180, 0, 135, 4, 96, 181, 0, 135, 132, 3, 1, 167, 255, 213, 28, 172]
abbrev dktX1_number_2 : List UInt8 := dkwX1_number_2 ++ []
def dkwX1_number_1 : List UInt8 := [153, 0, 37, 16, 10, 28, 104, 42, 180, 0, 36, 42, 180, 0, 135, 46, 96, 16, 48, 100, 61, 42, 89]
abbrev dktX1_number_1 : List UInt8 := dkwX1_number_1 ++ dktX1_number_2
def dkwX1_number_0 : List UInt8 := [42, 182, 0, 168, 154, 0, 5, 2, 172, 3, 61, 3, 62, 29, 27, 162, 0, 44, 42, 182, 0, 168]
abbrev dktX1_number_0 : List UInt8 := dkwX1_number_0 ++ dktX1_number_1
theorem dksX1_number_0 : cX1_number.data.toList.drop 0 = dktX1_number_0 := by decide +kernel
theorem dksX1_number_1 : cX1_number.data.toList.drop 22 = dktX1_number_1 := dk_seg dksX1_number_0 22 rfl rfl
theorem dksX1_number_2 : cX1_number.data.toList.drop 45 = dktX1_number_2 := dk_seg dksX1_number_1 23 rfl rfl
theorem dX1_number_0 : decode cX1_number 0 = .ok (.aload_n 0, 1) := dk_42 (dk_at dksX1_number_0 0 rfl rfl)
theorem dX1_number_1 : decode cX1_number 1 = .ok (.invokevirtual 168, 3) := dk_182 0 168 (dk_at dksX1_number_0 1 rfl rfl)
theorem dX1_number_4 : decode cX1_number 4 = .ok (.ifCond .ne 5, 3) := dk_154 0 5 (dk_at dksX1_number_0 4 rfl rfl)
theorem dX1_number_7 : decode cX1_number 7 = .ok (.iconst (-1), 1) := dk_2 (dk_at dksX1_number_0 7 rfl rfl)
theorem dX1_number_8 : decode cX1_number 8 = .ok (.ireturn, 1) := dk_172 (dk_at dksX1_number_0 8 rfl rfl)
theorem dX1_number_9 : decode cX1_number 9 = .ok (.iconst 0, 1) := dk_3 (dk_at dksX1_number_0 9 rfl rfl)
theorem dX1_number_10 : decode cX1_number 10 = .ok (.istore_n 2, 1) := dk_61 (dk_at dksX1_number_0 10 rfl rfl)
theorem dX1_number_11 : decode cX1_number 11 = .ok (.iconst 0, 1) := dk_3 (dk_at dksX1_number_0 11 rfl rfl)
theorem dX1_number_12 : decode cX1_number 12 = .ok (.istore_n 3, 1) := dk_62 (dk_at dksX1_number_0 12 rfl rfl)
theorem dX1_number_13 : decode cX1_number 13 = .ok (.iload_n 3, 1) := dk_29 (dk_at dksX1_number_0 13 rfl rfl)
theorem dX1_number_14 : decode cX1_number 14 = .ok (.iload_n 1, 1) := dk_27 (dk_at dksX1_number_0 14 rfl rfl)
theorem dX1_number_15 : decode cX1_number 15 = .ok (.if_icmp .ge 44, 3) := dk_162 0 44 (dk_at dksX1_number_0 15 rfl rfl)
theorem dX1_number_18 : decode cX1_number 18 = .ok (.aload_n 0, 1) := dk_42 (dk_at dksX1_number_0 18 rfl rfl)
theorem dX1_number_19 : decode cX1_number 19 = .ok (.invokevirtual 168, 3) := dk_182 0 168 (dk_at dksX1_number_0 19 rfl rfl)
theorem dX1_number_22 : decode cX1_number 22 = .ok (.ifCond .eq 37, 3) := dk_153 0 37 (dk_at dksX1_number_1 0 rfl rfl)
theorem dX1_number_25 : decode cX1_number 25 = .ok (.bipush 10, 2) := dk_16 10 (dk_at dksX1_number_1 3 rfl rfl)
theorem dX1_number_27 : decode cX1_number 27 = .ok (.iload_n 2, 1) := dk_28 (dk_at dksX1_number_1 5 rfl rfl)
theorem dX1_number_28 : decode cX1_number 28 = .ok (.imul, 1) := dk_104 (dk_at dksX1_number_1 6 rfl rfl)
theorem dX1_number_29 : decode cX1_number 29 = .ok (.aload_n 0, 1) := dk_42 (dk_at dksX1_number_1 7 rfl rfl)
theorem dX1_number_30 : decode cX1_number 30 = .ok (.getfield 36, 3) := dk_180 0 36 (dk_at dksX1_number_1 8 rfl rfl)
theorem dX1_number_33 : decode cX1_number 33 = .ok (.aload_n 0, 1) := dk_42 (dk_at dksX1_number_1 11 rfl rfl)
theorem dX1_number_34 : decode cX1_number 34 = .ok (.getfield 135, 3) := dk_180 0 135 (dk_at dksX1_number_1 12 rfl rfl)
theorem dX1_number_37 : decode cX1_number 37 = .ok (.iaload, 1) := dk_46 (dk_at dksX1_number_1 15 rfl rfl)
theorem dX1_number_38 : decode cX1_number 38 = .ok (.iadd, 1) := dk_96 (dk_at dksX1_number_1 16 rfl rfl)
theorem dX1_number_39 : decode cX1_number 39 = .ok (.bipush 48, 2) := dk_16 48 (dk_at dksX1_number_1 17 rfl rfl)
theorem dX1_number_41 : decode cX1_number 41 = .ok (.isub, 1) := dk_100 (dk_at dksX1_number_1 19 rfl rfl)
theorem dX1_number_42 : decode cX1_number 42 = .ok (.istore_n 2, 1) := dk_61 (dk_at dksX1_number_1 20 rfl rfl)
theorem dX1_number_43 : decode cX1_number 43 = .ok (.aload_n 0, 1) := dk_42 (dk_at dksX1_number_1 21 rfl rfl)
theorem dX1_number_44 : decode cX1_number 44 = .ok (.dup, 1) := dk_89 (dk_at dksX1_number_1 22 rfl rfl)
theorem dX1_number_45 : decode cX1_number 45 = .ok (.getfield 135, 3) := dk_180 0 135 (dk_at dksX1_number_2 0 rfl rfl)
theorem dX1_number_48 : decode cX1_number 48 = .ok (.iconst 1, 1) := dk_4 (dk_at dksX1_number_2 3 rfl rfl)
theorem dX1_number_49 : decode cX1_number 49 = .ok (.iadd, 1) := dk_96 (dk_at dksX1_number_2 4 rfl rfl)
theorem dX1_number_50 : decode cX1_number 50 = .ok (.putfield 135, 3) := dk_181 0 135 (dk_at dksX1_number_2 5 rfl rfl)
theorem dX1_number_53 : decode cX1_number 53 = .ok (.iinc 3 1, 3) := dk_132 3 1 (dk_at dksX1_number_2 8 rfl rfl)
theorem dX1_number_56 : decode cX1_number 56 = .ok (.goto (-43), 3) := dk_167 255 213 (dk_at dksX1_number_2 11 rfl rfl)
theorem dX1_number_59 : decode cX1_number 59 = .ok (.iload_n 2, 1) := dk_28 (dk_at dksX1_number_2 14 rfl rfl)
theorem dX1_number_60 : decode cX1_number 60 = .ok (.ireturn, 1) := dk_172 (dk_at dksX1_number_2 15 rfl rfl)
abbrev cX1_acts : ByteArray := prog_1_method_24_code
def yX1_acts : MethodName := ⟨RX1, "acts", "(I)Ljava/lang/String;"⟩
def dkwX1_acts_0 : List UInt8 := [26, 154, 0, 8, 18, 235, 167, 0, 15, 26, 4, 160, 0, 8, 18, 237, 167, 0, 5, 18, 239, 176]
abbrev dktX1_acts_0 : List UInt8 := dkwX1_acts_0 ++ []
theorem dksX1_acts_0 : cX1_acts.data.toList.drop 0 = dktX1_acts_0 := by decide +kernel
theorem dX1_acts_0 : decode cX1_acts 0 = .ok (.iload_n 0, 1) := dk_26 (dk_at dksX1_acts_0 0 rfl rfl)
theorem dX1_acts_1 : decode cX1_acts 1 = .ok (.ifCond .ne 8, 3) := dk_154 0 8 (dk_at dksX1_acts_0 1 rfl rfl)
theorem dX1_acts_4 : decode cX1_acts 4 = .ok (.ldc 235, 2) := dk_18 235 (dk_at dksX1_acts_0 4 rfl rfl)
theorem dX1_acts_6 : decode cX1_acts 6 = .ok (.goto 15, 3) := dk_167 0 15 (dk_at dksX1_acts_0 6 rfl rfl)
theorem dX1_acts_9 : decode cX1_acts 9 = .ok (.iload_n 0, 1) := dk_26 (dk_at dksX1_acts_0 9 rfl rfl)
theorem dX1_acts_10 : decode cX1_acts 10 = .ok (.iconst 1, 1) := dk_4 (dk_at dksX1_acts_0 10 rfl rfl)
theorem dX1_acts_11 : decode cX1_acts 11 = .ok (.if_icmp .ne 8, 3) := dk_160 0 8 (dk_at dksX1_acts_0 11 rfl rfl)
theorem dX1_acts_14 : decode cX1_acts 14 = .ok (.ldc 237, 2) := dk_18 237 (dk_at dksX1_acts_0 14 rfl rfl)
theorem dX1_acts_16 : decode cX1_acts 16 = .ok (.goto 5, 3) := dk_167 0 5 (dk_at dksX1_acts_0 16 rfl rfl)
theorem dX1_acts_19 : decode cX1_acts 19 = .ok (.ldc 239, 2) := dk_18 239 (dk_at dksX1_acts_0 19 rfl rfl)
theorem dX1_acts_21 : decode cX1_acts 21 = .ok (.areturn, 1) := dk_176 (dk_at dksX1_acts_0 21 rfl rfl)
abbrev cX1_hard : ByteArray := prog_1_method_30_code
def yX1_hard : MethodName := ⟨RX1, "hard", "(II)I"⟩
def dkwX1_hard_1 : List UInt8 := [180, 0, 12, 27, 28, 182, 1, 34, 167, 0, 4, 2, 172]
abbrev dktX1_hard_1 : List UInt8 := dkwX1_hard_1 ++ []
def dkwX1_hard_0 : List UInt8 := [42, 27, 182, 0, 128, 153, 0, 28, 28, 133, 9, 20, 1, 32, 184, 0, 124, 153, 0, 16, 42, 42]
abbrev dktX1_hard_0 : List UInt8 := dkwX1_hard_0 ++ dktX1_hard_1
theorem dksX1_hard_0 : cX1_hard.data.toList.drop 0 = dktX1_hard_0 := by decide +kernel
theorem dksX1_hard_1 : cX1_hard.data.toList.drop 22 = dktX1_hard_1 := dk_seg dksX1_hard_0 22 rfl rfl
theorem dX1_hard_0 : decode cX1_hard 0 = .ok (.aload_n 0, 1) := dk_42 (dk_at dksX1_hard_0 0 rfl rfl)
theorem dX1_hard_1 : decode cX1_hard 1 = .ok (.iload_n 1, 1) := dk_27 (dk_at dksX1_hard_0 1 rfl rfl)
theorem dX1_hard_2 : decode cX1_hard 2 = .ok (.invokevirtual 128, 3) := dk_182 0 128 (dk_at dksX1_hard_0 2 rfl rfl)
theorem dX1_hard_5 : decode cX1_hard 5 = .ok (.ifCond .eq 28, 3) := dk_153 0 28 (dk_at dksX1_hard_0 5 rfl rfl)
theorem dX1_hard_8 : decode cX1_hard 8 = .ok (.iload_n 2, 1) := dk_28 (dk_at dksX1_hard_0 8 rfl rfl)
theorem dX1_hard_9 : decode cX1_hard 9 = .ok (.i2l, 1) := dk_133 (dk_at dksX1_hard_0 9 rfl rfl)
theorem dX1_hard_10 : decode cX1_hard 10 = .ok (.lconst 0, 1) := dk_9 (dk_at dksX1_hard_0 10 rfl rfl)
theorem dX1_hard_11 : decode cX1_hard 11 = .ok (.ldc2_w 288, 3) := dk_20 1 32 (dk_at dksX1_hard_0 11 rfl rfl)
theorem dX1_hard_14 : decode cX1_hard 14 = .ok (.invokestatic 124, 3) := dk_184 0 124 (dk_at dksX1_hard_0 14 rfl rfl)
theorem dX1_hard_17 : decode cX1_hard 17 = .ok (.ifCond .eq 16, 3) := dk_153 0 16 (dk_at dksX1_hard_0 17 rfl rfl)
theorem dX1_hard_20 : decode cX1_hard 20 = .ok (.aload_n 0, 1) := dk_42 (dk_at dksX1_hard_0 20 rfl rfl)
theorem dX1_hard_21 : decode cX1_hard 21 = .ok (.aload_n 0, 1) := dk_42 (dk_at dksX1_hard_0 21 rfl rfl)
theorem dX1_hard_22 : decode cX1_hard 22 = .ok (.getfield 12, 3) := dk_180 0 12 (dk_at dksX1_hard_1 0 rfl rfl)
theorem dX1_hard_25 : decode cX1_hard 25 = .ok (.iload_n 1, 1) := dk_27 (dk_at dksX1_hard_1 3 rfl rfl)
theorem dX1_hard_26 : decode cX1_hard 26 = .ok (.iload_n 2, 1) := dk_28 (dk_at dksX1_hard_1 4 rfl rfl)
theorem dX1_hard_27 : decode cX1_hard 27 = .ok (.invokevirtual 290, 3) := dk_182 1 34 (dk_at dksX1_hard_1 5 rfl rfl)
theorem dX1_hard_30 : decode cX1_hard 30 = .ok (.goto 4, 3) := dk_167 0 4 (dk_at dksX1_hard_1 8 rfl rfl)
theorem dX1_hard_33 : decode cX1_hard 33 = .ok (.iconst (-1), 1) := dk_2 (dk_at dksX1_hard_1 11 rfl rfl)
theorem dX1_hard_34 : decode cX1_hard 34 = .ok (.ireturn, 1) := dk_172 (dk_at dksX1_hard_1 12 rfl rfl)
abbrev cX1_isRider : ByteArray := prog_1_method_5_code
def yX1_isRider : MethodName := ⟨RX1, "isRider", "(I)Z"⟩
def dkwX1_isRider_0 : List UInt8 := [27, 133, 9, 42, 180, 0, 121, 4, 100, 133, 184, 0, 124, 172]
abbrev dktX1_isRider_0 : List UInt8 := dkwX1_isRider_0 ++ []
theorem dksX1_isRider_0 : cX1_isRider.data.toList.drop 0 = dktX1_isRider_0 := by decide +kernel
theorem dX1_isRider_0 : decode cX1_isRider 0 = .ok (.iload_n 1, 1) := dk_27 (dk_at dksX1_isRider_0 0 rfl rfl)
theorem dX1_isRider_1 : decode cX1_isRider 1 = .ok (.i2l, 1) := dk_133 (dk_at dksX1_isRider_0 1 rfl rfl)
theorem dX1_isRider_2 : decode cX1_isRider 2 = .ok (.lconst 0, 1) := dk_9 (dk_at dksX1_isRider_0 2 rfl rfl)
theorem dX1_isRider_3 : decode cX1_isRider 3 = .ok (.aload_n 0, 1) := dk_42 (dk_at dksX1_isRider_0 3 rfl rfl)
theorem dX1_isRider_4 : decode cX1_isRider 4 = .ok (.getfield 121, 3) := dk_180 0 121 (dk_at dksX1_isRider_0 4 rfl rfl)
theorem dX1_isRider_7 : decode cX1_isRider 7 = .ok (.iconst 1, 1) := dk_4 (dk_at dksX1_isRider_0 7 rfl rfl)
theorem dX1_isRider_8 : decode cX1_isRider 8 = .ok (.isub, 1) := dk_100 (dk_at dksX1_isRider_0 8 rfl rfl)
theorem dX1_isRider_9 : decode cX1_isRider 9 = .ok (.i2l, 1) := dk_133 (dk_at dksX1_isRider_0 9 rfl rfl)
theorem dX1_isRider_10 : decode cX1_isRider 10 = .ok (.invokestatic 124, 3) := dk_184 0 124 (dk_at dksX1_isRider_0 10 rfl rfl)
theorem dX1_isRider_13 : decode cX1_isRider 13 = .ok (.ireturn, 1) := dk_172 (dk_at dksX1_isRider_0 13 rfl rfl)
abbrev cX1_hardOf : ByteArray := prog_1_method_28_code
def yX1_hardOf : MethodName := ⟨RX1, "hardOf", "(LRockingHorse$Horse;II)I"⟩
def dkwX1_hardOf_3 : List UInt8 := [172]
abbrev dktX1_hardOf_3 : List UInt8 := dkwX1_hardOf_3 ++ []
def dkwX1_hardOf_2 : List UInt8 := [167, 0, 10, 42, 180, 1, 2, 182, 1, 14, 54, 4, 3, 17, 3, 231, 21, 4, 184, 0, 141, 184, 1, 19]
abbrev dktX1_hardOf_2 : List UInt8 := dkwX1_hardOf_2 ++ dktX1_hardOf_3
def dkwX1_hardOf_1 : List UInt8 := [180, 0, 197, 28, 46, 42, 180, 0, 23, 28, 46, 96, 29, 8, 164, 0, 8, 16, 9, 167, 0, 4, 3, 96]
abbrev dktX1_hardOf_1 : List UInt8 := dkwX1_hardOf_1 ++ dktX1_hardOf_2
def dkwX1_hardOf_0 : List UInt8 := [42, 43, 181, 1, 5, 42, 28, 181, 1, 8, 42, 29, 181, 1, 11, 42, 180, 1, 2, 199, 0, 31, 43]
abbrev dktX1_hardOf_0 : List UInt8 := dkwX1_hardOf_0 ++ dktX1_hardOf_1
theorem dksX1_hardOf_0 : cX1_hardOf.data.toList.drop 0 = dktX1_hardOf_0 := by decide +kernel
theorem dksX1_hardOf_1 : cX1_hardOf.data.toList.drop 23 = dktX1_hardOf_1 := dk_seg dksX1_hardOf_0 23 rfl rfl
theorem dksX1_hardOf_2 : cX1_hardOf.data.toList.drop 47 = dktX1_hardOf_2 := dk_seg dksX1_hardOf_1 24 rfl rfl
theorem dksX1_hardOf_3 : cX1_hardOf.data.toList.drop 71 = dktX1_hardOf_3 := dk_seg dksX1_hardOf_2 24 rfl rfl
theorem dX1_hardOf_0 : decode cX1_hardOf 0 = .ok (.aload_n 0, 1) := dk_42 (dk_at dksX1_hardOf_0 0 rfl rfl)
theorem dX1_hardOf_1 : decode cX1_hardOf 1 = .ok (.aload_n 1, 1) := dk_43 (dk_at dksX1_hardOf_0 1 rfl rfl)
theorem dX1_hardOf_2 : decode cX1_hardOf 2 = .ok (.putfield 261, 3) := dk_181 1 5 (dk_at dksX1_hardOf_0 2 rfl rfl)
theorem dX1_hardOf_5 : decode cX1_hardOf 5 = .ok (.aload_n 0, 1) := dk_42 (dk_at dksX1_hardOf_0 5 rfl rfl)
theorem dX1_hardOf_6 : decode cX1_hardOf 6 = .ok (.iload_n 2, 1) := dk_28 (dk_at dksX1_hardOf_0 6 rfl rfl)
theorem dX1_hardOf_7 : decode cX1_hardOf 7 = .ok (.putfield 264, 3) := dk_181 1 8 (dk_at dksX1_hardOf_0 7 rfl rfl)
theorem dX1_hardOf_10 : decode cX1_hardOf 10 = .ok (.aload_n 0, 1) := dk_42 (dk_at dksX1_hardOf_0 10 rfl rfl)
theorem dX1_hardOf_11 : decode cX1_hardOf 11 = .ok (.iload_n 3, 1) := dk_29 (dk_at dksX1_hardOf_0 11 rfl rfl)
theorem dX1_hardOf_12 : decode cX1_hardOf 12 = .ok (.putfield 267, 3) := dk_181 1 11 (dk_at dksX1_hardOf_0 12 rfl rfl)
theorem dX1_hardOf_15 : decode cX1_hardOf 15 = .ok (.aload_n 0, 1) := dk_42 (dk_at dksX1_hardOf_0 15 rfl rfl)
theorem dX1_hardOf_16 : decode cX1_hardOf 16 = .ok (.getfield 258, 3) := dk_180 1 2 (dk_at dksX1_hardOf_0 16 rfl rfl)
theorem dX1_hardOf_19 : decode cX1_hardOf 19 = .ok (.ifnonnull 31, 3) := dk_199 0 31 (dk_at dksX1_hardOf_0 19 rfl rfl)
theorem dX1_hardOf_22 : decode cX1_hardOf 22 = .ok (.aload_n 1, 1) := dk_43 (dk_at dksX1_hardOf_0 22 rfl rfl)
theorem dX1_hardOf_23 : decode cX1_hardOf 23 = .ok (.getfield 197, 3) := dk_180 0 197 (dk_at dksX1_hardOf_1 0 rfl rfl)
theorem dX1_hardOf_26 : decode cX1_hardOf 26 = .ok (.iload_n 2, 1) := dk_28 (dk_at dksX1_hardOf_1 3 rfl rfl)
theorem dX1_hardOf_27 : decode cX1_hardOf 27 = .ok (.iaload, 1) := dk_46 (dk_at dksX1_hardOf_1 4 rfl rfl)
theorem dX1_hardOf_28 : decode cX1_hardOf 28 = .ok (.aload_n 0, 1) := dk_42 (dk_at dksX1_hardOf_1 5 rfl rfl)
theorem dX1_hardOf_29 : decode cX1_hardOf 29 = .ok (.getfield 23, 3) := dk_180 0 23 (dk_at dksX1_hardOf_1 6 rfl rfl)
theorem dX1_hardOf_32 : decode cX1_hardOf 32 = .ok (.iload_n 2, 1) := dk_28 (dk_at dksX1_hardOf_1 9 rfl rfl)
theorem dX1_hardOf_33 : decode cX1_hardOf 33 = .ok (.iaload, 1) := dk_46 (dk_at dksX1_hardOf_1 10 rfl rfl)
theorem dX1_hardOf_34 : decode cX1_hardOf 34 = .ok (.iadd, 1) := dk_96 (dk_at dksX1_hardOf_1 11 rfl rfl)
theorem dX1_hardOf_35 : decode cX1_hardOf 35 = .ok (.iload_n 3, 1) := dk_29 (dk_at dksX1_hardOf_1 12 rfl rfl)
theorem dX1_hardOf_36 : decode cX1_hardOf 36 = .ok (.iconst 5, 1) := dk_8 (dk_at dksX1_hardOf_1 13 rfl rfl)
theorem dX1_hardOf_37 : decode cX1_hardOf 37 = .ok (.if_icmp .le 8, 3) := dk_164 0 8 (dk_at dksX1_hardOf_1 14 rfl rfl)
theorem dX1_hardOf_40 : decode cX1_hardOf 40 = .ok (.bipush 9, 2) := dk_16 9 (dk_at dksX1_hardOf_1 17 rfl rfl)
theorem dX1_hardOf_42 : decode cX1_hardOf 42 = .ok (.goto 4, 3) := dk_167 0 4 (dk_at dksX1_hardOf_1 19 rfl rfl)
theorem dX1_hardOf_45 : decode cX1_hardOf 45 = .ok (.iconst 0, 1) := dk_3 (dk_at dksX1_hardOf_1 22 rfl rfl)
theorem dX1_hardOf_46 : decode cX1_hardOf 46 = .ok (.iadd, 1) := dk_96 (dk_at dksX1_hardOf_1 23 rfl rfl)
theorem dX1_hardOf_47 : decode cX1_hardOf 47 = .ok (.goto 10, 3) := dk_167 0 10 (dk_at dksX1_hardOf_2 0 rfl rfl)
theorem dX1_hardOf_50 : decode cX1_hardOf 50 = .ok (.aload_n 0, 1) := dk_42 (dk_at dksX1_hardOf_2 3 rfl rfl)
theorem dX1_hardOf_51 : decode cX1_hardOf 51 = .ok (.getfield 258, 3) := dk_180 1 2 (dk_at dksX1_hardOf_2 4 rfl rfl)
theorem dX1_hardOf_54 : decode cX1_hardOf 54 = .ok (.invokevirtual 270, 3) := dk_182 1 14 (dk_at dksX1_hardOf_2 7 rfl rfl)
theorem dX1_hardOf_57 : decode cX1_hardOf 57 = .ok (.istore 4, 2) := dk_54 4 (dk_at dksX1_hardOf_2 10 rfl rfl)
theorem dX1_hardOf_59 : decode cX1_hardOf 59 = .ok (.iconst 0, 1) := dk_3 (dk_at dksX1_hardOf_2 12 rfl rfl)
theorem dX1_hardOf_60 : decode cX1_hardOf 60 = .ok (.sipush 999, 3) := dk_17 3 231 (dk_at dksX1_hardOf_2 13 rfl rfl)
theorem dX1_hardOf_63 : decode cX1_hardOf 63 = .ok (.iload 4, 2) := dk_21 4 (dk_at dksX1_hardOf_2 16 rfl rfl)
theorem dX1_hardOf_65 : decode cX1_hardOf 65 = .ok (.invokestatic 141, 3) := dk_184 0 141 (dk_at dksX1_hardOf_2 18 rfl rfl)
theorem dX1_hardOf_68 : decode cX1_hardOf 68 = .ok (.invokestatic 275, 3) := dk_184 1 19 (dk_at dksX1_hardOf_2 21 rfl rfl)
theorem dX1_hardOf_71 : decode cX1_hardOf 71 = .ok (.ireturn, 1) := dk_172 (dk_at dksX1_hardOf_3 0 rfl rfl)
abbrev cX1_set : ByteArray := prog_1_method_31_code
def yX1_set : MethodName := ⟨RX1, "set", "(II)I"⟩
def dkwX1_set_3 : List UInt8 := [181, 0, 33, 29, 172]
abbrev dktX1_set_3 : List UInt8 := dkwX1_set_3 ++ []
def dkwX1_set_2 : List UInt8 := [167, 0, 7, 42, 180, 0, 33, 62, 27, 154, 0, 11, 42, 28, 181, 0, 29, 167, 0, 8, 42, 28]
abbrev dktX1_set_2 : List UInt8 := dkwX1_set_2 ++ dktX1_set_3
def dkwX1_set_1 : List UInt8 := [167, 0, 6, 20, 1, 40, 184, 0, 124, 154, 0, 5, 2, 172, 27, 154, 0, 10, 42, 180, 0, 29]
abbrev dktX1_set_1 : List UInt8 := dkwX1_set_1 ++ dktX1_set_2
def dkwX1_set_0 : List UInt8 := [27, 133, 9, 10, 184, 0, 124, 153, 0, 28, 28, 133, 4, 27, 100, 133, 27, 154, 0, 9, 20, 1, 38]
abbrev dktX1_set_0 : List UInt8 := dkwX1_set_0 ++ dktX1_set_1
theorem dksX1_set_0 : cX1_set.data.toList.drop 0 = dktX1_set_0 := by decide +kernel
theorem dksX1_set_1 : cX1_set.data.toList.drop 23 = dktX1_set_1 := dk_seg dksX1_set_0 23 rfl rfl
theorem dksX1_set_2 : cX1_set.data.toList.drop 45 = dktX1_set_2 := dk_seg dksX1_set_1 22 rfl rfl
theorem dksX1_set_3 : cX1_set.data.toList.drop 67 = dktX1_set_3 := dk_seg dksX1_set_2 22 rfl rfl
theorem dX1_set_0 : decode cX1_set 0 = .ok (.iload_n 1, 1) := dk_27 (dk_at dksX1_set_0 0 rfl rfl)
theorem dX1_set_1 : decode cX1_set 1 = .ok (.i2l, 1) := dk_133 (dk_at dksX1_set_0 1 rfl rfl)
theorem dX1_set_2 : decode cX1_set 2 = .ok (.lconst 0, 1) := dk_9 (dk_at dksX1_set_0 2 rfl rfl)
theorem dX1_set_3 : decode cX1_set 3 = .ok (.lconst 1, 1) := dk_10 (dk_at dksX1_set_0 3 rfl rfl)
theorem dX1_set_4 : decode cX1_set 4 = .ok (.invokestatic 124, 3) := dk_184 0 124 (dk_at dksX1_set_0 4 rfl rfl)
theorem dX1_set_7 : decode cX1_set 7 = .ok (.ifCond .eq 28, 3) := dk_153 0 28 (dk_at dksX1_set_0 7 rfl rfl)
theorem dX1_set_10 : decode cX1_set 10 = .ok (.iload_n 2, 1) := dk_28 (dk_at dksX1_set_0 10 rfl rfl)
theorem dX1_set_11 : decode cX1_set 11 = .ok (.i2l, 1) := dk_133 (dk_at dksX1_set_0 11 rfl rfl)
theorem dX1_set_12 : decode cX1_set 12 = .ok (.iconst 1, 1) := dk_4 (dk_at dksX1_set_0 12 rfl rfl)
theorem dX1_set_13 : decode cX1_set 13 = .ok (.iload_n 1, 1) := dk_27 (dk_at dksX1_set_0 13 rfl rfl)
theorem dX1_set_14 : decode cX1_set 14 = .ok (.isub, 1) := dk_100 (dk_at dksX1_set_0 14 rfl rfl)
theorem dX1_set_15 : decode cX1_set 15 = .ok (.i2l, 1) := dk_133 (dk_at dksX1_set_0 15 rfl rfl)
theorem dX1_set_16 : decode cX1_set 16 = .ok (.iload_n 1, 1) := dk_27 (dk_at dksX1_set_0 16 rfl rfl)
theorem dX1_set_17 : decode cX1_set 17 = .ok (.ifCond .ne 9, 3) := dk_154 0 9 (dk_at dksX1_set_0 17 rfl rfl)
theorem dX1_set_20 : decode cX1_set 20 = .ok (.ldc2_w 294, 3) := dk_20 1 38 (dk_at dksX1_set_0 20 rfl rfl)
theorem dX1_set_23 : decode cX1_set 23 = .ok (.goto 6, 3) := dk_167 0 6 (dk_at dksX1_set_1 0 rfl rfl)
theorem dX1_set_26 : decode cX1_set 26 = .ok (.ldc2_w 296, 3) := dk_20 1 40 (dk_at dksX1_set_1 3 rfl rfl)
theorem dX1_set_29 : decode cX1_set 29 = .ok (.invokestatic 124, 3) := dk_184 0 124 (dk_at dksX1_set_1 6 rfl rfl)
theorem dX1_set_32 : decode cX1_set 32 = .ok (.ifCond .ne 5, 3) := dk_154 0 5 (dk_at dksX1_set_1 9 rfl rfl)
theorem dX1_set_35 : decode cX1_set 35 = .ok (.iconst (-1), 1) := dk_2 (dk_at dksX1_set_1 12 rfl rfl)
theorem dX1_set_36 : decode cX1_set 36 = .ok (.ireturn, 1) := dk_172 (dk_at dksX1_set_1 13 rfl rfl)
theorem dX1_set_37 : decode cX1_set 37 = .ok (.iload_n 1, 1) := dk_27 (dk_at dksX1_set_1 14 rfl rfl)
theorem dX1_set_38 : decode cX1_set 38 = .ok (.ifCond .ne 10, 3) := dk_154 0 10 (dk_at dksX1_set_1 15 rfl rfl)
theorem dX1_set_41 : decode cX1_set 41 = .ok (.aload_n 0, 1) := dk_42 (dk_at dksX1_set_1 18 rfl rfl)
theorem dX1_set_42 : decode cX1_set 42 = .ok (.getfield 29, 3) := dk_180 0 29 (dk_at dksX1_set_1 19 rfl rfl)
theorem dX1_set_45 : decode cX1_set 45 = .ok (.goto 7, 3) := dk_167 0 7 (dk_at dksX1_set_2 0 rfl rfl)
theorem dX1_set_48 : decode cX1_set 48 = .ok (.aload_n 0, 1) := dk_42 (dk_at dksX1_set_2 3 rfl rfl)
theorem dX1_set_49 : decode cX1_set 49 = .ok (.getfield 33, 3) := dk_180 0 33 (dk_at dksX1_set_2 4 rfl rfl)
theorem dX1_set_52 : decode cX1_set 52 = .ok (.istore_n 3, 1) := dk_62 (dk_at dksX1_set_2 7 rfl rfl)
theorem dX1_set_53 : decode cX1_set 53 = .ok (.iload_n 1, 1) := dk_27 (dk_at dksX1_set_2 8 rfl rfl)
theorem dX1_set_54 : decode cX1_set 54 = .ok (.ifCond .ne 11, 3) := dk_154 0 11 (dk_at dksX1_set_2 9 rfl rfl)
theorem dX1_set_57 : decode cX1_set 57 = .ok (.aload_n 0, 1) := dk_42 (dk_at dksX1_set_2 12 rfl rfl)
theorem dX1_set_58 : decode cX1_set 58 = .ok (.iload_n 2, 1) := dk_28 (dk_at dksX1_set_2 13 rfl rfl)
theorem dX1_set_59 : decode cX1_set 59 = .ok (.putfield 29, 3) := dk_181 0 29 (dk_at dksX1_set_2 14 rfl rfl)
theorem dX1_set_62 : decode cX1_set 62 = .ok (.goto 8, 3) := dk_167 0 8 (dk_at dksX1_set_2 17 rfl rfl)
theorem dX1_set_65 : decode cX1_set 65 = .ok (.aload_n 0, 1) := dk_42 (dk_at dksX1_set_2 20 rfl rfl)
theorem dX1_set_66 : decode cX1_set 66 = .ok (.iload_n 2, 1) := dk_28 (dk_at dksX1_set_2 21 rfl rfl)
theorem dX1_set_67 : decode cX1_set 67 = .ok (.putfield 33, 3) := dk_181 0 33 (dk_at dksX1_set_3 0 rfl rfl)
theorem dX1_set_70 : decode cX1_set 70 = .ok (.iload_n 3, 1) := dk_29 (dk_at dksX1_set_3 3 rfl rfl)
theorem dX1_set_71 : decode cX1_set 71 = .ok (.ireturn, 1) := dk_172 (dk_at dksX1_set_3 4 rfl rfl)
abbrev cX1_sheet : ByteArray := prog_1_method_32_code
def yX1_sheet : MethodName := ⟨RX1, "sheet", "(IIII)I"⟩
def dkwX1_sheet_6 : List UInt8 := [182, 1, 44, 172]
abbrev dktX1_sheet_6 : List UInt8 := dkwX1_sheet_6 ++ []
def dkwX1_sheet_5 : List UInt8 := [132, 6, 1, 167, 255, 176, 27, 6, 160, 0, 8, 16, 253, 167, 0, 14, 42, 42, 180, 0, 12, 180, 0, 197]
abbrev dktX1_sheet_5 : List UInt8 := dkwX1_sheet_5 ++ dktX1_sheet_6
def dkwX1_sheet_4 : List UInt8 := [3, 167, 0, 14, 3, 16, 99, 21, 7, 184, 0, 141, 184, 1, 19, 79, 21, 5, 21, 4, 96, 54, 5]
abbrev dktX1_sheet_4 : List UInt8 := dkwX1_sheet_4 ++ dktX1_sheet_5
def dkwX1_sheet_3 : List UInt8 := [21, 5, 54, 7, 42, 180, 0, 12, 180, 0, 197, 21, 6, 27, 6, 159, 0, 9, 21, 6, 28, 161, 0, 7]
abbrev dktX1_sheet_3 : List UInt8 := dkwX1_sheet_3 ++ dktX1_sheet_4
def dkwX1_sheet_2 : List UInt8 := [162, 0, 77, 27, 154, 0, 9, 21, 5, 145, 167, 0, 16, 27, 4, 160, 0, 9, 21, 5, 147, 167, 0, 5]
abbrev dktX1_sheet_2 : List UInt8 := dkwX1_sheet_2 ++ dktX1_sheet_3
def dkwX1_sheet_1 : List UInt8 := [159, 0, 10, 28, 156, 0, 6, 16, 254, 172, 29, 54, 5, 3, 54, 6, 21, 6, 42, 180, 0, 121]
abbrev dktX1_sheet_1 : List UInt8 := dkwX1_sheet_1 ++ dktX1_sheet_2
def dkwX1_sheet_0 : List UInt8 := [27, 133, 9, 20, 1, 42, 184, 0, 124, 153, 0, 9, 28, 16, 8, 164, 0, 5, 2, 172, 27, 6]
abbrev dktX1_sheet_0 : List UInt8 := dkwX1_sheet_0 ++ dktX1_sheet_1
theorem dksX1_sheet_0 : cX1_sheet.data.toList.drop 0 = dktX1_sheet_0 := by decide +kernel
theorem dksX1_sheet_1 : cX1_sheet.data.toList.drop 22 = dktX1_sheet_1 := dk_seg dksX1_sheet_0 22 rfl rfl
theorem dksX1_sheet_2 : cX1_sheet.data.toList.drop 44 = dktX1_sheet_2 := dk_seg dksX1_sheet_1 22 rfl rfl
theorem dksX1_sheet_3 : cX1_sheet.data.toList.drop 68 = dktX1_sheet_3 := dk_seg dksX1_sheet_2 24 rfl rfl
theorem dksX1_sheet_4 : cX1_sheet.data.toList.drop 92 = dktX1_sheet_4 := dk_seg dksX1_sheet_3 24 rfl rfl
theorem dksX1_sheet_5 : cX1_sheet.data.toList.drop 115 = dktX1_sheet_5 := dk_seg dksX1_sheet_4 23 rfl rfl
theorem dksX1_sheet_6 : cX1_sheet.data.toList.drop 139 = dktX1_sheet_6 := dk_seg dksX1_sheet_5 24 rfl rfl
theorem dX1_sheet_0 : decode cX1_sheet 0 = .ok (.iload_n 1, 1) := dk_27 (dk_at dksX1_sheet_0 0 rfl rfl)
theorem dX1_sheet_1 : decode cX1_sheet 1 = .ok (.i2l, 1) := dk_133 (dk_at dksX1_sheet_0 1 rfl rfl)
theorem dX1_sheet_2 : decode cX1_sheet 2 = .ok (.lconst 0, 1) := dk_9 (dk_at dksX1_sheet_0 2 rfl rfl)
theorem dX1_sheet_3 : decode cX1_sheet 3 = .ok (.ldc2_w 298, 3) := dk_20 1 42 (dk_at dksX1_sheet_0 3 rfl rfl)
theorem dX1_sheet_6 : decode cX1_sheet 6 = .ok (.invokestatic 124, 3) := dk_184 0 124 (dk_at dksX1_sheet_0 6 rfl rfl)
theorem dX1_sheet_9 : decode cX1_sheet 9 = .ok (.ifCond .eq 9, 3) := dk_153 0 9 (dk_at dksX1_sheet_0 9 rfl rfl)
theorem dX1_sheet_12 : decode cX1_sheet 12 = .ok (.iload_n 2, 1) := dk_28 (dk_at dksX1_sheet_0 12 rfl rfl)
theorem dX1_sheet_13 : decode cX1_sheet 13 = .ok (.bipush 8, 2) := dk_16 8 (dk_at dksX1_sheet_0 13 rfl rfl)
theorem dX1_sheet_15 : decode cX1_sheet 15 = .ok (.if_icmp .le 5, 3) := dk_164 0 5 (dk_at dksX1_sheet_0 15 rfl rfl)
theorem dX1_sheet_18 : decode cX1_sheet 18 = .ok (.iconst (-1), 1) := dk_2 (dk_at dksX1_sheet_0 18 rfl rfl)
theorem dX1_sheet_19 : decode cX1_sheet 19 = .ok (.ireturn, 1) := dk_172 (dk_at dksX1_sheet_0 19 rfl rfl)
theorem dX1_sheet_20 : decode cX1_sheet 20 = .ok (.iload_n 1, 1) := dk_27 (dk_at dksX1_sheet_0 20 rfl rfl)
theorem dX1_sheet_21 : decode cX1_sheet 21 = .ok (.iconst 3, 1) := dk_6 (dk_at dksX1_sheet_0 21 rfl rfl)
theorem dX1_sheet_22 : decode cX1_sheet 22 = .ok (.if_icmp .eq 10, 3) := dk_159 0 10 (dk_at dksX1_sheet_1 0 rfl rfl)
theorem dX1_sheet_25 : decode cX1_sheet 25 = .ok (.iload_n 2, 1) := dk_28 (dk_at dksX1_sheet_1 3 rfl rfl)
theorem dX1_sheet_26 : decode cX1_sheet 26 = .ok (.ifCond .ge 6, 3) := dk_156 0 6 (dk_at dksX1_sheet_1 4 rfl rfl)
theorem dX1_sheet_29 : decode cX1_sheet 29 = .ok (.bipush (-2), 2) := dk_16 254 (dk_at dksX1_sheet_1 7 rfl rfl)
theorem dX1_sheet_31 : decode cX1_sheet 31 = .ok (.ireturn, 1) := dk_172 (dk_at dksX1_sheet_1 9 rfl rfl)
theorem dX1_sheet_32 : decode cX1_sheet 32 = .ok (.iload_n 3, 1) := dk_29 (dk_at dksX1_sheet_1 10 rfl rfl)
theorem dX1_sheet_33 : decode cX1_sheet 33 = .ok (.istore 5, 2) := dk_54 5 (dk_at dksX1_sheet_1 11 rfl rfl)
theorem dX1_sheet_35 : decode cX1_sheet 35 = .ok (.iconst 0, 1) := dk_3 (dk_at dksX1_sheet_1 13 rfl rfl)
theorem dX1_sheet_36 : decode cX1_sheet 36 = .ok (.istore 6, 2) := dk_54 6 (dk_at dksX1_sheet_1 14 rfl rfl)
theorem dX1_sheet_38 : decode cX1_sheet 38 = .ok (.iload 6, 2) := dk_21 6 (dk_at dksX1_sheet_1 16 rfl rfl)
theorem dX1_sheet_40 : decode cX1_sheet 40 = .ok (.aload_n 0, 1) := dk_42 (dk_at dksX1_sheet_1 18 rfl rfl)
theorem dX1_sheet_41 : decode cX1_sheet 41 = .ok (.getfield 121, 3) := dk_180 0 121 (dk_at dksX1_sheet_1 19 rfl rfl)
theorem dX1_sheet_44 : decode cX1_sheet 44 = .ok (.if_icmp .ge 77, 3) := dk_162 0 77 (dk_at dksX1_sheet_2 0 rfl rfl)
theorem dX1_sheet_47 : decode cX1_sheet 47 = .ok (.iload_n 1, 1) := dk_27 (dk_at dksX1_sheet_2 3 rfl rfl)
theorem dX1_sheet_48 : decode cX1_sheet 48 = .ok (.ifCond .ne 9, 3) := dk_154 0 9 (dk_at dksX1_sheet_2 4 rfl rfl)
theorem dX1_sheet_51 : decode cX1_sheet 51 = .ok (.iload 5, 2) := dk_21 5 (dk_at dksX1_sheet_2 7 rfl rfl)
theorem dX1_sheet_53 : decode cX1_sheet 53 = .ok (.i2b, 1) := dk_145 (dk_at dksX1_sheet_2 9 rfl rfl)
theorem dX1_sheet_54 : decode cX1_sheet 54 = .ok (.goto 16, 3) := dk_167 0 16 (dk_at dksX1_sheet_2 10 rfl rfl)
theorem dX1_sheet_57 : decode cX1_sheet 57 = .ok (.iload_n 1, 1) := dk_27 (dk_at dksX1_sheet_2 13 rfl rfl)
theorem dX1_sheet_58 : decode cX1_sheet 58 = .ok (.iconst 1, 1) := dk_4 (dk_at dksX1_sheet_2 14 rfl rfl)
theorem dX1_sheet_59 : decode cX1_sheet 59 = .ok (.if_icmp .ne 9, 3) := dk_160 0 9 (dk_at dksX1_sheet_2 15 rfl rfl)
theorem dX1_sheet_62 : decode cX1_sheet 62 = .ok (.iload 5, 2) := dk_21 5 (dk_at dksX1_sheet_2 18 rfl rfl)
theorem dX1_sheet_64 : decode cX1_sheet 64 = .ok (.i2s, 1) := dk_147 (dk_at dksX1_sheet_2 20 rfl rfl)
theorem dX1_sheet_65 : decode cX1_sheet 65 = .ok (.goto 5, 3) := dk_167 0 5 (dk_at dksX1_sheet_2 21 rfl rfl)
theorem dX1_sheet_68 : decode cX1_sheet 68 = .ok (.iload 5, 2) := dk_21 5 (dk_at dksX1_sheet_3 0 rfl rfl)
theorem dX1_sheet_70 : decode cX1_sheet 70 = .ok (.istore 7, 2) := dk_54 7 (dk_at dksX1_sheet_3 2 rfl rfl)
theorem dX1_sheet_72 : decode cX1_sheet 72 = .ok (.aload_n 0, 1) := dk_42 (dk_at dksX1_sheet_3 4 rfl rfl)
theorem dX1_sheet_73 : decode cX1_sheet 73 = .ok (.getfield 12, 3) := dk_180 0 12 (dk_at dksX1_sheet_3 5 rfl rfl)
theorem dX1_sheet_76 : decode cX1_sheet 76 = .ok (.getfield 197, 3) := dk_180 0 197 (dk_at dksX1_sheet_3 8 rfl rfl)
theorem dX1_sheet_79 : decode cX1_sheet 79 = .ok (.iload 6, 2) := dk_21 6 (dk_at dksX1_sheet_3 11 rfl rfl)
theorem dX1_sheet_81 : decode cX1_sheet 81 = .ok (.iload_n 1, 1) := dk_27 (dk_at dksX1_sheet_3 13 rfl rfl)
theorem dX1_sheet_82 : decode cX1_sheet 82 = .ok (.iconst 3, 1) := dk_6 (dk_at dksX1_sheet_3 14 rfl rfl)
theorem dX1_sheet_83 : decode cX1_sheet 83 = .ok (.if_icmp .eq 9, 3) := dk_159 0 9 (dk_at dksX1_sheet_3 15 rfl rfl)
theorem dX1_sheet_86 : decode cX1_sheet 86 = .ok (.iload 6, 2) := dk_21 6 (dk_at dksX1_sheet_3 18 rfl rfl)
theorem dX1_sheet_88 : decode cX1_sheet 88 = .ok (.iload_n 2, 1) := dk_28 (dk_at dksX1_sheet_3 20 rfl rfl)
theorem dX1_sheet_89 : decode cX1_sheet 89 = .ok (.if_icmp .lt 7, 3) := dk_161 0 7 (dk_at dksX1_sheet_3 21 rfl rfl)
theorem dX1_sheet_92 : decode cX1_sheet 92 = .ok (.iconst 0, 1) := dk_3 (dk_at dksX1_sheet_4 0 rfl rfl)
theorem dX1_sheet_93 : decode cX1_sheet 93 = .ok (.goto 14, 3) := dk_167 0 14 (dk_at dksX1_sheet_4 1 rfl rfl)
theorem dX1_sheet_96 : decode cX1_sheet 96 = .ok (.iconst 0, 1) := dk_3 (dk_at dksX1_sheet_4 4 rfl rfl)
theorem dX1_sheet_97 : decode cX1_sheet 97 = .ok (.bipush 99, 2) := dk_16 99 (dk_at dksX1_sheet_4 5 rfl rfl)
theorem dX1_sheet_99 : decode cX1_sheet 99 = .ok (.iload 7, 2) := dk_21 7 (dk_at dksX1_sheet_4 7 rfl rfl)
theorem dX1_sheet_101 : decode cX1_sheet 101 = .ok (.invokestatic 141, 3) := dk_184 0 141 (dk_at dksX1_sheet_4 9 rfl rfl)
theorem dX1_sheet_104 : decode cX1_sheet 104 = .ok (.invokestatic 275, 3) := dk_184 1 19 (dk_at dksX1_sheet_4 12 rfl rfl)
theorem dX1_sheet_107 : decode cX1_sheet 107 = .ok (.iastore, 1) := dk_79 (dk_at dksX1_sheet_4 15 rfl rfl)
theorem dX1_sheet_108 : decode cX1_sheet 108 = .ok (.iload 5, 2) := dk_21 5 (dk_at dksX1_sheet_4 16 rfl rfl)
theorem dX1_sheet_110 : decode cX1_sheet 110 = .ok (.iload 4, 2) := dk_21 4 (dk_at dksX1_sheet_4 18 rfl rfl)
theorem dX1_sheet_112 : decode cX1_sheet 112 = .ok (.iadd, 1) := dk_96 (dk_at dksX1_sheet_4 20 rfl rfl)
theorem dX1_sheet_113 : decode cX1_sheet 113 = .ok (.istore 5, 2) := dk_54 5 (dk_at dksX1_sheet_4 21 rfl rfl)
theorem dX1_sheet_115 : decode cX1_sheet 115 = .ok (.iinc 6 1, 3) := dk_132 6 1 (dk_at dksX1_sheet_5 0 rfl rfl)
theorem dX1_sheet_118 : decode cX1_sheet 118 = .ok (.goto (-80), 3) := dk_167 255 176 (dk_at dksX1_sheet_5 3 rfl rfl)
theorem dX1_sheet_121 : decode cX1_sheet 121 = .ok (.iload_n 1, 1) := dk_27 (dk_at dksX1_sheet_5 6 rfl rfl)
theorem dX1_sheet_122 : decode cX1_sheet 122 = .ok (.iconst 3, 1) := dk_6 (dk_at dksX1_sheet_5 7 rfl rfl)
theorem dX1_sheet_123 : decode cX1_sheet 123 = .ok (.if_icmp .ne 8, 3) := dk_160 0 8 (dk_at dksX1_sheet_5 8 rfl rfl)
theorem dX1_sheet_126 : decode cX1_sheet 126 = .ok (.bipush (-3), 2) := dk_16 253 (dk_at dksX1_sheet_5 11 rfl rfl)
theorem dX1_sheet_128 : decode cX1_sheet 128 = .ok (.goto 14, 3) := dk_167 0 14 (dk_at dksX1_sheet_5 13 rfl rfl)
theorem dX1_sheet_131 : decode cX1_sheet 131 = .ok (.aload_n 0, 1) := dk_42 (dk_at dksX1_sheet_5 16 rfl rfl)
theorem dX1_sheet_132 : decode cX1_sheet 132 = .ok (.aload_n 0, 1) := dk_42 (dk_at dksX1_sheet_5 17 rfl rfl)
theorem dX1_sheet_133 : decode cX1_sheet 133 = .ok (.getfield 12, 3) := dk_180 0 12 (dk_at dksX1_sheet_5 18 rfl rfl)
theorem dX1_sheet_136 : decode cX1_sheet 136 = .ok (.getfield 197, 3) := dk_180 0 197 (dk_at dksX1_sheet_5 21 rfl rfl)
theorem dX1_sheet_139 : decode cX1_sheet 139 = .ok (.invokevirtual 300, 3) := dk_182 1 44 (dk_at dksX1_sheet_6 0 rfl rfl)
theorem dX1_sheet_142 : decode cX1_sheet 142 = .ok (.ireturn, 1) := dk_172 (dk_at dksX1_sheet_6 3 rfl rfl)
abbrev cX1_sumOf : ByteArray := prog_1_method_10_code
def yX1_sumOf : MethodName := ⟨RX1, "sumOf", "([I)I"⟩
def dkwX1_sumOf_1 : List UInt8 := [28, 172]
abbrev dktX1_sumOf_1 : List UInt8 := dkwX1_sumOf_1 ++ []
def dkwX1_sumOf_0 : List UInt8 := [3, 61, 3, 62, 29, 42, 180, 0, 121, 162, 0, 15, 28, 43, 29, 46, 96, 61, 132, 3, 1, 167, 255, 239]
abbrev dktX1_sumOf_0 : List UInt8 := dkwX1_sumOf_0 ++ dktX1_sumOf_1
theorem dksX1_sumOf_0 : cX1_sumOf.data.toList.drop 0 = dktX1_sumOf_0 := by decide +kernel
theorem dksX1_sumOf_1 : cX1_sumOf.data.toList.drop 24 = dktX1_sumOf_1 := dk_seg dksX1_sumOf_0 24 rfl rfl
theorem dX1_sumOf_0 : decode cX1_sumOf 0 = .ok (.iconst 0, 1) := dk_3 (dk_at dksX1_sumOf_0 0 rfl rfl)
theorem dX1_sumOf_1 : decode cX1_sumOf 1 = .ok (.istore_n 2, 1) := dk_61 (dk_at dksX1_sumOf_0 1 rfl rfl)
theorem dX1_sumOf_2 : decode cX1_sumOf 2 = .ok (.iconst 0, 1) := dk_3 (dk_at dksX1_sumOf_0 2 rfl rfl)
theorem dX1_sumOf_3 : decode cX1_sumOf 3 = .ok (.istore_n 3, 1) := dk_62 (dk_at dksX1_sumOf_0 3 rfl rfl)
theorem dX1_sumOf_4 : decode cX1_sumOf 4 = .ok (.iload_n 3, 1) := dk_29 (dk_at dksX1_sumOf_0 4 rfl rfl)
theorem dX1_sumOf_5 : decode cX1_sumOf 5 = .ok (.aload_n 0, 1) := dk_42 (dk_at dksX1_sumOf_0 5 rfl rfl)
theorem dX1_sumOf_6 : decode cX1_sumOf 6 = .ok (.getfield 121, 3) := dk_180 0 121 (dk_at dksX1_sumOf_0 6 rfl rfl)
theorem dX1_sumOf_9 : decode cX1_sumOf 9 = .ok (.if_icmp .ge 15, 3) := dk_162 0 15 (dk_at dksX1_sumOf_0 9 rfl rfl)
theorem dX1_sumOf_12 : decode cX1_sumOf 12 = .ok (.iload_n 2, 1) := dk_28 (dk_at dksX1_sumOf_0 12 rfl rfl)
theorem dX1_sumOf_13 : decode cX1_sumOf 13 = .ok (.aload_n 1, 1) := dk_43 (dk_at dksX1_sumOf_0 13 rfl rfl)
theorem dX1_sumOf_14 : decode cX1_sumOf 14 = .ok (.iload_n 3, 1) := dk_29 (dk_at dksX1_sumOf_0 14 rfl rfl)
theorem dX1_sumOf_15 : decode cX1_sumOf 15 = .ok (.iaload, 1) := dk_46 (dk_at dksX1_sumOf_0 15 rfl rfl)
theorem dX1_sumOf_16 : decode cX1_sumOf 16 = .ok (.iadd, 1) := dk_96 (dk_at dksX1_sumOf_0 16 rfl rfl)
theorem dX1_sumOf_17 : decode cX1_sumOf 17 = .ok (.istore_n 2, 1) := dk_61 (dk_at dksX1_sumOf_0 17 rfl rfl)
theorem dX1_sumOf_18 : decode cX1_sumOf 18 = .ok (.iinc 3 1, 3) := dk_132 3 1 (dk_at dksX1_sumOf_0 18 rfl rfl)
theorem dX1_sumOf_21 : decode cX1_sumOf 21 = .ok (.goto (-17), 3) := dk_167 255 239 (dk_at dksX1_sumOf_0 21 rfl rfl)
theorem dX1_sumOf_24 : decode cX1_sumOf 24 = .ok (.iload_n 2, 1) := dk_28 (dk_at dksX1_sumOf_1 0 rfl rfl)
theorem dX1_sumOf_25 : decode cX1_sumOf 25 = .ok (.ireturn, 1) := dk_172 (dk_at dksX1_sumOf_1 1 rfl rfl)
abbrev cX1_undo : ByteArray := prog_1_method_34_code
def yX1_undo : MethodName := ⟨RX1, "undo", "()I"⟩
def dkwX1_undo_1 : List UInt8 := [180, 0, 48, 42, 180, 0, 203, 50, 182, 1, 48, 42, 180, 0, 203, 172]
abbrev dktX1_undo_1 : List UInt8 := dkwX1_undo_1 ++ []
def dkwX1_undo_0 : List UInt8 := [42, 180, 0, 203, 154, 0, 5, 2, 172, 42, 89, 180, 0, 203, 4, 100, 181, 0, 203, 42, 180, 0, 12, 42]
abbrev dktX1_undo_0 : List UInt8 := dkwX1_undo_0 ++ dktX1_undo_1
theorem dksX1_undo_0 : cX1_undo.data.toList.drop 0 = dktX1_undo_0 := by decide +kernel
theorem dksX1_undo_1 : cX1_undo.data.toList.drop 24 = dktX1_undo_1 := dk_seg dksX1_undo_0 24 rfl rfl
theorem dX1_undo_0 : decode cX1_undo 0 = .ok (.aload_n 0, 1) := dk_42 (dk_at dksX1_undo_0 0 rfl rfl)
theorem dX1_undo_1 : decode cX1_undo 1 = .ok (.getfield 203, 3) := dk_180 0 203 (dk_at dksX1_undo_0 1 rfl rfl)
theorem dX1_undo_4 : decode cX1_undo 4 = .ok (.ifCond .ne 5, 3) := dk_154 0 5 (dk_at dksX1_undo_0 4 rfl rfl)
theorem dX1_undo_7 : decode cX1_undo 7 = .ok (.iconst (-1), 1) := dk_2 (dk_at dksX1_undo_0 7 rfl rfl)
theorem dX1_undo_8 : decode cX1_undo 8 = .ok (.ireturn, 1) := dk_172 (dk_at dksX1_undo_0 8 rfl rfl)
theorem dX1_undo_9 : decode cX1_undo 9 = .ok (.aload_n 0, 1) := dk_42 (dk_at dksX1_undo_0 9 rfl rfl)
theorem dX1_undo_10 : decode cX1_undo 10 = .ok (.dup, 1) := dk_89 (dk_at dksX1_undo_0 10 rfl rfl)
theorem dX1_undo_11 : decode cX1_undo 11 = .ok (.getfield 203, 3) := dk_180 0 203 (dk_at dksX1_undo_0 11 rfl rfl)
theorem dX1_undo_14 : decode cX1_undo 14 = .ok (.iconst 1, 1) := dk_4 (dk_at dksX1_undo_0 14 rfl rfl)
theorem dX1_undo_15 : decode cX1_undo 15 = .ok (.isub, 1) := dk_100 (dk_at dksX1_undo_0 15 rfl rfl)
theorem dX1_undo_16 : decode cX1_undo 16 = .ok (.putfield 203, 3) := dk_181 0 203 (dk_at dksX1_undo_0 16 rfl rfl)
theorem dX1_undo_19 : decode cX1_undo 19 = .ok (.aload_n 0, 1) := dk_42 (dk_at dksX1_undo_0 19 rfl rfl)
theorem dX1_undo_20 : decode cX1_undo 20 = .ok (.getfield 12, 3) := dk_180 0 12 (dk_at dksX1_undo_0 20 rfl rfl)
theorem dX1_undo_23 : decode cX1_undo 23 = .ok (.aload_n 0, 1) := dk_42 (dk_at dksX1_undo_0 23 rfl rfl)
theorem dX1_undo_24 : decode cX1_undo 24 = .ok (.getfield 48, 3) := dk_180 0 48 (dk_at dksX1_undo_1 0 rfl rfl)
theorem dX1_undo_27 : decode cX1_undo 27 = .ok (.aload_n 0, 1) := dk_42 (dk_at dksX1_undo_1 3 rfl rfl)
theorem dX1_undo_28 : decode cX1_undo 28 = .ok (.getfield 203, 3) := dk_180 0 203 (dk_at dksX1_undo_1 4 rfl rfl)
theorem dX1_undo_31 : decode cX1_undo 31 = .ok (.aaload, 1) := dk_50 (dk_at dksX1_undo_1 7 rfl rfl)
theorem dX1_undo_32 : decode cX1_undo 32 = .ok (.invokevirtual 304, 3) := dk_182 1 48 (dk_at dksX1_undo_1 8 rfl rfl)
theorem dX1_undo_35 : decode cX1_undo 35 = .ok (.aload_n 0, 1) := dk_42 (dk_at dksX1_undo_1 11 rfl rfl)
theorem dX1_undo_36 : decode cX1_undo 36 = .ok (.getfield 203, 3) := dk_180 0 203 (dk_at dksX1_undo_1 12 rfl rfl)
theorem dX1_undo_39 : decode cX1_undo 39 = .ok (.ireturn, 1) := dk_172 (dk_at dksX1_undo_1 15 rfl rfl)
abbrev cX1_rota : ByteArray := prog_1_method_41_code
def yX1_rota : MethodName := ⟨RX1, "rota", "()I"⟩
def dkwX1_rota_7 : List UInt8 := [167, 255, 220, 27, 172]
abbrev dktX1_rota_7 : List UInt8 := dkwX1_rota_7 ++ []
def dkwX1_rota_6 : List UInt8 := [28, 28, 42, 180, 0, 29, 162, 0, 12, 42, 180, 0, 61, 28, 46, 167, 0, 4, 2, 79, 132, 2, 1]
abbrev dktX1_rota_6 : List UInt8 := dkwX1_rota_6 ++ dktX1_rota_7
def dkwX1_rota_5 : List UInt8 := [172, 42, 42, 180, 0, 12, 182, 1, 87, 3, 61, 28, 16, 8, 162, 0, 36, 42, 180, 0, 12, 180, 1, 58]
abbrev dktX1_rota_5 : List UInt8 := dkwX1_rota_5 ++ dktX1_rota_6
def dkwX1_rota_4 : List UInt8 := [60, 132, 2, 1, 167, 255, 170, 42, 180, 0, 135, 42, 180, 0, 147, 162, 0, 10, 2, 42, 180, 0, 135, 100]
abbrev dktX1_rota_4 : List UInt8 := dkwX1_rota_4 ++ dktX1_rota_5
def dkwX1_rota_3 : List UInt8 := [153, 0, 7, 2, 167, 0, 8, 42, 4, 182, 0, 220, 79, 27, 29, 153, 0, 7, 3, 167, 0, 4, 4, 96]
abbrev dktX1_rota_3 : List UInt8 := dkwX1_rota_3 ++ dktX1_rota_4
def dkwX1_rota_2 : List UInt8 := [46, 16, 48, 100, 182, 0, 128, 154, 0, 10, 2, 42, 180, 0, 135, 100, 172, 42, 180, 0, 61, 28, 29]
abbrev dktX1_rota_2 : List UInt8 := dkwX1_rota_2 ++ dktX1_rota_3
def dkwX1_rota_1 : List UInt8 := [182, 0, 190, 62, 29, 154, 0, 36, 42, 182, 0, 168, 153, 0, 22, 42, 42, 180, 0, 36, 42, 180, 0, 135]
abbrev dktX1_rota_1 : List UInt8 := dkwX1_rota_1 ++ dktX1_rota_2
def dkwX1_rota_0 : List UInt8 := [42, 16, 80, 182, 0, 184, 87, 3, 60, 3, 61, 28, 42, 180, 0, 29, 162, 0, 84, 42, 16, 45]
abbrev dktX1_rota_0 : List UInt8 := dkwX1_rota_0 ++ dktX1_rota_1
theorem dksX1_rota_0 : cX1_rota.data.toList.drop 0 = dktX1_rota_0 := by decide +kernel
theorem dksX1_rota_1 : cX1_rota.data.toList.drop 22 = dktX1_rota_1 := dk_seg dksX1_rota_0 22 rfl rfl
theorem dksX1_rota_2 : cX1_rota.data.toList.drop 46 = dktX1_rota_2 := dk_seg dksX1_rota_1 24 rfl rfl
theorem dksX1_rota_3 : cX1_rota.data.toList.drop 69 = dktX1_rota_3 := dk_seg dksX1_rota_2 23 rfl rfl
theorem dksX1_rota_4 : cX1_rota.data.toList.drop 93 = dktX1_rota_4 := dk_seg dksX1_rota_3 24 rfl rfl
theorem dksX1_rota_5 : cX1_rota.data.toList.drop 117 = dktX1_rota_5 := dk_seg dksX1_rota_4 24 rfl rfl
theorem dksX1_rota_6 : cX1_rota.data.toList.drop 141 = dktX1_rota_6 := dk_seg dksX1_rota_5 24 rfl rfl
theorem dksX1_rota_7 : cX1_rota.data.toList.drop 164 = dktX1_rota_7 := dk_seg dksX1_rota_6 23 rfl rfl
theorem dX1_rota_0 : decode cX1_rota 0 = .ok (.aload_n 0, 1) := dk_42 (dk_at dksX1_rota_0 0 rfl rfl)
theorem dX1_rota_1 : decode cX1_rota 1 = .ok (.bipush 80, 2) := dk_16 80 (dk_at dksX1_rota_0 1 rfl rfl)
theorem dX1_rota_3 : decode cX1_rota 3 = .ok (.invokevirtual 184, 3) := dk_182 0 184 (dk_at dksX1_rota_0 3 rfl rfl)
theorem dX1_rota_6 : decode cX1_rota 6 = .ok (.pop, 1) := dk_87 (dk_at dksX1_rota_0 6 rfl rfl)
theorem dX1_rota_7 : decode cX1_rota 7 = .ok (.iconst 0, 1) := dk_3 (dk_at dksX1_rota_0 7 rfl rfl)
theorem dX1_rota_8 : decode cX1_rota 8 = .ok (.istore_n 1, 1) := dk_60 (dk_at dksX1_rota_0 8 rfl rfl)
theorem dX1_rota_9 : decode cX1_rota 9 = .ok (.iconst 0, 1) := dk_3 (dk_at dksX1_rota_0 9 rfl rfl)
theorem dX1_rota_10 : decode cX1_rota 10 = .ok (.istore_n 2, 1) := dk_61 (dk_at dksX1_rota_0 10 rfl rfl)
theorem dX1_rota_11 : decode cX1_rota 11 = .ok (.iload_n 2, 1) := dk_28 (dk_at dksX1_rota_0 11 rfl rfl)
theorem dX1_rota_12 : decode cX1_rota 12 = .ok (.aload_n 0, 1) := dk_42 (dk_at dksX1_rota_0 12 rfl rfl)
theorem dX1_rota_13 : decode cX1_rota 13 = .ok (.getfield 29, 3) := dk_180 0 29 (dk_at dksX1_rota_0 13 rfl rfl)
theorem dX1_rota_16 : decode cX1_rota 16 = .ok (.if_icmp .ge 84, 3) := dk_162 0 84 (dk_at dksX1_rota_0 16 rfl rfl)
theorem dX1_rota_19 : decode cX1_rota 19 = .ok (.aload_n 0, 1) := dk_42 (dk_at dksX1_rota_0 19 rfl rfl)
theorem dX1_rota_20 : decode cX1_rota 20 = .ok (.bipush 45, 2) := dk_16 45 (dk_at dksX1_rota_0 20 rfl rfl)
theorem dX1_rota_22 : decode cX1_rota 22 = .ok (.invokevirtual 190, 3) := dk_182 0 190 (dk_at dksX1_rota_1 0 rfl rfl)
theorem dX1_rota_25 : decode cX1_rota 25 = .ok (.istore_n 3, 1) := dk_62 (dk_at dksX1_rota_1 3 rfl rfl)
theorem dX1_rota_26 : decode cX1_rota 26 = .ok (.iload_n 3, 1) := dk_29 (dk_at dksX1_rota_1 4 rfl rfl)
theorem dX1_rota_27 : decode cX1_rota 27 = .ok (.ifCond .ne 36, 3) := dk_154 0 36 (dk_at dksX1_rota_1 5 rfl rfl)
theorem dX1_rota_30 : decode cX1_rota 30 = .ok (.aload_n 0, 1) := dk_42 (dk_at dksX1_rota_1 8 rfl rfl)
theorem dX1_rota_31 : decode cX1_rota 31 = .ok (.invokevirtual 168, 3) := dk_182 0 168 (dk_at dksX1_rota_1 9 rfl rfl)
theorem dX1_rota_34 : decode cX1_rota 34 = .ok (.ifCond .eq 22, 3) := dk_153 0 22 (dk_at dksX1_rota_1 12 rfl rfl)
theorem dX1_rota_37 : decode cX1_rota 37 = .ok (.aload_n 0, 1) := dk_42 (dk_at dksX1_rota_1 15 rfl rfl)
theorem dX1_rota_38 : decode cX1_rota 38 = .ok (.aload_n 0, 1) := dk_42 (dk_at dksX1_rota_1 16 rfl rfl)
theorem dX1_rota_39 : decode cX1_rota 39 = .ok (.getfield 36, 3) := dk_180 0 36 (dk_at dksX1_rota_1 17 rfl rfl)
theorem dX1_rota_42 : decode cX1_rota 42 = .ok (.aload_n 0, 1) := dk_42 (dk_at dksX1_rota_1 20 rfl rfl)
theorem dX1_rota_43 : decode cX1_rota 43 = .ok (.getfield 135, 3) := dk_180 0 135 (dk_at dksX1_rota_1 21 rfl rfl)
theorem dX1_rota_46 : decode cX1_rota 46 = .ok (.iaload, 1) := dk_46 (dk_at dksX1_rota_2 0 rfl rfl)
theorem dX1_rota_47 : decode cX1_rota 47 = .ok (.bipush 48, 2) := dk_16 48 (dk_at dksX1_rota_2 1 rfl rfl)
theorem dX1_rota_49 : decode cX1_rota 49 = .ok (.isub, 1) := dk_100 (dk_at dksX1_rota_2 3 rfl rfl)
theorem dX1_rota_50 : decode cX1_rota 50 = .ok (.invokevirtual 128, 3) := dk_182 0 128 (dk_at dksX1_rota_2 4 rfl rfl)
theorem dX1_rota_53 : decode cX1_rota 53 = .ok (.ifCond .ne 10, 3) := dk_154 0 10 (dk_at dksX1_rota_2 7 rfl rfl)
theorem dX1_rota_56 : decode cX1_rota 56 = .ok (.iconst (-1), 1) := dk_2 (dk_at dksX1_rota_2 10 rfl rfl)
theorem dX1_rota_57 : decode cX1_rota 57 = .ok (.aload_n 0, 1) := dk_42 (dk_at dksX1_rota_2 11 rfl rfl)
theorem dX1_rota_58 : decode cX1_rota 58 = .ok (.getfield 135, 3) := dk_180 0 135 (dk_at dksX1_rota_2 12 rfl rfl)
theorem dX1_rota_61 : decode cX1_rota 61 = .ok (.isub, 1) := dk_100 (dk_at dksX1_rota_2 15 rfl rfl)
theorem dX1_rota_62 : decode cX1_rota 62 = .ok (.ireturn, 1) := dk_172 (dk_at dksX1_rota_2 16 rfl rfl)
theorem dX1_rota_63 : decode cX1_rota 63 = .ok (.aload_n 0, 1) := dk_42 (dk_at dksX1_rota_2 17 rfl rfl)
theorem dX1_rota_64 : decode cX1_rota 64 = .ok (.getfield 61, 3) := dk_180 0 61 (dk_at dksX1_rota_2 18 rfl rfl)
theorem dX1_rota_67 : decode cX1_rota 67 = .ok (.iload_n 2, 1) := dk_28 (dk_at dksX1_rota_2 21 rfl rfl)
theorem dX1_rota_68 : decode cX1_rota 68 = .ok (.iload_n 3, 1) := dk_29 (dk_at dksX1_rota_2 22 rfl rfl)
theorem dX1_rota_69 : decode cX1_rota 69 = .ok (.ifCond .eq 7, 3) := dk_153 0 7 (dk_at dksX1_rota_3 0 rfl rfl)
theorem dX1_rota_72 : decode cX1_rota 72 = .ok (.iconst (-1), 1) := dk_2 (dk_at dksX1_rota_3 3 rfl rfl)
theorem dX1_rota_73 : decode cX1_rota 73 = .ok (.goto 8, 3) := dk_167 0 8 (dk_at dksX1_rota_3 4 rfl rfl)
theorem dX1_rota_76 : decode cX1_rota 76 = .ok (.aload_n 0, 1) := dk_42 (dk_at dksX1_rota_3 7 rfl rfl)
theorem dX1_rota_77 : decode cX1_rota 77 = .ok (.iconst 1, 1) := dk_4 (dk_at dksX1_rota_3 8 rfl rfl)
theorem dX1_rota_78 : decode cX1_rota 78 = .ok (.invokevirtual 220, 3) := dk_182 0 220 (dk_at dksX1_rota_3 9 rfl rfl)
theorem dX1_rota_81 : decode cX1_rota 81 = .ok (.iastore, 1) := dk_79 (dk_at dksX1_rota_3 12 rfl rfl)
theorem dX1_rota_82 : decode cX1_rota 82 = .ok (.iload_n 1, 1) := dk_27 (dk_at dksX1_rota_3 13 rfl rfl)
theorem dX1_rota_83 : decode cX1_rota 83 = .ok (.iload_n 3, 1) := dk_29 (dk_at dksX1_rota_3 14 rfl rfl)
theorem dX1_rota_84 : decode cX1_rota 84 = .ok (.ifCond .eq 7, 3) := dk_153 0 7 (dk_at dksX1_rota_3 15 rfl rfl)
theorem dX1_rota_87 : decode cX1_rota 87 = .ok (.iconst 0, 1) := dk_3 (dk_at dksX1_rota_3 18 rfl rfl)
theorem dX1_rota_88 : decode cX1_rota 88 = .ok (.goto 4, 3) := dk_167 0 4 (dk_at dksX1_rota_3 19 rfl rfl)
theorem dX1_rota_91 : decode cX1_rota 91 = .ok (.iconst 1, 1) := dk_4 (dk_at dksX1_rota_3 22 rfl rfl)
theorem dX1_rota_92 : decode cX1_rota 92 = .ok (.iadd, 1) := dk_96 (dk_at dksX1_rota_3 23 rfl rfl)
theorem dX1_rota_93 : decode cX1_rota 93 = .ok (.istore_n 1, 1) := dk_60 (dk_at dksX1_rota_4 0 rfl rfl)
theorem dX1_rota_94 : decode cX1_rota 94 = .ok (.iinc 2 1, 3) := dk_132 2 1 (dk_at dksX1_rota_4 1 rfl rfl)
theorem dX1_rota_97 : decode cX1_rota 97 = .ok (.goto (-86), 3) := dk_167 255 170 (dk_at dksX1_rota_4 4 rfl rfl)
theorem dX1_rota_100 : decode cX1_rota 100 = .ok (.aload_n 0, 1) := dk_42 (dk_at dksX1_rota_4 7 rfl rfl)
theorem dX1_rota_101 : decode cX1_rota 101 = .ok (.getfield 135, 3) := dk_180 0 135 (dk_at dksX1_rota_4 8 rfl rfl)
theorem dX1_rota_104 : decode cX1_rota 104 = .ok (.aload_n 0, 1) := dk_42 (dk_at dksX1_rota_4 11 rfl rfl)
theorem dX1_rota_105 : decode cX1_rota 105 = .ok (.getfield 147, 3) := dk_180 0 147 (dk_at dksX1_rota_4 12 rfl rfl)
theorem dX1_rota_108 : decode cX1_rota 108 = .ok (.if_icmp .ge 10, 3) := dk_162 0 10 (dk_at dksX1_rota_4 15 rfl rfl)
theorem dX1_rota_111 : decode cX1_rota 111 = .ok (.iconst (-1), 1) := dk_2 (dk_at dksX1_rota_4 18 rfl rfl)
theorem dX1_rota_112 : decode cX1_rota 112 = .ok (.aload_n 0, 1) := dk_42 (dk_at dksX1_rota_4 19 rfl rfl)
theorem dX1_rota_113 : decode cX1_rota 113 = .ok (.getfield 135, 3) := dk_180 0 135 (dk_at dksX1_rota_4 20 rfl rfl)
theorem dX1_rota_116 : decode cX1_rota 116 = .ok (.isub, 1) := dk_100 (dk_at dksX1_rota_4 23 rfl rfl)
theorem dX1_rota_117 : decode cX1_rota 117 = .ok (.ireturn, 1) := dk_172 (dk_at dksX1_rota_5 0 rfl rfl)
theorem dX1_rota_118 : decode cX1_rota 118 = .ok (.aload_n 0, 1) := dk_42 (dk_at dksX1_rota_5 1 rfl rfl)
theorem dX1_rota_119 : decode cX1_rota 119 = .ok (.aload_n 0, 1) := dk_42 (dk_at dksX1_rota_5 2 rfl rfl)
theorem dX1_rota_120 : decode cX1_rota 120 = .ok (.getfield 12, 3) := dk_180 0 12 (dk_at dksX1_rota_5 3 rfl rfl)
theorem dX1_rota_123 : decode cX1_rota 123 = .ok (.invokevirtual 343, 3) := dk_182 1 87 (dk_at dksX1_rota_5 6 rfl rfl)
theorem dX1_rota_126 : decode cX1_rota 126 = .ok (.iconst 0, 1) := dk_3 (dk_at dksX1_rota_5 9 rfl rfl)
theorem dX1_rota_127 : decode cX1_rota 127 = .ok (.istore_n 2, 1) := dk_61 (dk_at dksX1_rota_5 10 rfl rfl)
theorem dX1_rota_128 : decode cX1_rota 128 = .ok (.iload_n 2, 1) := dk_28 (dk_at dksX1_rota_5 11 rfl rfl)
theorem dX1_rota_129 : decode cX1_rota 129 = .ok (.bipush 8, 2) := dk_16 8 (dk_at dksX1_rota_5 12 rfl rfl)
theorem dX1_rota_131 : decode cX1_rota 131 = .ok (.if_icmp .ge 36, 3) := dk_162 0 36 (dk_at dksX1_rota_5 14 rfl rfl)
theorem dX1_rota_134 : decode cX1_rota 134 = .ok (.aload_n 0, 1) := dk_42 (dk_at dksX1_rota_5 17 rfl rfl)
theorem dX1_rota_135 : decode cX1_rota 135 = .ok (.getfield 12, 3) := dk_180 0 12 (dk_at dksX1_rota_5 18 rfl rfl)
theorem dX1_rota_138 : decode cX1_rota 138 = .ok (.getfield 314, 3) := dk_180 1 58 (dk_at dksX1_rota_5 21 rfl rfl)
theorem dX1_rota_141 : decode cX1_rota 141 = .ok (.iload_n 2, 1) := dk_28 (dk_at dksX1_rota_6 0 rfl rfl)
theorem dX1_rota_142 : decode cX1_rota 142 = .ok (.iload_n 2, 1) := dk_28 (dk_at dksX1_rota_6 1 rfl rfl)
theorem dX1_rota_143 : decode cX1_rota 143 = .ok (.aload_n 0, 1) := dk_42 (dk_at dksX1_rota_6 2 rfl rfl)
theorem dX1_rota_144 : decode cX1_rota 144 = .ok (.getfield 29, 3) := dk_180 0 29 (dk_at dksX1_rota_6 3 rfl rfl)
theorem dX1_rota_147 : decode cX1_rota 147 = .ok (.if_icmp .ge 12, 3) := dk_162 0 12 (dk_at dksX1_rota_6 6 rfl rfl)
theorem dX1_rota_150 : decode cX1_rota 150 = .ok (.aload_n 0, 1) := dk_42 (dk_at dksX1_rota_6 9 rfl rfl)
theorem dX1_rota_151 : decode cX1_rota 151 = .ok (.getfield 61, 3) := dk_180 0 61 (dk_at dksX1_rota_6 10 rfl rfl)
theorem dX1_rota_154 : decode cX1_rota 154 = .ok (.iload_n 2, 1) := dk_28 (dk_at dksX1_rota_6 13 rfl rfl)
theorem dX1_rota_155 : decode cX1_rota 155 = .ok (.iaload, 1) := dk_46 (dk_at dksX1_rota_6 14 rfl rfl)
theorem dX1_rota_156 : decode cX1_rota 156 = .ok (.goto 4, 3) := dk_167 0 4 (dk_at dksX1_rota_6 15 rfl rfl)
theorem dX1_rota_159 : decode cX1_rota 159 = .ok (.iconst (-1), 1) := dk_2 (dk_at dksX1_rota_6 18 rfl rfl)
theorem dX1_rota_160 : decode cX1_rota 160 = .ok (.iastore, 1) := dk_79 (dk_at dksX1_rota_6 19 rfl rfl)
theorem dX1_rota_161 : decode cX1_rota 161 = .ok (.iinc 2 1, 3) := dk_132 2 1 (dk_at dksX1_rota_6 20 rfl rfl)
theorem dX1_rota_164 : decode cX1_rota 164 = .ok (.goto (-36), 3) := dk_167 255 220 (dk_at dksX1_rota_7 0 rfl rfl)
theorem dX1_rota_167 : decode cX1_rota 167 = .ok (.iload_n 1, 1) := dk_27 (dk_at dksX1_rota_7 3 rfl rfl)
theorem dX1_rota_168 : decode cX1_rota 168 = .ok (.ireturn, 1) := dk_172 (dk_at dksX1_rota_7 4 rfl rfl)
abbrev cX1_putsBy : ByteArray := prog_1_method_33_code
def yX1_putsBy : MethodName := ⟨RX1, "putsBy", "(LRockingHorse$Horse;)V"⟩
def dkwX1_putsBy_4 : List UInt8 := [180, 0, 203, 50, 43, 182, 1, 48, 42, 89, 180, 0, 203, 4, 96, 181, 0, 203, 177]
abbrev dktX1_putsBy_4 : List UInt8 := dkwX1_putsBy_4 ++ []
def dkwX1_putsBy_3 : List UInt8 := [199, 0, 19, 42, 180, 0, 48, 42, 180, 0, 203, 187, 0, 9, 89, 183, 0, 11, 83, 42, 180, 0, 48, 42]
abbrev dktX1_putsBy_3 : List UInt8 := dkwX1_putsBy_3 ++ dktX1_putsBy_4
def dkwX1_putsBy_2 : List UInt8 := [16, 11, 44, 83, 42, 89, 180, 0, 203, 4, 100, 181, 0, 203, 42, 180, 0, 48, 42, 180, 0, 203, 50]
abbrev dktX1_putsBy_2 : List UInt8 := dkwX1_putsBy_2 ++ dktX1_putsBy_3
def dkwX1_putsBy_1 : List UInt8 := [42, 180, 0, 48, 29, 4, 100, 42, 180, 0, 48, 29, 50, 83, 132, 3, 1, 167, 255, 233, 42, 180, 0, 48]
abbrev dktX1_putsBy_1 : List UInt8 := dkwX1_putsBy_1 ++ dktX1_putsBy_2
def dkwX1_putsBy_0 : List UInt8 := [42, 180, 0, 203, 16, 12, 160, 0, 56, 42, 180, 0, 48, 3, 50, 77, 4, 62, 29, 16, 12, 162, 0, 23]
abbrev dktX1_putsBy_0 : List UInt8 := dkwX1_putsBy_0 ++ dktX1_putsBy_1
theorem dksX1_putsBy_0 : cX1_putsBy.data.toList.drop 0 = dktX1_putsBy_0 := by decide +kernel
theorem dksX1_putsBy_1 : cX1_putsBy.data.toList.drop 24 = dktX1_putsBy_1 := dk_seg dksX1_putsBy_0 24 rfl rfl
theorem dksX1_putsBy_2 : cX1_putsBy.data.toList.drop 48 = dktX1_putsBy_2 := dk_seg dksX1_putsBy_1 24 rfl rfl
theorem dksX1_putsBy_3 : cX1_putsBy.data.toList.drop 71 = dktX1_putsBy_3 := dk_seg dksX1_putsBy_2 23 rfl rfl
theorem dksX1_putsBy_4 : cX1_putsBy.data.toList.drop 95 = dktX1_putsBy_4 := dk_seg dksX1_putsBy_3 24 rfl rfl
theorem dX1_putsBy_0 : decode cX1_putsBy 0 = .ok (.aload_n 0, 1) := dk_42 (dk_at dksX1_putsBy_0 0 rfl rfl)
theorem dX1_putsBy_1 : decode cX1_putsBy 1 = .ok (.getfield 203, 3) := dk_180 0 203 (dk_at dksX1_putsBy_0 1 rfl rfl)
theorem dX1_putsBy_4 : decode cX1_putsBy 4 = .ok (.bipush 12, 2) := dk_16 12 (dk_at dksX1_putsBy_0 4 rfl rfl)
theorem dX1_putsBy_6 : decode cX1_putsBy 6 = .ok (.if_icmp .ne 56, 3) := dk_160 0 56 (dk_at dksX1_putsBy_0 6 rfl rfl)
theorem dX1_putsBy_9 : decode cX1_putsBy 9 = .ok (.aload_n 0, 1) := dk_42 (dk_at dksX1_putsBy_0 9 rfl rfl)
theorem dX1_putsBy_10 : decode cX1_putsBy 10 = .ok (.getfield 48, 3) := dk_180 0 48 (dk_at dksX1_putsBy_0 10 rfl rfl)
theorem dX1_putsBy_13 : decode cX1_putsBy 13 = .ok (.iconst 0, 1) := dk_3 (dk_at dksX1_putsBy_0 13 rfl rfl)
theorem dX1_putsBy_14 : decode cX1_putsBy 14 = .ok (.aaload, 1) := dk_50 (dk_at dksX1_putsBy_0 14 rfl rfl)
theorem dX1_putsBy_15 : decode cX1_putsBy 15 = .ok (.astore_n 2, 1) := dk_77 (dk_at dksX1_putsBy_0 15 rfl rfl)
theorem dX1_putsBy_16 : decode cX1_putsBy 16 = .ok (.iconst 1, 1) := dk_4 (dk_at dksX1_putsBy_0 16 rfl rfl)
theorem dX1_putsBy_17 : decode cX1_putsBy 17 = .ok (.istore_n 3, 1) := dk_62 (dk_at dksX1_putsBy_0 17 rfl rfl)
theorem dX1_putsBy_18 : decode cX1_putsBy 18 = .ok (.iload_n 3, 1) := dk_29 (dk_at dksX1_putsBy_0 18 rfl rfl)
theorem dX1_putsBy_19 : decode cX1_putsBy 19 = .ok (.bipush 12, 2) := dk_16 12 (dk_at dksX1_putsBy_0 19 rfl rfl)
theorem dX1_putsBy_21 : decode cX1_putsBy 21 = .ok (.if_icmp .ge 23, 3) := dk_162 0 23 (dk_at dksX1_putsBy_0 21 rfl rfl)
theorem dX1_putsBy_24 : decode cX1_putsBy 24 = .ok (.aload_n 0, 1) := dk_42 (dk_at dksX1_putsBy_1 0 rfl rfl)
theorem dX1_putsBy_25 : decode cX1_putsBy 25 = .ok (.getfield 48, 3) := dk_180 0 48 (dk_at dksX1_putsBy_1 1 rfl rfl)
theorem dX1_putsBy_28 : decode cX1_putsBy 28 = .ok (.iload_n 3, 1) := dk_29 (dk_at dksX1_putsBy_1 4 rfl rfl)
theorem dX1_putsBy_29 : decode cX1_putsBy 29 = .ok (.iconst 1, 1) := dk_4 (dk_at dksX1_putsBy_1 5 rfl rfl)
theorem dX1_putsBy_30 : decode cX1_putsBy 30 = .ok (.isub, 1) := dk_100 (dk_at dksX1_putsBy_1 6 rfl rfl)
theorem dX1_putsBy_31 : decode cX1_putsBy 31 = .ok (.aload_n 0, 1) := dk_42 (dk_at dksX1_putsBy_1 7 rfl rfl)
theorem dX1_putsBy_32 : decode cX1_putsBy 32 = .ok (.getfield 48, 3) := dk_180 0 48 (dk_at dksX1_putsBy_1 8 rfl rfl)
theorem dX1_putsBy_35 : decode cX1_putsBy 35 = .ok (.iload_n 3, 1) := dk_29 (dk_at dksX1_putsBy_1 11 rfl rfl)
theorem dX1_putsBy_36 : decode cX1_putsBy 36 = .ok (.aaload, 1) := dk_50 (dk_at dksX1_putsBy_1 12 rfl rfl)
theorem dX1_putsBy_37 : decode cX1_putsBy 37 = .ok (.aastore, 1) := dk_83 (dk_at dksX1_putsBy_1 13 rfl rfl)
theorem dX1_putsBy_38 : decode cX1_putsBy 38 = .ok (.iinc 3 1, 3) := dk_132 3 1 (dk_at dksX1_putsBy_1 14 rfl rfl)
theorem dX1_putsBy_41 : decode cX1_putsBy 41 = .ok (.goto (-23), 3) := dk_167 255 233 (dk_at dksX1_putsBy_1 17 rfl rfl)
theorem dX1_putsBy_44 : decode cX1_putsBy 44 = .ok (.aload_n 0, 1) := dk_42 (dk_at dksX1_putsBy_1 20 rfl rfl)
theorem dX1_putsBy_45 : decode cX1_putsBy 45 = .ok (.getfield 48, 3) := dk_180 0 48 (dk_at dksX1_putsBy_1 21 rfl rfl)
theorem dX1_putsBy_48 : decode cX1_putsBy 48 = .ok (.bipush 11, 2) := dk_16 11 (dk_at dksX1_putsBy_2 0 rfl rfl)
theorem dX1_putsBy_50 : decode cX1_putsBy 50 = .ok (.aload_n 2, 1) := dk_44 (dk_at dksX1_putsBy_2 2 rfl rfl)
theorem dX1_putsBy_51 : decode cX1_putsBy 51 = .ok (.aastore, 1) := dk_83 (dk_at dksX1_putsBy_2 3 rfl rfl)
theorem dX1_putsBy_52 : decode cX1_putsBy 52 = .ok (.aload_n 0, 1) := dk_42 (dk_at dksX1_putsBy_2 4 rfl rfl)
theorem dX1_putsBy_53 : decode cX1_putsBy 53 = .ok (.dup, 1) := dk_89 (dk_at dksX1_putsBy_2 5 rfl rfl)
theorem dX1_putsBy_54 : decode cX1_putsBy 54 = .ok (.getfield 203, 3) := dk_180 0 203 (dk_at dksX1_putsBy_2 6 rfl rfl)
theorem dX1_putsBy_57 : decode cX1_putsBy 57 = .ok (.iconst 1, 1) := dk_4 (dk_at dksX1_putsBy_2 9 rfl rfl)
theorem dX1_putsBy_58 : decode cX1_putsBy 58 = .ok (.isub, 1) := dk_100 (dk_at dksX1_putsBy_2 10 rfl rfl)
theorem dX1_putsBy_59 : decode cX1_putsBy 59 = .ok (.putfield 203, 3) := dk_181 0 203 (dk_at dksX1_putsBy_2 11 rfl rfl)
theorem dX1_putsBy_62 : decode cX1_putsBy 62 = .ok (.aload_n 0, 1) := dk_42 (dk_at dksX1_putsBy_2 14 rfl rfl)
theorem dX1_putsBy_63 : decode cX1_putsBy 63 = .ok (.getfield 48, 3) := dk_180 0 48 (dk_at dksX1_putsBy_2 15 rfl rfl)
theorem dX1_putsBy_66 : decode cX1_putsBy 66 = .ok (.aload_n 0, 1) := dk_42 (dk_at dksX1_putsBy_2 18 rfl rfl)
theorem dX1_putsBy_67 : decode cX1_putsBy 67 = .ok (.getfield 203, 3) := dk_180 0 203 (dk_at dksX1_putsBy_2 19 rfl rfl)
theorem dX1_putsBy_70 : decode cX1_putsBy 70 = .ok (.aaload, 1) := dk_50 (dk_at dksX1_putsBy_2 22 rfl rfl)
theorem dX1_putsBy_71 : decode cX1_putsBy 71 = .ok (.ifnonnull 19, 3) := dk_199 0 19 (dk_at dksX1_putsBy_3 0 rfl rfl)
theorem dX1_putsBy_74 : decode cX1_putsBy 74 = .ok (.aload_n 0, 1) := dk_42 (dk_at dksX1_putsBy_3 3 rfl rfl)
theorem dX1_putsBy_75 : decode cX1_putsBy 75 = .ok (.getfield 48, 3) := dk_180 0 48 (dk_at dksX1_putsBy_3 4 rfl rfl)
theorem dX1_putsBy_78 : decode cX1_putsBy 78 = .ok (.aload_n 0, 1) := dk_42 (dk_at dksX1_putsBy_3 7 rfl rfl)
theorem dX1_putsBy_79 : decode cX1_putsBy 79 = .ok (.getfield 203, 3) := dk_180 0 203 (dk_at dksX1_putsBy_3 8 rfl rfl)
theorem dX1_putsBy_82 : decode cX1_putsBy 82 = .ok (.new 9, 3) := dk_187 0 9 (dk_at dksX1_putsBy_3 11 rfl rfl)
theorem dX1_putsBy_85 : decode cX1_putsBy 85 = .ok (.dup, 1) := dk_89 (dk_at dksX1_putsBy_3 14 rfl rfl)
theorem dX1_putsBy_86 : decode cX1_putsBy 86 = .ok (.invokespecial 11, 3) := dk_183 0 11 (dk_at dksX1_putsBy_3 15 rfl rfl)
theorem dX1_putsBy_89 : decode cX1_putsBy 89 = .ok (.aastore, 1) := dk_83 (dk_at dksX1_putsBy_3 18 rfl rfl)
theorem dX1_putsBy_90 : decode cX1_putsBy 90 = .ok (.aload_n 0, 1) := dk_42 (dk_at dksX1_putsBy_3 19 rfl rfl)
theorem dX1_putsBy_91 : decode cX1_putsBy 91 = .ok (.getfield 48, 3) := dk_180 0 48 (dk_at dksX1_putsBy_3 20 rfl rfl)
theorem dX1_putsBy_94 : decode cX1_putsBy 94 = .ok (.aload_n 0, 1) := dk_42 (dk_at dksX1_putsBy_3 23 rfl rfl)
theorem dX1_putsBy_95 : decode cX1_putsBy 95 = .ok (.getfield 203, 3) := dk_180 0 203 (dk_at dksX1_putsBy_4 0 rfl rfl)
theorem dX1_putsBy_98 : decode cX1_putsBy 98 = .ok (.aaload, 1) := dk_50 (dk_at dksX1_putsBy_4 3 rfl rfl)
theorem dX1_putsBy_99 : decode cX1_putsBy 99 = .ok (.aload_n 1, 1) := dk_43 (dk_at dksX1_putsBy_4 4 rfl rfl)
theorem dX1_putsBy_100 : decode cX1_putsBy 100 = .ok (.invokevirtual 304, 3) := dk_182 1 48 (dk_at dksX1_putsBy_4 5 rfl rfl)
theorem dX1_putsBy_103 : decode cX1_putsBy 103 = .ok (.aload_n 0, 1) := dk_42 (dk_at dksX1_putsBy_4 8 rfl rfl)
theorem dX1_putsBy_104 : decode cX1_putsBy 104 = .ok (.dup, 1) := dk_89 (dk_at dksX1_putsBy_4 9 rfl rfl)
theorem dX1_putsBy_105 : decode cX1_putsBy 105 = .ok (.getfield 203, 3) := dk_180 0 203 (dk_at dksX1_putsBy_4 10 rfl rfl)
theorem dX1_putsBy_108 : decode cX1_putsBy 108 = .ok (.iconst 1, 1) := dk_4 (dk_at dksX1_putsBy_4 13 rfl rfl)
theorem dX1_putsBy_109 : decode cX1_putsBy 109 = .ok (.iadd, 1) := dk_96 (dk_at dksX1_putsBy_4 14 rfl rfl)
theorem dX1_putsBy_110 : decode cX1_putsBy 110 = .ok (.putfield 203, 3) := dk_181 0 203 (dk_at dksX1_putsBy_4 15 rfl rfl)
theorem dX1_putsBy_113 : decode cX1_putsBy 113 = .ok (.return_, 1) := dk_177 (dk_at dksX1_putsBy_4 18 rfl rfl)
abbrev cX1_give : ByteArray := prog_1_method_42_code
def yX1_give : MethodName := ⟨RX1, "give", "(II)I"⟩
def dkwX1_give_2 : List UInt8 := [42, 42, 180, 0, 12, 27, 28, 182, 1, 90, 87, 29, 172]
abbrev dktX1_give_2 : List UInt8 := dkwX1_give_2 ++ []
def dkwX1_give_1 : List UInt8 := [154, 0, 6, 16, 254, 172, 42, 42, 180, 0, 12, 182, 1, 87, 42, 180, 0, 12, 180, 1, 58, 27, 46, 62]
abbrev dktX1_give_1 : List UInt8 := dkwX1_give_1 ++ dktX1_give_2
def dkwX1_give_0 : List UInt8 := [27, 133, 9, 20, 1, 32, 184, 0, 124, 153, 0, 16, 28, 2, 159, 0, 14, 42, 28, 182, 0, 128]
abbrev dktX1_give_0 : List UInt8 := dkwX1_give_0 ++ dktX1_give_1
theorem dksX1_give_0 : cX1_give.data.toList.drop 0 = dktX1_give_0 := by decide +kernel
theorem dksX1_give_1 : cX1_give.data.toList.drop 22 = dktX1_give_1 := dk_seg dksX1_give_0 22 rfl rfl
theorem dksX1_give_2 : cX1_give.data.toList.drop 46 = dktX1_give_2 := dk_seg dksX1_give_1 24 rfl rfl
theorem dX1_give_0 : decode cX1_give 0 = .ok (.iload_n 1, 1) := dk_27 (dk_at dksX1_give_0 0 rfl rfl)
theorem dX1_give_1 : decode cX1_give 1 = .ok (.i2l, 1) := dk_133 (dk_at dksX1_give_0 1 rfl rfl)
theorem dX1_give_2 : decode cX1_give 2 = .ok (.lconst 0, 1) := dk_9 (dk_at dksX1_give_0 2 rfl rfl)
theorem dX1_give_3 : decode cX1_give 3 = .ok (.ldc2_w 288, 3) := dk_20 1 32 (dk_at dksX1_give_0 3 rfl rfl)
theorem dX1_give_6 : decode cX1_give 6 = .ok (.invokestatic 124, 3) := dk_184 0 124 (dk_at dksX1_give_0 6 rfl rfl)
theorem dX1_give_9 : decode cX1_give 9 = .ok (.ifCond .eq 16, 3) := dk_153 0 16 (dk_at dksX1_give_0 9 rfl rfl)
theorem dX1_give_12 : decode cX1_give 12 = .ok (.iload_n 2, 1) := dk_28 (dk_at dksX1_give_0 12 rfl rfl)
theorem dX1_give_13 : decode cX1_give 13 = .ok (.iconst (-1), 1) := dk_2 (dk_at dksX1_give_0 13 rfl rfl)
theorem dX1_give_14 : decode cX1_give 14 = .ok (.if_icmp .eq 14, 3) := dk_159 0 14 (dk_at dksX1_give_0 14 rfl rfl)
theorem dX1_give_17 : decode cX1_give 17 = .ok (.aload_n 0, 1) := dk_42 (dk_at dksX1_give_0 17 rfl rfl)
theorem dX1_give_18 : decode cX1_give 18 = .ok (.iload_n 2, 1) := dk_28 (dk_at dksX1_give_0 18 rfl rfl)
theorem dX1_give_19 : decode cX1_give 19 = .ok (.invokevirtual 128, 3) := dk_182 0 128 (dk_at dksX1_give_0 19 rfl rfl)
theorem dX1_give_22 : decode cX1_give 22 = .ok (.ifCond .ne 6, 3) := dk_154 0 6 (dk_at dksX1_give_1 0 rfl rfl)
theorem dX1_give_25 : decode cX1_give 25 = .ok (.bipush (-2), 2) := dk_16 254 (dk_at dksX1_give_1 3 rfl rfl)
theorem dX1_give_27 : decode cX1_give 27 = .ok (.ireturn, 1) := dk_172 (dk_at dksX1_give_1 5 rfl rfl)
theorem dX1_give_28 : decode cX1_give 28 = .ok (.aload_n 0, 1) := dk_42 (dk_at dksX1_give_1 6 rfl rfl)
theorem dX1_give_29 : decode cX1_give 29 = .ok (.aload_n 0, 1) := dk_42 (dk_at dksX1_give_1 7 rfl rfl)
theorem dX1_give_30 : decode cX1_give 30 = .ok (.getfield 12, 3) := dk_180 0 12 (dk_at dksX1_give_1 8 rfl rfl)
theorem dX1_give_33 : decode cX1_give 33 = .ok (.invokevirtual 343, 3) := dk_182 1 87 (dk_at dksX1_give_1 11 rfl rfl)
theorem dX1_give_36 : decode cX1_give 36 = .ok (.aload_n 0, 1) := dk_42 (dk_at dksX1_give_1 14 rfl rfl)
theorem dX1_give_37 : decode cX1_give 37 = .ok (.getfield 12, 3) := dk_180 0 12 (dk_at dksX1_give_1 15 rfl rfl)
theorem dX1_give_40 : decode cX1_give 40 = .ok (.getfield 314, 3) := dk_180 1 58 (dk_at dksX1_give_1 18 rfl rfl)
theorem dX1_give_43 : decode cX1_give 43 = .ok (.iload_n 1, 1) := dk_27 (dk_at dksX1_give_1 21 rfl rfl)
theorem dX1_give_44 : decode cX1_give 44 = .ok (.iaload, 1) := dk_46 (dk_at dksX1_give_1 22 rfl rfl)
theorem dX1_give_45 : decode cX1_give 45 = .ok (.istore_n 3, 1) := dk_62 (dk_at dksX1_give_1 23 rfl rfl)
theorem dX1_give_46 : decode cX1_give 46 = .ok (.aload_n 0, 1) := dk_42 (dk_at dksX1_give_2 0 rfl rfl)
theorem dX1_give_47 : decode cX1_give 47 = .ok (.aload_n 0, 1) := dk_42 (dk_at dksX1_give_2 1 rfl rfl)
theorem dX1_give_48 : decode cX1_give 48 = .ok (.getfield 12, 3) := dk_180 0 12 (dk_at dksX1_give_2 2 rfl rfl)
theorem dX1_give_51 : decode cX1_give 51 = .ok (.iload_n 1, 1) := dk_27 (dk_at dksX1_give_2 5 rfl rfl)
theorem dX1_give_52 : decode cX1_give 52 = .ok (.iload_n 2, 1) := dk_28 (dk_at dksX1_give_2 6 rfl rfl)
theorem dX1_give_53 : decode cX1_give 53 = .ok (.invokevirtual 346, 3) := dk_182 1 90 (dk_at dksX1_give_2 7 rfl rfl)
theorem dX1_give_56 : decode cX1_give 56 = .ok (.pop, 1) := dk_87 (dk_at dksX1_give_2 10 rfl rfl)
theorem dX1_give_57 : decode cX1_give 57 = .ok (.iload_n 3, 1) := dk_29 (dk_at dksX1_give_2 11 rfl rfl)
theorem dX1_give_58 : decode cX1_give 58 = .ok (.ireturn, 1) := dk_172 (dk_at dksX1_give_2 12 rfl rfl)
abbrev cX1_gives : ByteArray := prog_1_method_38_code
def yX1_gives : MethodName := ⟨RX1, "gives", "(LRockingHorse$Horse;II)Z"⟩
def dkwX1_gives_1 : List UInt8 := [154, 0, 5, 3, 172, 43, 180, 1, 58, 28, 29, 79, 4, 172]
abbrev dktX1_gives_1 : List UInt8 := dkwX1_gives_1 ++ []
def dkwX1_gives_0 : List UInt8 := [28, 133, 9, 20, 1, 32, 184, 0, 124, 153, 0, 16, 29, 2, 159, 0, 13, 42, 29, 182, 0, 128]
abbrev dktX1_gives_0 : List UInt8 := dkwX1_gives_0 ++ dktX1_gives_1
theorem dksX1_gives_0 : cX1_gives.data.toList.drop 0 = dktX1_gives_0 := by decide +kernel
theorem dksX1_gives_1 : cX1_gives.data.toList.drop 22 = dktX1_gives_1 := dk_seg dksX1_gives_0 22 rfl rfl
theorem dX1_gives_0 : decode cX1_gives 0 = .ok (.iload_n 2, 1) := dk_28 (dk_at dksX1_gives_0 0 rfl rfl)
theorem dX1_gives_1 : decode cX1_gives 1 = .ok (.i2l, 1) := dk_133 (dk_at dksX1_gives_0 1 rfl rfl)
theorem dX1_gives_2 : decode cX1_gives 2 = .ok (.lconst 0, 1) := dk_9 (dk_at dksX1_gives_0 2 rfl rfl)
theorem dX1_gives_3 : decode cX1_gives 3 = .ok (.ldc2_w 288, 3) := dk_20 1 32 (dk_at dksX1_gives_0 3 rfl rfl)
theorem dX1_gives_6 : decode cX1_gives 6 = .ok (.invokestatic 124, 3) := dk_184 0 124 (dk_at dksX1_gives_0 6 rfl rfl)
theorem dX1_gives_9 : decode cX1_gives 9 = .ok (.ifCond .eq 16, 3) := dk_153 0 16 (dk_at dksX1_gives_0 9 rfl rfl)
theorem dX1_gives_12 : decode cX1_gives 12 = .ok (.iload_n 3, 1) := dk_29 (dk_at dksX1_gives_0 12 rfl rfl)
theorem dX1_gives_13 : decode cX1_gives 13 = .ok (.iconst (-1), 1) := dk_2 (dk_at dksX1_gives_0 13 rfl rfl)
theorem dX1_gives_14 : decode cX1_gives 14 = .ok (.if_icmp .eq 13, 3) := dk_159 0 13 (dk_at dksX1_gives_0 14 rfl rfl)
theorem dX1_gives_17 : decode cX1_gives 17 = .ok (.aload_n 0, 1) := dk_42 (dk_at dksX1_gives_0 17 rfl rfl)
theorem dX1_gives_18 : decode cX1_gives 18 = .ok (.iload_n 3, 1) := dk_29 (dk_at dksX1_gives_0 18 rfl rfl)
theorem dX1_gives_19 : decode cX1_gives 19 = .ok (.invokevirtual 128, 3) := dk_182 0 128 (dk_at dksX1_gives_0 19 rfl rfl)
theorem dX1_gives_22 : decode cX1_gives 22 = .ok (.ifCond .ne 5, 3) := dk_154 0 5 (dk_at dksX1_gives_1 0 rfl rfl)
theorem dX1_gives_25 : decode cX1_gives 25 = .ok (.iconst 0, 1) := dk_3 (dk_at dksX1_gives_1 3 rfl rfl)
theorem dX1_gives_26 : decode cX1_gives 26 = .ok (.ireturn, 1) := dk_172 (dk_at dksX1_gives_1 4 rfl rfl)
theorem dX1_gives_27 : decode cX1_gives 27 = .ok (.aload_n 1, 1) := dk_43 (dk_at dksX1_gives_1 5 rfl rfl)
theorem dX1_gives_28 : decode cX1_gives 28 = .ok (.getfield 314, 3) := dk_180 1 58 (dk_at dksX1_gives_1 6 rfl rfl)
theorem dX1_gives_31 : decode cX1_gives 31 = .ok (.iload_n 2, 1) := dk_28 (dk_at dksX1_gives_1 9 rfl rfl)
theorem dX1_gives_32 : decode cX1_gives 32 = .ok (.iload_n 3, 1) := dk_29 (dk_at dksX1_gives_1 10 rfl rfl)
theorem dX1_gives_33 : decode cX1_gives 33 = .ok (.iastore, 1) := dk_79 (dk_at dksX1_gives_1 11 rfl rfl)
theorem dX1_gives_34 : decode cX1_gives 34 = .ok (.iconst 1, 1) := dk_4 (dk_at dksX1_gives_1 12 rfl rfl)
theorem dX1_gives_35 : decode cX1_gives 35 = .ok (.ireturn, 1) := dk_172 (dk_at dksX1_gives_1 13 rfl rfl)
abbrev cX1_ill : ByteArray := prog_1_method_43_code
def yX1_ill : MethodName := ⟨RX1, "ill", "(I)I"⟩
def dkwX1_ill_1 : List UInt8 := [182, 1, 94, 172]
abbrev dktX1_ill_1 : List UInt8 := dkwX1_ill_1 ++ []
def dkwX1_ill_0 : List UInt8 := [42, 27, 182, 0, 128, 154, 0, 5, 2, 172, 42, 42, 180, 0, 12, 182, 1, 87, 42, 42, 180, 0, 12, 27]
abbrev dktX1_ill_0 : List UInt8 := dkwX1_ill_0 ++ dktX1_ill_1
theorem dksX1_ill_0 : cX1_ill.data.toList.drop 0 = dktX1_ill_0 := by decide +kernel
theorem dksX1_ill_1 : cX1_ill.data.toList.drop 24 = dktX1_ill_1 := dk_seg dksX1_ill_0 24 rfl rfl
theorem dX1_ill_0 : decode cX1_ill 0 = .ok (.aload_n 0, 1) := dk_42 (dk_at dksX1_ill_0 0 rfl rfl)
theorem dX1_ill_1 : decode cX1_ill 1 = .ok (.iload_n 1, 1) := dk_27 (dk_at dksX1_ill_0 1 rfl rfl)
theorem dX1_ill_2 : decode cX1_ill 2 = .ok (.invokevirtual 128, 3) := dk_182 0 128 (dk_at dksX1_ill_0 2 rfl rfl)
theorem dX1_ill_5 : decode cX1_ill 5 = .ok (.ifCond .ne 5, 3) := dk_154 0 5 (dk_at dksX1_ill_0 5 rfl rfl)
theorem dX1_ill_8 : decode cX1_ill 8 = .ok (.iconst (-1), 1) := dk_2 (dk_at dksX1_ill_0 8 rfl rfl)
theorem dX1_ill_9 : decode cX1_ill 9 = .ok (.ireturn, 1) := dk_172 (dk_at dksX1_ill_0 9 rfl rfl)
theorem dX1_ill_10 : decode cX1_ill 10 = .ok (.aload_n 0, 1) := dk_42 (dk_at dksX1_ill_0 10 rfl rfl)
theorem dX1_ill_11 : decode cX1_ill 11 = .ok (.aload_n 0, 1) := dk_42 (dk_at dksX1_ill_0 11 rfl rfl)
theorem dX1_ill_12 : decode cX1_ill 12 = .ok (.getfield 12, 3) := dk_180 0 12 (dk_at dksX1_ill_0 12 rfl rfl)
theorem dX1_ill_15 : decode cX1_ill 15 = .ok (.invokevirtual 343, 3) := dk_182 1 87 (dk_at dksX1_ill_0 15 rfl rfl)
theorem dX1_ill_18 : decode cX1_ill 18 = .ok (.aload_n 0, 1) := dk_42 (dk_at dksX1_ill_0 18 rfl rfl)
theorem dX1_ill_19 : decode cX1_ill 19 = .ok (.aload_n 0, 1) := dk_42 (dk_at dksX1_ill_0 19 rfl rfl)
theorem dX1_ill_20 : decode cX1_ill 20 = .ok (.getfield 12, 3) := dk_180 0 12 (dk_at dksX1_ill_0 20 rfl rfl)
theorem dX1_ill_23 : decode cX1_ill 23 = .ok (.iload_n 1, 1) := dk_27 (dk_at dksX1_ill_0 23 rfl rfl)
theorem dX1_ill_24 : decode cX1_ill 24 = .ok (.invokevirtual 350, 3) := dk_182 1 94 (dk_at dksX1_ill_1 0 rfl rfl)
theorem dX1_ill_27 : decode cX1_ill 27 = .ok (.ireturn, 1) := dk_172 (dk_at dksX1_ill_1 3 rfl rfl)
abbrev cX1_falls : ByteArray := prog_1_method_39_code
def yX1_falls : MethodName := ⟨RX1, "falls", "(LRockingHorse$Horse;I)I"⟩
def dkwX1_falls_1 : List UInt8 := [180, 0, 200, 184, 1, 70, 172]
abbrev dktX1_falls_1 : List UInt8 := dkwX1_falls_1 ++ []
def dkwX1_falls_0 : List UInt8 := [42, 28, 182, 0, 128, 154, 0, 5, 2, 172, 43, 89, 180, 0, 200, 4, 28, 120, 130, 181, 0, 200, 43]
abbrev dktX1_falls_0 : List UInt8 := dkwX1_falls_0 ++ dktX1_falls_1
theorem dksX1_falls_0 : cX1_falls.data.toList.drop 0 = dktX1_falls_0 := by decide +kernel
theorem dksX1_falls_1 : cX1_falls.data.toList.drop 23 = dktX1_falls_1 := dk_seg dksX1_falls_0 23 rfl rfl
theorem dX1_falls_0 : decode cX1_falls 0 = .ok (.aload_n 0, 1) := dk_42 (dk_at dksX1_falls_0 0 rfl rfl)
theorem dX1_falls_1 : decode cX1_falls 1 = .ok (.iload_n 2, 1) := dk_28 (dk_at dksX1_falls_0 1 rfl rfl)
theorem dX1_falls_2 : decode cX1_falls 2 = .ok (.invokevirtual 128, 3) := dk_182 0 128 (dk_at dksX1_falls_0 2 rfl rfl)
theorem dX1_falls_5 : decode cX1_falls 5 = .ok (.ifCond .ne 5, 3) := dk_154 0 5 (dk_at dksX1_falls_0 5 rfl rfl)
theorem dX1_falls_8 : decode cX1_falls 8 = .ok (.iconst (-1), 1) := dk_2 (dk_at dksX1_falls_0 8 rfl rfl)
theorem dX1_falls_9 : decode cX1_falls 9 = .ok (.ireturn, 1) := dk_172 (dk_at dksX1_falls_0 9 rfl rfl)
theorem dX1_falls_10 : decode cX1_falls 10 = .ok (.aload_n 1, 1) := dk_43 (dk_at dksX1_falls_0 10 rfl rfl)
theorem dX1_falls_11 : decode cX1_falls 11 = .ok (.dup, 1) := dk_89 (dk_at dksX1_falls_0 11 rfl rfl)
theorem dX1_falls_12 : decode cX1_falls 12 = .ok (.getfield 200, 3) := dk_180 0 200 (dk_at dksX1_falls_0 12 rfl rfl)
theorem dX1_falls_15 : decode cX1_falls 15 = .ok (.iconst 1, 1) := dk_4 (dk_at dksX1_falls_0 15 rfl rfl)
theorem dX1_falls_16 : decode cX1_falls 16 = .ok (.iload_n 2, 1) := dk_28 (dk_at dksX1_falls_0 16 rfl rfl)
theorem dX1_falls_17 : decode cX1_falls 17 = .ok (.ishl, 1) := dk_120 (dk_at dksX1_falls_0 17 rfl rfl)
theorem dX1_falls_18 : decode cX1_falls 18 = .ok (.ixor, 1) := dk_130 (dk_at dksX1_falls_0 18 rfl rfl)
theorem dX1_falls_19 : decode cX1_falls 19 = .ok (.putfield 200, 3) := dk_181 0 200 (dk_at dksX1_falls_0 19 rfl rfl)
theorem dX1_falls_22 : decode cX1_falls 22 = .ok (.aload_n 1, 1) := dk_43 (dk_at dksX1_falls_0 22 rfl rfl)
theorem dX1_falls_23 : decode cX1_falls 23 = .ok (.getfield 200, 3) := dk_180 0 200 (dk_at dksX1_falls_1 0 rfl rfl)
theorem dX1_falls_26 : decode cX1_falls 26 = .ok (.invokestatic 326, 3) := dk_184 1 70 (dk_at dksX1_falls_1 3 rfl rfl)
theorem dX1_falls_29 : decode cX1_falls 29 = .ok (.ireturn, 1) := dk_172 (dk_at dksX1_falls_1 6 rfl rfl)
abbrev cX1_nights : ByteArray := prog_1_method_44_code
def yX1_nights : MethodName := ⟨RX1, "nights", "(I)I"⟩
def dkwX1_nights_4 : List UInt8 := [172]
abbrev dktX1_nights_4 : List UInt8 := dkwX1_nights_4 ++ []
def dkwX1_nights_3 : List UInt8 := [42, 42, 180, 0, 12, 180, 0, 197, 182, 1, 44, 133, 182, 1, 107, 42, 180, 0, 12, 180, 1, 67, 28, 100]
abbrev dktX1_nights_3 : List UInt8 := dkwX1_nights_3 ++ dktX1_nights_4
def dkwX1_nights_2 : List UInt8 := [27, 182, 1, 100, 42, 3, 181, 1, 104, 42, 42, 180, 0, 12, 180, 1, 75, 29, 100, 133, 182, 1, 107, 42]
abbrev dktX1_nights_2 : List UInt8 := dkwX1_nights_2 ++ dktX1_nights_3
def dkwX1_nights_1 : List UInt8 := [182, 1, 87, 42, 180, 0, 12, 180, 1, 67, 61, 42, 180, 0, 12, 180, 1, 75, 62, 42, 42, 180, 0, 12]
abbrev dktX1_nights_1 : List UInt8 := dkwX1_nights_1 ++ dktX1_nights_2
def dkwX1_nights_0 : List UInt8 := [27, 133, 9, 20, 1, 98, 184, 0, 124, 154, 0, 5, 2, 172, 27, 158, 0, 11, 42, 42, 180, 0, 12]
abbrev dktX1_nights_0 : List UInt8 := dkwX1_nights_0 ++ dktX1_nights_1
theorem dksX1_nights_0 : cX1_nights.data.toList.drop 0 = dktX1_nights_0 := by decide +kernel
theorem dksX1_nights_1 : cX1_nights.data.toList.drop 23 = dktX1_nights_1 := dk_seg dksX1_nights_0 23 rfl rfl
theorem dksX1_nights_2 : cX1_nights.data.toList.drop 47 = dktX1_nights_2 := dk_seg dksX1_nights_1 24 rfl rfl
theorem dksX1_nights_3 : cX1_nights.data.toList.drop 71 = dktX1_nights_3 := dk_seg dksX1_nights_2 24 rfl rfl
theorem dksX1_nights_4 : cX1_nights.data.toList.drop 95 = dktX1_nights_4 := dk_seg dksX1_nights_3 24 rfl rfl
theorem dX1_nights_0 : decode cX1_nights 0 = .ok (.iload_n 1, 1) := dk_27 (dk_at dksX1_nights_0 0 rfl rfl)
theorem dX1_nights_1 : decode cX1_nights 1 = .ok (.i2l, 1) := dk_133 (dk_at dksX1_nights_0 1 rfl rfl)
theorem dX1_nights_2 : decode cX1_nights 2 = .ok (.lconst 0, 1) := dk_9 (dk_at dksX1_nights_0 2 rfl rfl)
theorem dX1_nights_3 : decode cX1_nights 3 = .ok (.ldc2_w 354, 3) := dk_20 1 98 (dk_at dksX1_nights_0 3 rfl rfl)
theorem dX1_nights_6 : decode cX1_nights 6 = .ok (.invokestatic 124, 3) := dk_184 0 124 (dk_at dksX1_nights_0 6 rfl rfl)
theorem dX1_nights_9 : decode cX1_nights 9 = .ok (.ifCond .ne 5, 3) := dk_154 0 5 (dk_at dksX1_nights_0 9 rfl rfl)
theorem dX1_nights_12 : decode cX1_nights 12 = .ok (.iconst (-1), 1) := dk_2 (dk_at dksX1_nights_0 12 rfl rfl)
theorem dX1_nights_13 : decode cX1_nights 13 = .ok (.ireturn, 1) := dk_172 (dk_at dksX1_nights_0 13 rfl rfl)
theorem dX1_nights_14 : decode cX1_nights 14 = .ok (.iload_n 1, 1) := dk_27 (dk_at dksX1_nights_0 14 rfl rfl)
theorem dX1_nights_15 : decode cX1_nights 15 = .ok (.ifCond .le 11, 3) := dk_158 0 11 (dk_at dksX1_nights_0 15 rfl rfl)
theorem dX1_nights_18 : decode cX1_nights 18 = .ok (.aload_n 0, 1) := dk_42 (dk_at dksX1_nights_0 18 rfl rfl)
theorem dX1_nights_19 : decode cX1_nights 19 = .ok (.aload_n 0, 1) := dk_42 (dk_at dksX1_nights_0 19 rfl rfl)
theorem dX1_nights_20 : decode cX1_nights 20 = .ok (.getfield 12, 3) := dk_180 0 12 (dk_at dksX1_nights_0 20 rfl rfl)
theorem dX1_nights_23 : decode cX1_nights 23 = .ok (.invokevirtual 343, 3) := dk_182 1 87 (dk_at dksX1_nights_1 0 rfl rfl)
theorem dX1_nights_26 : decode cX1_nights 26 = .ok (.aload_n 0, 1) := dk_42 (dk_at dksX1_nights_1 3 rfl rfl)
theorem dX1_nights_27 : decode cX1_nights 27 = .ok (.getfield 12, 3) := dk_180 0 12 (dk_at dksX1_nights_1 4 rfl rfl)
theorem dX1_nights_30 : decode cX1_nights 30 = .ok (.getfield 323, 3) := dk_180 1 67 (dk_at dksX1_nights_1 7 rfl rfl)
theorem dX1_nights_33 : decode cX1_nights 33 = .ok (.istore_n 2, 1) := dk_61 (dk_at dksX1_nights_1 10 rfl rfl)
theorem dX1_nights_34 : decode cX1_nights 34 = .ok (.aload_n 0, 1) := dk_42 (dk_at dksX1_nights_1 11 rfl rfl)
theorem dX1_nights_35 : decode cX1_nights 35 = .ok (.getfield 12, 3) := dk_180 0 12 (dk_at dksX1_nights_1 12 rfl rfl)
theorem dX1_nights_38 : decode cX1_nights 38 = .ok (.getfield 331, 3) := dk_180 1 75 (dk_at dksX1_nights_1 15 rfl rfl)
theorem dX1_nights_41 : decode cX1_nights 41 = .ok (.istore_n 3, 1) := dk_62 (dk_at dksX1_nights_1 18 rfl rfl)
theorem dX1_nights_42 : decode cX1_nights 42 = .ok (.aload_n 0, 1) := dk_42 (dk_at dksX1_nights_1 19 rfl rfl)
theorem dX1_nights_43 : decode cX1_nights 43 = .ok (.aload_n 0, 1) := dk_42 (dk_at dksX1_nights_1 20 rfl rfl)
theorem dX1_nights_44 : decode cX1_nights 44 = .ok (.getfield 12, 3) := dk_180 0 12 (dk_at dksX1_nights_1 21 rfl rfl)
theorem dX1_nights_47 : decode cX1_nights 47 = .ok (.iload_n 1, 1) := dk_27 (dk_at dksX1_nights_2 0 rfl rfl)
theorem dX1_nights_48 : decode cX1_nights 48 = .ok (.invokevirtual 356, 3) := dk_182 1 100 (dk_at dksX1_nights_2 1 rfl rfl)
theorem dX1_nights_51 : decode cX1_nights 51 = .ok (.aload_n 0, 1) := dk_42 (dk_at dksX1_nights_2 4 rfl rfl)
theorem dX1_nights_52 : decode cX1_nights 52 = .ok (.iconst 0, 1) := dk_3 (dk_at dksX1_nights_2 5 rfl rfl)
theorem dX1_nights_53 : decode cX1_nights 53 = .ok (.putfield 360, 3) := dk_181 1 104 (dk_at dksX1_nights_2 6 rfl rfl)
theorem dX1_nights_56 : decode cX1_nights 56 = .ok (.aload_n 0, 1) := dk_42 (dk_at dksX1_nights_2 9 rfl rfl)
theorem dX1_nights_57 : decode cX1_nights 57 = .ok (.aload_n 0, 1) := dk_42 (dk_at dksX1_nights_2 10 rfl rfl)
theorem dX1_nights_58 : decode cX1_nights 58 = .ok (.getfield 12, 3) := dk_180 0 12 (dk_at dksX1_nights_2 11 rfl rfl)
theorem dX1_nights_61 : decode cX1_nights 61 = .ok (.getfield 331, 3) := dk_180 1 75 (dk_at dksX1_nights_2 14 rfl rfl)
theorem dX1_nights_64 : decode cX1_nights 64 = .ok (.iload_n 3, 1) := dk_29 (dk_at dksX1_nights_2 17 rfl rfl)
theorem dX1_nights_65 : decode cX1_nights 65 = .ok (.isub, 1) := dk_100 (dk_at dksX1_nights_2 18 rfl rfl)
theorem dX1_nights_66 : decode cX1_nights 66 = .ok (.i2l, 1) := dk_133 (dk_at dksX1_nights_2 19 rfl rfl)
theorem dX1_nights_67 : decode cX1_nights 67 = .ok (.invokevirtual 363, 3) := dk_182 1 107 (dk_at dksX1_nights_2 20 rfl rfl)
theorem dX1_nights_70 : decode cX1_nights 70 = .ok (.aload_n 0, 1) := dk_42 (dk_at dksX1_nights_2 23 rfl rfl)
theorem dX1_nights_71 : decode cX1_nights 71 = .ok (.aload_n 0, 1) := dk_42 (dk_at dksX1_nights_3 0 rfl rfl)
theorem dX1_nights_72 : decode cX1_nights 72 = .ok (.aload_n 0, 1) := dk_42 (dk_at dksX1_nights_3 1 rfl rfl)
theorem dX1_nights_73 : decode cX1_nights 73 = .ok (.getfield 12, 3) := dk_180 0 12 (dk_at dksX1_nights_3 2 rfl rfl)
theorem dX1_nights_76 : decode cX1_nights 76 = .ok (.getfield 197, 3) := dk_180 0 197 (dk_at dksX1_nights_3 5 rfl rfl)
theorem dX1_nights_79 : decode cX1_nights 79 = .ok (.invokevirtual 300, 3) := dk_182 1 44 (dk_at dksX1_nights_3 8 rfl rfl)
theorem dX1_nights_82 : decode cX1_nights 82 = .ok (.i2l, 1) := dk_133 (dk_at dksX1_nights_3 11 rfl rfl)
theorem dX1_nights_83 : decode cX1_nights 83 = .ok (.invokevirtual 363, 3) := dk_182 1 107 (dk_at dksX1_nights_3 12 rfl rfl)
theorem dX1_nights_86 : decode cX1_nights 86 = .ok (.aload_n 0, 1) := dk_42 (dk_at dksX1_nights_3 15 rfl rfl)
theorem dX1_nights_87 : decode cX1_nights 87 = .ok (.getfield 12, 3) := dk_180 0 12 (dk_at dksX1_nights_3 16 rfl rfl)
theorem dX1_nights_90 : decode cX1_nights 90 = .ok (.getfield 323, 3) := dk_180 1 67 (dk_at dksX1_nights_3 19 rfl rfl)
theorem dX1_nights_93 : decode cX1_nights 93 = .ok (.iload_n 2, 1) := dk_28 (dk_at dksX1_nights_3 22 rfl rfl)
theorem dX1_nights_94 : decode cX1_nights 94 = .ok (.isub, 1) := dk_100 (dk_at dksX1_nights_3 23 rfl rfl)
theorem dX1_nights_95 : decode cX1_nights 95 = .ok (.ireturn, 1) := dk_172 (dk_at dksX1_nights_4 0 rfl rfl)
abbrev cX1_nightsGo : ByteArray := prog_1_method_37_code
def yX1_nightsGo : MethodName := ⟨RX1, "nightsGo", "(LRockingHorse$Horse;I)V"⟩
def dkwX1_nightsGo_0 : List UInt8 := [3, 62, 29, 28, 162, 0, 14, 42, 43, 182, 1, 81, 132, 3, 1, 167, 255, 243, 177]
abbrev dktX1_nightsGo_0 : List UInt8 := dkwX1_nightsGo_0 ++ []
theorem dksX1_nightsGo_0 : cX1_nightsGo.data.toList.drop 0 = dktX1_nightsGo_0 := by decide +kernel
theorem dX1_nightsGo_0 : decode cX1_nightsGo 0 = .ok (.iconst 0, 1) := dk_3 (dk_at dksX1_nightsGo_0 0 rfl rfl)
theorem dX1_nightsGo_1 : decode cX1_nightsGo 1 = .ok (.istore_n 3, 1) := dk_62 (dk_at dksX1_nightsGo_0 1 rfl rfl)
theorem dX1_nightsGo_2 : decode cX1_nightsGo 2 = .ok (.iload_n 3, 1) := dk_29 (dk_at dksX1_nightsGo_0 2 rfl rfl)
theorem dX1_nightsGo_3 : decode cX1_nightsGo 3 = .ok (.iload_n 2, 1) := dk_28 (dk_at dksX1_nightsGo_0 3 rfl rfl)
theorem dX1_nightsGo_4 : decode cX1_nightsGo 4 = .ok (.if_icmp .ge 14, 3) := dk_162 0 14 (dk_at dksX1_nightsGo_0 4 rfl rfl)
theorem dX1_nightsGo_7 : decode cX1_nightsGo 7 = .ok (.aload_n 0, 1) := dk_42 (dk_at dksX1_nightsGo_0 7 rfl rfl)
theorem dX1_nightsGo_8 : decode cX1_nightsGo 8 = .ok (.aload_n 1, 1) := dk_43 (dk_at dksX1_nightsGo_0 8 rfl rfl)
theorem dX1_nightsGo_9 : decode cX1_nightsGo 9 = .ok (.invokevirtual 337, 3) := dk_182 1 81 (dk_at dksX1_nightsGo_0 9 rfl rfl)
theorem dX1_nightsGo_12 : decode cX1_nightsGo 12 = .ok (.iinc 3 1, 3) := dk_132 3 1 (dk_at dksX1_nightsGo_0 12 rfl rfl)
theorem dX1_nightsGo_15 : decode cX1_nightsGo 15 = .ok (.goto (-13), 3) := dk_167 255 243 (dk_at dksX1_nightsGo_0 15 rfl rfl)
theorem dX1_nightsGo_18 : decode cX1_nightsGo 18 = .ok (.return_, 1) := dk_177 (dk_at dksX1_nightsGo_0 18 rfl rfl)
abbrev cX1_nightGoes : ByteArray := prog_1_method_36_code
def yX1_nightGoes : MethodName := ⟨RX1, "nightGoes", "(LRockingHorse$Horse;)V"⟩
def dkwX1_nightGoes_4 : List UInt8 := [79, 132, 2, 1, 167, 255, 197, 43, 89, 180, 1, 78, 4, 96, 181, 1, 78, 177]
abbrev dktX1_nightGoes_4 : List UInt8 := dkwX1_nightGoes_4 ++ []
def dkwX1_nightGoes_3 : List UInt8 := [180, 0, 58, 28, 46, 96, 184, 0, 141, 167, 0, 15, 3, 43, 180, 0, 197, 28, 46, 8, 100, 184, 1, 19]
abbrev dktX1_nightGoes_3 : List UInt8 := dkwX1_nightGoes_3 ++ dktX1_nightGoes_4
def dkwX1_nightGoes_2 : List UInt8 := [43, 180, 0, 197, 28, 42, 180, 0, 55, 28, 46, 158, 0, 24, 16, 99, 43, 180, 0, 197, 28, 46, 42]
abbrev dktX1_nightGoes_2 : List UInt8 := dkwX1_nightGoes_2 ++ dktX1_nightGoes_3
def dkwX1_nightGoes_1 : List UInt8 := [180, 1, 75, 42, 180, 1, 55, 184, 1, 70, 96, 181, 1, 75, 3, 61, 28, 42, 180, 0, 121, 162, 0, 57]
abbrev dktX1_nightGoes_1 : List UInt8 := dkwX1_nightGoes_1 ++ dktX1_nightGoes_2
def dkwX1_nightGoes_0 : List UInt8 := [42, 43, 182, 1, 64, 43, 89, 180, 1, 67, 42, 180, 1, 52, 184, 1, 70, 96, 181, 1, 67, 43, 89]
abbrev dktX1_nightGoes_0 : List UInt8 := dkwX1_nightGoes_0 ++ dktX1_nightGoes_1
theorem dksX1_nightGoes_0 : cX1_nightGoes.data.toList.drop 0 = dktX1_nightGoes_0 := by decide +kernel
theorem dksX1_nightGoes_1 : cX1_nightGoes.data.toList.drop 23 = dktX1_nightGoes_1 := dk_seg dksX1_nightGoes_0 23 rfl rfl
theorem dksX1_nightGoes_2 : cX1_nightGoes.data.toList.drop 47 = dktX1_nightGoes_2 := dk_seg dksX1_nightGoes_1 24 rfl rfl
theorem dksX1_nightGoes_3 : cX1_nightGoes.data.toList.drop 70 = dktX1_nightGoes_3 := dk_seg dksX1_nightGoes_2 23 rfl rfl
theorem dksX1_nightGoes_4 : cX1_nightGoes.data.toList.drop 94 = dktX1_nightGoes_4 := dk_seg dksX1_nightGoes_3 24 rfl rfl
theorem dX1_nightGoes_0 : decode cX1_nightGoes 0 = .ok (.aload_n 0, 1) := dk_42 (dk_at dksX1_nightGoes_0 0 rfl rfl)
theorem dX1_nightGoes_1 : decode cX1_nightGoes 1 = .ok (.aload_n 1, 1) := dk_43 (dk_at dksX1_nightGoes_0 1 rfl rfl)
theorem dX1_nightGoes_2 : decode cX1_nightGoes 2 = .ok (.invokevirtual 320, 3) := dk_182 1 64 (dk_at dksX1_nightGoes_0 2 rfl rfl)
theorem dX1_nightGoes_5 : decode cX1_nightGoes 5 = .ok (.aload_n 1, 1) := dk_43 (dk_at dksX1_nightGoes_0 5 rfl rfl)
theorem dX1_nightGoes_6 : decode cX1_nightGoes 6 = .ok (.dup, 1) := dk_89 (dk_at dksX1_nightGoes_0 6 rfl rfl)
theorem dX1_nightGoes_7 : decode cX1_nightGoes 7 = .ok (.getfield 323, 3) := dk_180 1 67 (dk_at dksX1_nightGoes_0 7 rfl rfl)
theorem dX1_nightGoes_10 : decode cX1_nightGoes 10 = .ok (.aload_n 0, 1) := dk_42 (dk_at dksX1_nightGoes_0 10 rfl rfl)
theorem dX1_nightGoes_11 : decode cX1_nightGoes 11 = .ok (.getfield 308, 3) := dk_180 1 52 (dk_at dksX1_nightGoes_0 11 rfl rfl)
theorem dX1_nightGoes_14 : decode cX1_nightGoes 14 = .ok (.invokestatic 326, 3) := dk_184 1 70 (dk_at dksX1_nightGoes_0 14 rfl rfl)
theorem dX1_nightGoes_17 : decode cX1_nightGoes 17 = .ok (.iadd, 1) := dk_96 (dk_at dksX1_nightGoes_0 17 rfl rfl)
theorem dX1_nightGoes_18 : decode cX1_nightGoes 18 = .ok (.putfield 323, 3) := dk_181 1 67 (dk_at dksX1_nightGoes_0 18 rfl rfl)
theorem dX1_nightGoes_21 : decode cX1_nightGoes 21 = .ok (.aload_n 1, 1) := dk_43 (dk_at dksX1_nightGoes_0 21 rfl rfl)
theorem dX1_nightGoes_22 : decode cX1_nightGoes 22 = .ok (.dup, 1) := dk_89 (dk_at dksX1_nightGoes_0 22 rfl rfl)
theorem dX1_nightGoes_23 : decode cX1_nightGoes 23 = .ok (.getfield 331, 3) := dk_180 1 75 (dk_at dksX1_nightGoes_1 0 rfl rfl)
theorem dX1_nightGoes_26 : decode cX1_nightGoes 26 = .ok (.aload_n 0, 1) := dk_42 (dk_at dksX1_nightGoes_1 3 rfl rfl)
theorem dX1_nightGoes_27 : decode cX1_nightGoes 27 = .ok (.getfield 311, 3) := dk_180 1 55 (dk_at dksX1_nightGoes_1 4 rfl rfl)
theorem dX1_nightGoes_30 : decode cX1_nightGoes 30 = .ok (.invokestatic 326, 3) := dk_184 1 70 (dk_at dksX1_nightGoes_1 7 rfl rfl)
theorem dX1_nightGoes_33 : decode cX1_nightGoes 33 = .ok (.iadd, 1) := dk_96 (dk_at dksX1_nightGoes_1 10 rfl rfl)
theorem dX1_nightGoes_34 : decode cX1_nightGoes 34 = .ok (.putfield 331, 3) := dk_181 1 75 (dk_at dksX1_nightGoes_1 11 rfl rfl)
theorem dX1_nightGoes_37 : decode cX1_nightGoes 37 = .ok (.iconst 0, 1) := dk_3 (dk_at dksX1_nightGoes_1 14 rfl rfl)
theorem dX1_nightGoes_38 : decode cX1_nightGoes 38 = .ok (.istore_n 2, 1) := dk_61 (dk_at dksX1_nightGoes_1 15 rfl rfl)
theorem dX1_nightGoes_39 : decode cX1_nightGoes 39 = .ok (.iload_n 2, 1) := dk_28 (dk_at dksX1_nightGoes_1 16 rfl rfl)
theorem dX1_nightGoes_40 : decode cX1_nightGoes 40 = .ok (.aload_n 0, 1) := dk_42 (dk_at dksX1_nightGoes_1 17 rfl rfl)
theorem dX1_nightGoes_41 : decode cX1_nightGoes 41 = .ok (.getfield 121, 3) := dk_180 0 121 (dk_at dksX1_nightGoes_1 18 rfl rfl)
theorem dX1_nightGoes_44 : decode cX1_nightGoes 44 = .ok (.if_icmp .ge 57, 3) := dk_162 0 57 (dk_at dksX1_nightGoes_1 21 rfl rfl)
theorem dX1_nightGoes_47 : decode cX1_nightGoes 47 = .ok (.aload_n 1, 1) := dk_43 (dk_at dksX1_nightGoes_2 0 rfl rfl)
theorem dX1_nightGoes_48 : decode cX1_nightGoes 48 = .ok (.getfield 197, 3) := dk_180 0 197 (dk_at dksX1_nightGoes_2 1 rfl rfl)
theorem dX1_nightGoes_51 : decode cX1_nightGoes 51 = .ok (.iload_n 2, 1) := dk_28 (dk_at dksX1_nightGoes_2 4 rfl rfl)
theorem dX1_nightGoes_52 : decode cX1_nightGoes 52 = .ok (.aload_n 0, 1) := dk_42 (dk_at dksX1_nightGoes_2 5 rfl rfl)
theorem dX1_nightGoes_53 : decode cX1_nightGoes 53 = .ok (.getfield 55, 3) := dk_180 0 55 (dk_at dksX1_nightGoes_2 6 rfl rfl)
theorem dX1_nightGoes_56 : decode cX1_nightGoes 56 = .ok (.iload_n 2, 1) := dk_28 (dk_at dksX1_nightGoes_2 9 rfl rfl)
theorem dX1_nightGoes_57 : decode cX1_nightGoes 57 = .ok (.iaload, 1) := dk_46 (dk_at dksX1_nightGoes_2 10 rfl rfl)
theorem dX1_nightGoes_58 : decode cX1_nightGoes 58 = .ok (.ifCond .le 24, 3) := dk_158 0 24 (dk_at dksX1_nightGoes_2 11 rfl rfl)
theorem dX1_nightGoes_61 : decode cX1_nightGoes 61 = .ok (.bipush 99, 2) := dk_16 99 (dk_at dksX1_nightGoes_2 14 rfl rfl)
theorem dX1_nightGoes_63 : decode cX1_nightGoes 63 = .ok (.aload_n 1, 1) := dk_43 (dk_at dksX1_nightGoes_2 16 rfl rfl)
theorem dX1_nightGoes_64 : decode cX1_nightGoes 64 = .ok (.getfield 197, 3) := dk_180 0 197 (dk_at dksX1_nightGoes_2 17 rfl rfl)
theorem dX1_nightGoes_67 : decode cX1_nightGoes 67 = .ok (.iload_n 2, 1) := dk_28 (dk_at dksX1_nightGoes_2 20 rfl rfl)
theorem dX1_nightGoes_68 : decode cX1_nightGoes 68 = .ok (.iaload, 1) := dk_46 (dk_at dksX1_nightGoes_2 21 rfl rfl)
theorem dX1_nightGoes_69 : decode cX1_nightGoes 69 = .ok (.aload_n 0, 1) := dk_42 (dk_at dksX1_nightGoes_2 22 rfl rfl)
theorem dX1_nightGoes_70 : decode cX1_nightGoes 70 = .ok (.getfield 58, 3) := dk_180 0 58 (dk_at dksX1_nightGoes_3 0 rfl rfl)
theorem dX1_nightGoes_73 : decode cX1_nightGoes 73 = .ok (.iload_n 2, 1) := dk_28 (dk_at dksX1_nightGoes_3 3 rfl rfl)
theorem dX1_nightGoes_74 : decode cX1_nightGoes 74 = .ok (.iaload, 1) := dk_46 (dk_at dksX1_nightGoes_3 4 rfl rfl)
theorem dX1_nightGoes_75 : decode cX1_nightGoes 75 = .ok (.iadd, 1) := dk_96 (dk_at dksX1_nightGoes_3 5 rfl rfl)
theorem dX1_nightGoes_76 : decode cX1_nightGoes 76 = .ok (.invokestatic 141, 3) := dk_184 0 141 (dk_at dksX1_nightGoes_3 6 rfl rfl)
theorem dX1_nightGoes_79 : decode cX1_nightGoes 79 = .ok (.goto 15, 3) := dk_167 0 15 (dk_at dksX1_nightGoes_3 9 rfl rfl)
theorem dX1_nightGoes_82 : decode cX1_nightGoes 82 = .ok (.iconst 0, 1) := dk_3 (dk_at dksX1_nightGoes_3 12 rfl rfl)
theorem dX1_nightGoes_83 : decode cX1_nightGoes 83 = .ok (.aload_n 1, 1) := dk_43 (dk_at dksX1_nightGoes_3 13 rfl rfl)
theorem dX1_nightGoes_84 : decode cX1_nightGoes 84 = .ok (.getfield 197, 3) := dk_180 0 197 (dk_at dksX1_nightGoes_3 14 rfl rfl)
theorem dX1_nightGoes_87 : decode cX1_nightGoes 87 = .ok (.iload_n 2, 1) := dk_28 (dk_at dksX1_nightGoes_3 17 rfl rfl)
theorem dX1_nightGoes_88 : decode cX1_nightGoes 88 = .ok (.iaload, 1) := dk_46 (dk_at dksX1_nightGoes_3 18 rfl rfl)
theorem dX1_nightGoes_89 : decode cX1_nightGoes 89 = .ok (.iconst 5, 1) := dk_8 (dk_at dksX1_nightGoes_3 19 rfl rfl)
theorem dX1_nightGoes_90 : decode cX1_nightGoes 90 = .ok (.isub, 1) := dk_100 (dk_at dksX1_nightGoes_3 20 rfl rfl)
theorem dX1_nightGoes_91 : decode cX1_nightGoes 91 = .ok (.invokestatic 275, 3) := dk_184 1 19 (dk_at dksX1_nightGoes_3 21 rfl rfl)
theorem dX1_nightGoes_94 : decode cX1_nightGoes 94 = .ok (.iastore, 1) := dk_79 (dk_at dksX1_nightGoes_4 0 rfl rfl)
theorem dX1_nightGoes_95 : decode cX1_nightGoes 95 = .ok (.iinc 2 1, 3) := dk_132 2 1 (dk_at dksX1_nightGoes_4 1 rfl rfl)
theorem dX1_nightGoes_98 : decode cX1_nightGoes 98 = .ok (.goto (-59), 3) := dk_167 255 197 (dk_at dksX1_nightGoes_4 4 rfl rfl)
theorem dX1_nightGoes_101 : decode cX1_nightGoes 101 = .ok (.aload_n 1, 1) := dk_43 (dk_at dksX1_nightGoes_4 7 rfl rfl)
theorem dX1_nightGoes_102 : decode cX1_nightGoes 102 = .ok (.dup, 1) := dk_89 (dk_at dksX1_nightGoes_4 8 rfl rfl)
theorem dX1_nightGoes_103 : decode cX1_nightGoes 103 = .ok (.getfield 334, 3) := dk_180 1 78 (dk_at dksX1_nightGoes_4 9 rfl rfl)
theorem dX1_nightGoes_106 : decode cX1_nightGoes 106 = .ok (.iconst 1, 1) := dk_4 (dk_at dksX1_nightGoes_4 12 rfl rfl)
theorem dX1_nightGoes_107 : decode cX1_nightGoes 107 = .ok (.iadd, 1) := dk_96 (dk_at dksX1_nightGoes_4 13 rfl rfl)
theorem dX1_nightGoes_108 : decode cX1_nightGoes 108 = .ok (.putfield 334, 3) := dk_181 1 78 (dk_at dksX1_nightGoes_4 14 rfl rfl)
theorem dX1_nightGoes_111 : decode cX1_nightGoes 111 = .ok (.return_, 1) := dk_177 (dk_at dksX1_nightGoes_4 17 rfl rfl)
abbrev cX1_rides : ByteArray := prog_1_method_35_code
def yX1_rides : MethodName := ⟨RX1, "rides", "(LRockingHorse$Horse;)V"⟩
def dkwX1_rides_11 : List UInt8 := [79, 132, 3, 1, 167, 255, 40, 177]
abbrev dktX1_rides_11 : List UInt8 := dkwX1_rides_11 ++ []
def dkwX1_rides_10 : List UInt8 := [21, 4, 92, 46, 4, 96, 79, 42, 180, 0, 58, 21, 4, 92, 46, 42, 43, 21, 4, 29, 182, 1, 34, 96]
abbrev dktX1_rides_10 : List UInt8 := dkwX1_rides_10 ++ dktX1_rides_11
def dkwX1_rides_9 : List UInt8 := [21, 5, 153, 0, 8, 21, 4, 167, 0, 4, 2, 61, 21, 5, 154, 0, 6, 167, 0, 32, 42, 180, 0, 55]
abbrev dktX1_rides_9 : List UInt8 := dkwX1_rides_9 ++ dktX1_rides_10
def dkwX1_rides_8 : List UInt8 := [181, 1, 52, 42, 89, 180, 1, 55, 21, 5, 153, 0, 9, 4, 29, 120, 167, 0, 4, 3, 128, 181, 1, 55]
abbrev dktX1_rides_8 : List UInt8 := dkwX1_rides_8 ++ dktX1_rides_9
def dkwX1_rides_7 : List UInt8 := [42, 89, 180, 1, 52, 21, 5, 153, 0, 8, 21, 6, 153, 0, 9, 4, 29, 120, 167, 0, 4, 3, 128]
abbrev dktX1_rides_7 : List UInt8 := dkwX1_rides_7 ++ dktX1_rides_8
def dkwX1_rides_6 : List UInt8 := [180, 0, 23, 21, 4, 46, 100, 184, 1, 61, 42, 180, 0, 33, 164, 0, 7, 4, 167, 0, 4, 3, 54, 6]
abbrev dktX1_rides_6 : List UInt8 := dkwX1_rides_6 ++ dktX1_rides_7
def dkwX1_rides_5 : List UInt8 := [21, 5, 153, 0, 41, 28, 155, 0, 37, 28, 21, 4, 159, 0, 31, 42, 180, 0, 23, 28, 46, 42]
abbrev dktX1_rides_5 : List UInt8 := dkwX1_rides_5 ++ dktX1_rides_6
def dkwX1_rides_4 : List UInt8 := [180, 0, 55, 21, 4, 46, 42, 180, 0, 19, 21, 4, 46, 162, 0, 7, 4, 167, 0, 4, 3, 54, 5]
abbrev dktX1_rides_4 : List UInt8 := dkwX1_rides_4 ++ dktX1_rides_5
def dkwX1_rides_3 : List UInt8 := [21, 4, 46, 29, 184, 1, 25, 153, 0, 36, 43, 180, 0, 200, 21, 4, 184, 1, 25, 154, 0, 24, 42]
abbrev dktX1_rides_3 : List UInt8 := dkwX1_rides_3 ++ dktX1_rides_4
def dkwX1_rides_2 : List UInt8 := [180, 0, 29, 162, 0, 214, 43, 180, 1, 58, 29, 46, 54, 4, 21, 4, 155, 0, 50, 42, 180, 0, 26]
abbrev dktX1_rides_2 : List UInt8 := dkwX1_rides_2 ++ dktX1_rides_3
def dkwX1_rides_1 : List UInt8 := [28, 3, 79, 42, 180, 0, 58, 28, 3, 79, 132, 2, 1, 167, 255, 231, 2, 61, 3, 62, 29, 42]
abbrev dktX1_rides_1 : List UInt8 := dkwX1_rides_1 ++ dktX1_rides_2
def dkwX1_rides_0 : List UInt8 := [42, 3, 181, 1, 52, 42, 3, 181, 1, 55, 3, 61, 28, 42, 180, 0, 121, 162, 0, 23, 42, 180, 0, 55]
abbrev dktX1_rides_0 : List UInt8 := dkwX1_rides_0 ++ dktX1_rides_1
theorem dksX1_rides_0 : cX1_rides.data.toList.drop 0 = dktX1_rides_0 := by decide +kernel
theorem dksX1_rides_1 : cX1_rides.data.toList.drop 24 = dktX1_rides_1 := dk_seg dksX1_rides_0 24 rfl rfl
theorem dksX1_rides_2 : cX1_rides.data.toList.drop 46 = dktX1_rides_2 := dk_seg dksX1_rides_1 22 rfl rfl
theorem dksX1_rides_3 : cX1_rides.data.toList.drop 69 = dktX1_rides_3 := dk_seg dksX1_rides_2 23 rfl rfl
theorem dksX1_rides_4 : cX1_rides.data.toList.drop 92 = dktX1_rides_4 := dk_seg dksX1_rides_3 23 rfl rfl
theorem dksX1_rides_5 : cX1_rides.data.toList.drop 115 = dktX1_rides_5 := dk_seg dksX1_rides_4 23 rfl rfl
theorem dksX1_rides_6 : cX1_rides.data.toList.drop 137 = dktX1_rides_6 := dk_seg dksX1_rides_5 22 rfl rfl
theorem dksX1_rides_7 : cX1_rides.data.toList.drop 161 = dktX1_rides_7 := dk_seg dksX1_rides_6 24 rfl rfl
theorem dksX1_rides_8 : cX1_rides.data.toList.drop 184 = dktX1_rides_8 := dk_seg dksX1_rides_7 23 rfl rfl
theorem dksX1_rides_9 : cX1_rides.data.toList.drop 208 = dktX1_rides_9 := dk_seg dksX1_rides_8 24 rfl rfl
theorem dksX1_rides_10 : cX1_rides.data.toList.drop 232 = dktX1_rides_10 := dk_seg dksX1_rides_9 24 rfl rfl
theorem dksX1_rides_11 : cX1_rides.data.toList.drop 256 = dktX1_rides_11 := dk_seg dksX1_rides_10 24 rfl rfl
theorem dX1_rides_0 : decode cX1_rides 0 = .ok (.aload_n 0, 1) := dk_42 (dk_at dksX1_rides_0 0 rfl rfl)
theorem dX1_rides_1 : decode cX1_rides 1 = .ok (.iconst 0, 1) := dk_3 (dk_at dksX1_rides_0 1 rfl rfl)
theorem dX1_rides_2 : decode cX1_rides 2 = .ok (.putfield 308, 3) := dk_181 1 52 (dk_at dksX1_rides_0 2 rfl rfl)
theorem dX1_rides_5 : decode cX1_rides 5 = .ok (.aload_n 0, 1) := dk_42 (dk_at dksX1_rides_0 5 rfl rfl)
theorem dX1_rides_6 : decode cX1_rides 6 = .ok (.iconst 0, 1) := dk_3 (dk_at dksX1_rides_0 6 rfl rfl)
theorem dX1_rides_7 : decode cX1_rides 7 = .ok (.putfield 311, 3) := dk_181 1 55 (dk_at dksX1_rides_0 7 rfl rfl)
theorem dX1_rides_10 : decode cX1_rides 10 = .ok (.iconst 0, 1) := dk_3 (dk_at dksX1_rides_0 10 rfl rfl)
theorem dX1_rides_11 : decode cX1_rides 11 = .ok (.istore_n 2, 1) := dk_61 (dk_at dksX1_rides_0 11 rfl rfl)
theorem dX1_rides_12 : decode cX1_rides 12 = .ok (.iload_n 2, 1) := dk_28 (dk_at dksX1_rides_0 12 rfl rfl)
theorem dX1_rides_13 : decode cX1_rides 13 = .ok (.aload_n 0, 1) := dk_42 (dk_at dksX1_rides_0 13 rfl rfl)
theorem dX1_rides_14 : decode cX1_rides 14 = .ok (.getfield 121, 3) := dk_180 0 121 (dk_at dksX1_rides_0 14 rfl rfl)
theorem dX1_rides_17 : decode cX1_rides 17 = .ok (.if_icmp .ge 23, 3) := dk_162 0 23 (dk_at dksX1_rides_0 17 rfl rfl)
theorem dX1_rides_20 : decode cX1_rides 20 = .ok (.aload_n 0, 1) := dk_42 (dk_at dksX1_rides_0 20 rfl rfl)
theorem dX1_rides_21 : decode cX1_rides 21 = .ok (.getfield 55, 3) := dk_180 0 55 (dk_at dksX1_rides_0 21 rfl rfl)
theorem dX1_rides_24 : decode cX1_rides 24 = .ok (.iload_n 2, 1) := dk_28 (dk_at dksX1_rides_1 0 rfl rfl)
theorem dX1_rides_25 : decode cX1_rides 25 = .ok (.iconst 0, 1) := dk_3 (dk_at dksX1_rides_1 1 rfl rfl)
theorem dX1_rides_26 : decode cX1_rides 26 = .ok (.iastore, 1) := dk_79 (dk_at dksX1_rides_1 2 rfl rfl)
theorem dX1_rides_27 : decode cX1_rides 27 = .ok (.aload_n 0, 1) := dk_42 (dk_at dksX1_rides_1 3 rfl rfl)
theorem dX1_rides_28 : decode cX1_rides 28 = .ok (.getfield 58, 3) := dk_180 0 58 (dk_at dksX1_rides_1 4 rfl rfl)
theorem dX1_rides_31 : decode cX1_rides 31 = .ok (.iload_n 2, 1) := dk_28 (dk_at dksX1_rides_1 7 rfl rfl)
theorem dX1_rides_32 : decode cX1_rides 32 = .ok (.iconst 0, 1) := dk_3 (dk_at dksX1_rides_1 8 rfl rfl)
theorem dX1_rides_33 : decode cX1_rides 33 = .ok (.iastore, 1) := dk_79 (dk_at dksX1_rides_1 9 rfl rfl)
theorem dX1_rides_34 : decode cX1_rides 34 = .ok (.iinc 2 1, 3) := dk_132 2 1 (dk_at dksX1_rides_1 10 rfl rfl)
theorem dX1_rides_37 : decode cX1_rides 37 = .ok (.goto (-25), 3) := dk_167 255 231 (dk_at dksX1_rides_1 13 rfl rfl)
theorem dX1_rides_40 : decode cX1_rides 40 = .ok (.iconst (-1), 1) := dk_2 (dk_at dksX1_rides_1 16 rfl rfl)
theorem dX1_rides_41 : decode cX1_rides 41 = .ok (.istore_n 2, 1) := dk_61 (dk_at dksX1_rides_1 17 rfl rfl)
theorem dX1_rides_42 : decode cX1_rides 42 = .ok (.iconst 0, 1) := dk_3 (dk_at dksX1_rides_1 18 rfl rfl)
theorem dX1_rides_43 : decode cX1_rides 43 = .ok (.istore_n 3, 1) := dk_62 (dk_at dksX1_rides_1 19 rfl rfl)
theorem dX1_rides_44 : decode cX1_rides 44 = .ok (.iload_n 3, 1) := dk_29 (dk_at dksX1_rides_1 20 rfl rfl)
theorem dX1_rides_45 : decode cX1_rides 45 = .ok (.aload_n 0, 1) := dk_42 (dk_at dksX1_rides_1 21 rfl rfl)
theorem dX1_rides_46 : decode cX1_rides 46 = .ok (.getfield 29, 3) := dk_180 0 29 (dk_at dksX1_rides_2 0 rfl rfl)
theorem dX1_rides_49 : decode cX1_rides 49 = .ok (.if_icmp .ge 214, 3) := dk_162 0 214 (dk_at dksX1_rides_2 3 rfl rfl)
theorem dX1_rides_52 : decode cX1_rides 52 = .ok (.aload_n 1, 1) := dk_43 (dk_at dksX1_rides_2 6 rfl rfl)
theorem dX1_rides_53 : decode cX1_rides 53 = .ok (.getfield 314, 3) := dk_180 1 58 (dk_at dksX1_rides_2 7 rfl rfl)
theorem dX1_rides_56 : decode cX1_rides 56 = .ok (.iload_n 3, 1) := dk_29 (dk_at dksX1_rides_2 10 rfl rfl)
theorem dX1_rides_57 : decode cX1_rides 57 = .ok (.iaload, 1) := dk_46 (dk_at dksX1_rides_2 11 rfl rfl)
theorem dX1_rides_58 : decode cX1_rides 58 = .ok (.istore 4, 2) := dk_54 4 (dk_at dksX1_rides_2 12 rfl rfl)
theorem dX1_rides_60 : decode cX1_rides 60 = .ok (.iload 4, 2) := dk_21 4 (dk_at dksX1_rides_2 14 rfl rfl)
theorem dX1_rides_62 : decode cX1_rides 62 = .ok (.ifCond .lt 50, 3) := dk_155 0 50 (dk_at dksX1_rides_2 16 rfl rfl)
theorem dX1_rides_65 : decode cX1_rides 65 = .ok (.aload_n 0, 1) := dk_42 (dk_at dksX1_rides_2 19 rfl rfl)
theorem dX1_rides_66 : decode cX1_rides 66 = .ok (.getfield 26, 3) := dk_180 0 26 (dk_at dksX1_rides_2 20 rfl rfl)
theorem dX1_rides_69 : decode cX1_rides 69 = .ok (.iload 4, 2) := dk_21 4 (dk_at dksX1_rides_3 0 rfl rfl)
theorem dX1_rides_71 : decode cX1_rides 71 = .ok (.iaload, 1) := dk_46 (dk_at dksX1_rides_3 2 rfl rfl)
theorem dX1_rides_72 : decode cX1_rides 72 = .ok (.iload_n 3, 1) := dk_29 (dk_at dksX1_rides_3 3 rfl rfl)
theorem dX1_rides_73 : decode cX1_rides 73 = .ok (.invokestatic 281, 3) := dk_184 1 25 (dk_at dksX1_rides_3 4 rfl rfl)
theorem dX1_rides_76 : decode cX1_rides 76 = .ok (.ifCond .eq 36, 3) := dk_153 0 36 (dk_at dksX1_rides_3 7 rfl rfl)
theorem dX1_rides_79 : decode cX1_rides 79 = .ok (.aload_n 1, 1) := dk_43 (dk_at dksX1_rides_3 10 rfl rfl)
theorem dX1_rides_80 : decode cX1_rides 80 = .ok (.getfield 200, 3) := dk_180 0 200 (dk_at dksX1_rides_3 11 rfl rfl)
theorem dX1_rides_83 : decode cX1_rides 83 = .ok (.iload 4, 2) := dk_21 4 (dk_at dksX1_rides_3 14 rfl rfl)
theorem dX1_rides_85 : decode cX1_rides 85 = .ok (.invokestatic 281, 3) := dk_184 1 25 (dk_at dksX1_rides_3 16 rfl rfl)
theorem dX1_rides_88 : decode cX1_rides 88 = .ok (.ifCond .ne 24, 3) := dk_154 0 24 (dk_at dksX1_rides_3 19 rfl rfl)
theorem dX1_rides_91 : decode cX1_rides 91 = .ok (.aload_n 0, 1) := dk_42 (dk_at dksX1_rides_3 22 rfl rfl)
theorem dX1_rides_92 : decode cX1_rides 92 = .ok (.getfield 55, 3) := dk_180 0 55 (dk_at dksX1_rides_4 0 rfl rfl)
theorem dX1_rides_95 : decode cX1_rides 95 = .ok (.iload 4, 2) := dk_21 4 (dk_at dksX1_rides_4 3 rfl rfl)
theorem dX1_rides_97 : decode cX1_rides 97 = .ok (.iaload, 1) := dk_46 (dk_at dksX1_rides_4 5 rfl rfl)
theorem dX1_rides_98 : decode cX1_rides 98 = .ok (.aload_n 0, 1) := dk_42 (dk_at dksX1_rides_4 6 rfl rfl)
theorem dX1_rides_99 : decode cX1_rides 99 = .ok (.getfield 19, 3) := dk_180 0 19 (dk_at dksX1_rides_4 7 rfl rfl)
theorem dX1_rides_102 : decode cX1_rides 102 = .ok (.iload 4, 2) := dk_21 4 (dk_at dksX1_rides_4 10 rfl rfl)
theorem dX1_rides_104 : decode cX1_rides 104 = .ok (.iaload, 1) := dk_46 (dk_at dksX1_rides_4 12 rfl rfl)
theorem dX1_rides_105 : decode cX1_rides 105 = .ok (.if_icmp .ge 7, 3) := dk_162 0 7 (dk_at dksX1_rides_4 13 rfl rfl)
theorem dX1_rides_108 : decode cX1_rides 108 = .ok (.iconst 1, 1) := dk_4 (dk_at dksX1_rides_4 16 rfl rfl)
theorem dX1_rides_109 : decode cX1_rides 109 = .ok (.goto 4, 3) := dk_167 0 4 (dk_at dksX1_rides_4 17 rfl rfl)
theorem dX1_rides_112 : decode cX1_rides 112 = .ok (.iconst 0, 1) := dk_3 (dk_at dksX1_rides_4 20 rfl rfl)
theorem dX1_rides_113 : decode cX1_rides 113 = .ok (.istore 5, 2) := dk_54 5 (dk_at dksX1_rides_4 21 rfl rfl)
theorem dX1_rides_115 : decode cX1_rides 115 = .ok (.iload 5, 2) := dk_21 5 (dk_at dksX1_rides_5 0 rfl rfl)
theorem dX1_rides_117 : decode cX1_rides 117 = .ok (.ifCond .eq 41, 3) := dk_153 0 41 (dk_at dksX1_rides_5 2 rfl rfl)
theorem dX1_rides_120 : decode cX1_rides 120 = .ok (.iload_n 2, 1) := dk_28 (dk_at dksX1_rides_5 5 rfl rfl)
theorem dX1_rides_121 : decode cX1_rides 121 = .ok (.ifCond .lt 37, 3) := dk_155 0 37 (dk_at dksX1_rides_5 6 rfl rfl)
theorem dX1_rides_124 : decode cX1_rides 124 = .ok (.iload_n 2, 1) := dk_28 (dk_at dksX1_rides_5 9 rfl rfl)
theorem dX1_rides_125 : decode cX1_rides 125 = .ok (.iload 4, 2) := dk_21 4 (dk_at dksX1_rides_5 10 rfl rfl)
theorem dX1_rides_127 : decode cX1_rides 127 = .ok (.if_icmp .eq 31, 3) := dk_159 0 31 (dk_at dksX1_rides_5 12 rfl rfl)
theorem dX1_rides_130 : decode cX1_rides 130 = .ok (.aload_n 0, 1) := dk_42 (dk_at dksX1_rides_5 15 rfl rfl)
theorem dX1_rides_131 : decode cX1_rides 131 = .ok (.getfield 23, 3) := dk_180 0 23 (dk_at dksX1_rides_5 16 rfl rfl)
theorem dX1_rides_134 : decode cX1_rides 134 = .ok (.iload_n 2, 1) := dk_28 (dk_at dksX1_rides_5 19 rfl rfl)
theorem dX1_rides_135 : decode cX1_rides 135 = .ok (.iaload, 1) := dk_46 (dk_at dksX1_rides_5 20 rfl rfl)
theorem dX1_rides_136 : decode cX1_rides 136 = .ok (.aload_n 0, 1) := dk_42 (dk_at dksX1_rides_5 21 rfl rfl)
theorem dX1_rides_137 : decode cX1_rides 137 = .ok (.getfield 23, 3) := dk_180 0 23 (dk_at dksX1_rides_6 0 rfl rfl)
theorem dX1_rides_140 : decode cX1_rides 140 = .ok (.iload 4, 2) := dk_21 4 (dk_at dksX1_rides_6 3 rfl rfl)
theorem dX1_rides_142 : decode cX1_rides 142 = .ok (.iaload, 1) := dk_46 (dk_at dksX1_rides_6 5 rfl rfl)
theorem dX1_rides_143 : decode cX1_rides 143 = .ok (.isub, 1) := dk_100 (dk_at dksX1_rides_6 6 rfl rfl)
theorem dX1_rides_144 : decode cX1_rides 144 = .ok (.invokestatic 317, 3) := dk_184 1 61 (dk_at dksX1_rides_6 7 rfl rfl)
theorem dX1_rides_147 : decode cX1_rides 147 = .ok (.aload_n 0, 1) := dk_42 (dk_at dksX1_rides_6 10 rfl rfl)
theorem dX1_rides_148 : decode cX1_rides 148 = .ok (.getfield 33, 3) := dk_180 0 33 (dk_at dksX1_rides_6 11 rfl rfl)
theorem dX1_rides_151 : decode cX1_rides 151 = .ok (.if_icmp .le 7, 3) := dk_164 0 7 (dk_at dksX1_rides_6 14 rfl rfl)
theorem dX1_rides_154 : decode cX1_rides 154 = .ok (.iconst 1, 1) := dk_4 (dk_at dksX1_rides_6 17 rfl rfl)
theorem dX1_rides_155 : decode cX1_rides 155 = .ok (.goto 4, 3) := dk_167 0 4 (dk_at dksX1_rides_6 18 rfl rfl)
theorem dX1_rides_158 : decode cX1_rides 158 = .ok (.iconst 0, 1) := dk_3 (dk_at dksX1_rides_6 21 rfl rfl)
theorem dX1_rides_159 : decode cX1_rides 159 = .ok (.istore 6, 2) := dk_54 6 (dk_at dksX1_rides_6 22 rfl rfl)
theorem dX1_rides_161 : decode cX1_rides 161 = .ok (.aload_n 0, 1) := dk_42 (dk_at dksX1_rides_7 0 rfl rfl)
theorem dX1_rides_162 : decode cX1_rides 162 = .ok (.dup, 1) := dk_89 (dk_at dksX1_rides_7 1 rfl rfl)
theorem dX1_rides_163 : decode cX1_rides 163 = .ok (.getfield 308, 3) := dk_180 1 52 (dk_at dksX1_rides_7 2 rfl rfl)
theorem dX1_rides_166 : decode cX1_rides 166 = .ok (.iload 5, 2) := dk_21 5 (dk_at dksX1_rides_7 5 rfl rfl)
theorem dX1_rides_168 : decode cX1_rides 168 = .ok (.ifCond .eq 8, 3) := dk_153 0 8 (dk_at dksX1_rides_7 7 rfl rfl)
theorem dX1_rides_171 : decode cX1_rides 171 = .ok (.iload 6, 2) := dk_21 6 (dk_at dksX1_rides_7 10 rfl rfl)
theorem dX1_rides_173 : decode cX1_rides 173 = .ok (.ifCond .eq 9, 3) := dk_153 0 9 (dk_at dksX1_rides_7 12 rfl rfl)
theorem dX1_rides_176 : decode cX1_rides 176 = .ok (.iconst 1, 1) := dk_4 (dk_at dksX1_rides_7 15 rfl rfl)
theorem dX1_rides_177 : decode cX1_rides 177 = .ok (.iload_n 3, 1) := dk_29 (dk_at dksX1_rides_7 16 rfl rfl)
theorem dX1_rides_178 : decode cX1_rides 178 = .ok (.ishl, 1) := dk_120 (dk_at dksX1_rides_7 17 rfl rfl)
theorem dX1_rides_179 : decode cX1_rides 179 = .ok (.goto 4, 3) := dk_167 0 4 (dk_at dksX1_rides_7 18 rfl rfl)
theorem dX1_rides_182 : decode cX1_rides 182 = .ok (.iconst 0, 1) := dk_3 (dk_at dksX1_rides_7 21 rfl rfl)
theorem dX1_rides_183 : decode cX1_rides 183 = .ok (.ior, 1) := dk_128 (dk_at dksX1_rides_7 22 rfl rfl)
theorem dX1_rides_184 : decode cX1_rides 184 = .ok (.putfield 308, 3) := dk_181 1 52 (dk_at dksX1_rides_8 0 rfl rfl)
theorem dX1_rides_187 : decode cX1_rides 187 = .ok (.aload_n 0, 1) := dk_42 (dk_at dksX1_rides_8 3 rfl rfl)
theorem dX1_rides_188 : decode cX1_rides 188 = .ok (.dup, 1) := dk_89 (dk_at dksX1_rides_8 4 rfl rfl)
theorem dX1_rides_189 : decode cX1_rides 189 = .ok (.getfield 311, 3) := dk_180 1 55 (dk_at dksX1_rides_8 5 rfl rfl)
theorem dX1_rides_192 : decode cX1_rides 192 = .ok (.iload 5, 2) := dk_21 5 (dk_at dksX1_rides_8 8 rfl rfl)
theorem dX1_rides_194 : decode cX1_rides 194 = .ok (.ifCond .eq 9, 3) := dk_153 0 9 (dk_at dksX1_rides_8 10 rfl rfl)
theorem dX1_rides_197 : decode cX1_rides 197 = .ok (.iconst 1, 1) := dk_4 (dk_at dksX1_rides_8 13 rfl rfl)
theorem dX1_rides_198 : decode cX1_rides 198 = .ok (.iload_n 3, 1) := dk_29 (dk_at dksX1_rides_8 14 rfl rfl)
theorem dX1_rides_199 : decode cX1_rides 199 = .ok (.ishl, 1) := dk_120 (dk_at dksX1_rides_8 15 rfl rfl)
theorem dX1_rides_200 : decode cX1_rides 200 = .ok (.goto 4, 3) := dk_167 0 4 (dk_at dksX1_rides_8 16 rfl rfl)
theorem dX1_rides_203 : decode cX1_rides 203 = .ok (.iconst 0, 1) := dk_3 (dk_at dksX1_rides_8 19 rfl rfl)
theorem dX1_rides_204 : decode cX1_rides 204 = .ok (.ior, 1) := dk_128 (dk_at dksX1_rides_8 20 rfl rfl)
theorem dX1_rides_205 : decode cX1_rides 205 = .ok (.putfield 311, 3) := dk_181 1 55 (dk_at dksX1_rides_8 21 rfl rfl)
theorem dX1_rides_208 : decode cX1_rides 208 = .ok (.iload 5, 2) := dk_21 5 (dk_at dksX1_rides_9 0 rfl rfl)
theorem dX1_rides_210 : decode cX1_rides 210 = .ok (.ifCond .eq 8, 3) := dk_153 0 8 (dk_at dksX1_rides_9 2 rfl rfl)
theorem dX1_rides_213 : decode cX1_rides 213 = .ok (.iload 4, 2) := dk_21 4 (dk_at dksX1_rides_9 5 rfl rfl)
theorem dX1_rides_215 : decode cX1_rides 215 = .ok (.goto 4, 3) := dk_167 0 4 (dk_at dksX1_rides_9 7 rfl rfl)
theorem dX1_rides_218 : decode cX1_rides 218 = .ok (.iconst (-1), 1) := dk_2 (dk_at dksX1_rides_9 10 rfl rfl)
theorem dX1_rides_219 : decode cX1_rides 219 = .ok (.istore_n 2, 1) := dk_61 (dk_at dksX1_rides_9 11 rfl rfl)
theorem dX1_rides_220 : decode cX1_rides 220 = .ok (.iload 5, 2) := dk_21 5 (dk_at dksX1_rides_9 12 rfl rfl)
theorem dX1_rides_222 : decode cX1_rides 222 = .ok (.ifCond .ne 6, 3) := dk_154 0 6 (dk_at dksX1_rides_9 14 rfl rfl)
theorem dX1_rides_225 : decode cX1_rides 225 = .ok (.goto 32, 3) := dk_167 0 32 (dk_at dksX1_rides_9 17 rfl rfl)
theorem dX1_rides_228 : decode cX1_rides 228 = .ok (.aload_n 0, 1) := dk_42 (dk_at dksX1_rides_9 20 rfl rfl)
theorem dX1_rides_229 : decode cX1_rides 229 = .ok (.getfield 55, 3) := dk_180 0 55 (dk_at dksX1_rides_9 21 rfl rfl)
theorem dX1_rides_232 : decode cX1_rides 232 = .ok (.iload 4, 2) := dk_21 4 (dk_at dksX1_rides_10 0 rfl rfl)
theorem dX1_rides_234 : decode cX1_rides 234 = .ok (.dup2, 1) := dk_92 (dk_at dksX1_rides_10 2 rfl rfl)
theorem dX1_rides_235 : decode cX1_rides 235 = .ok (.iaload, 1) := dk_46 (dk_at dksX1_rides_10 3 rfl rfl)
theorem dX1_rides_236 : decode cX1_rides 236 = .ok (.iconst 1, 1) := dk_4 (dk_at dksX1_rides_10 4 rfl rfl)
theorem dX1_rides_237 : decode cX1_rides 237 = .ok (.iadd, 1) := dk_96 (dk_at dksX1_rides_10 5 rfl rfl)
theorem dX1_rides_238 : decode cX1_rides 238 = .ok (.iastore, 1) := dk_79 (dk_at dksX1_rides_10 6 rfl rfl)
theorem dX1_rides_239 : decode cX1_rides 239 = .ok (.aload_n 0, 1) := dk_42 (dk_at dksX1_rides_10 7 rfl rfl)
theorem dX1_rides_240 : decode cX1_rides 240 = .ok (.getfield 58, 3) := dk_180 0 58 (dk_at dksX1_rides_10 8 rfl rfl)
theorem dX1_rides_243 : decode cX1_rides 243 = .ok (.iload 4, 2) := dk_21 4 (dk_at dksX1_rides_10 11 rfl rfl)
theorem dX1_rides_245 : decode cX1_rides 245 = .ok (.dup2, 1) := dk_92 (dk_at dksX1_rides_10 13 rfl rfl)
theorem dX1_rides_246 : decode cX1_rides 246 = .ok (.iaload, 1) := dk_46 (dk_at dksX1_rides_10 14 rfl rfl)
theorem dX1_rides_247 : decode cX1_rides 247 = .ok (.aload_n 0, 1) := dk_42 (dk_at dksX1_rides_10 15 rfl rfl)
theorem dX1_rides_248 : decode cX1_rides 248 = .ok (.aload_n 1, 1) := dk_43 (dk_at dksX1_rides_10 16 rfl rfl)
theorem dX1_rides_249 : decode cX1_rides 249 = .ok (.iload 4, 2) := dk_21 4 (dk_at dksX1_rides_10 17 rfl rfl)
theorem dX1_rides_251 : decode cX1_rides 251 = .ok (.iload_n 3, 1) := dk_29 (dk_at dksX1_rides_10 19 rfl rfl)
theorem dX1_rides_252 : decode cX1_rides 252 = .ok (.invokevirtual 290, 3) := dk_182 1 34 (dk_at dksX1_rides_10 20 rfl rfl)
theorem dX1_rides_255 : decode cX1_rides 255 = .ok (.iadd, 1) := dk_96 (dk_at dksX1_rides_10 23 rfl rfl)
theorem dX1_rides_256 : decode cX1_rides 256 = .ok (.iastore, 1) := dk_79 (dk_at dksX1_rides_11 0 rfl rfl)
theorem dX1_rides_257 : decode cX1_rides 257 = .ok (.iinc 3 1, 3) := dk_132 3 1 (dk_at dksX1_rides_11 1 rfl rfl)
theorem dX1_rides_260 : decode cX1_rides 260 = .ok (.goto (-216), 3) := dk_167 255 40 (dk_at dksX1_rides_11 4 rfl rfl)
theorem dX1_rides_263 : decode cX1_rides 263 = .ok (.return_, 1) := dk_177 (dk_at dksX1_rides_11 7 rfl rfl)
abbrev cX1_has : ByteArray := prog_1_method_3_code
def yX1_has : MethodName := ⟨RX1, "has", "(II)Z"⟩
def dkwX1_has_0 : List UInt8 := [26, 27, 122, 4, 126, 4, 160, 0, 7, 4, 167, 0, 4, 3, 172]
abbrev dktX1_has_0 : List UInt8 := dkwX1_has_0 ++ []
theorem dksX1_has_0 : cX1_has.data.toList.drop 0 = dktX1_has_0 := by decide +kernel
theorem dX1_has_0 : decode cX1_has 0 = .ok (.iload_n 0, 1) := dk_26 (dk_at dksX1_has_0 0 rfl rfl)
theorem dX1_has_1 : decode cX1_has 1 = .ok (.iload_n 1, 1) := dk_27 (dk_at dksX1_has_0 1 rfl rfl)
theorem dX1_has_2 : decode cX1_has 2 = .ok (.ishr, 1) := dk_122 (dk_at dksX1_has_0 2 rfl rfl)
theorem dX1_has_3 : decode cX1_has 3 = .ok (.iconst 1, 1) := dk_4 (dk_at dksX1_has_0 3 rfl rfl)
theorem dX1_has_4 : decode cX1_has 4 = .ok (.iand, 1) := dk_126 (dk_at dksX1_has_0 4 rfl rfl)
theorem dX1_has_5 : decode cX1_has 5 = .ok (.iconst 1, 1) := dk_4 (dk_at dksX1_has_0 5 rfl rfl)
theorem dX1_has_6 : decode cX1_has 6 = .ok (.if_icmp .ne 7, 3) := dk_160 0 7 (dk_at dksX1_has_0 6 rfl rfl)
theorem dX1_has_9 : decode cX1_has 9 = .ok (.iconst 1, 1) := dk_4 (dk_at dksX1_has_0 9 rfl rfl)
theorem dX1_has_10 : decode cX1_has 10 = .ok (.goto 4, 3) := dk_167 0 4 (dk_at dksX1_has_0 10 rfl rfl)
theorem dX1_has_13 : decode cX1_has 13 = .ok (.iconst 0, 1) := dk_3 (dk_at dksX1_has_0 13 rfl rfl)
theorem dX1_has_14 : decode cX1_has 14 = .ok (.ireturn, 1) := dk_172 (dk_at dksX1_has_0 14 rfl rfl)
abbrev cX1_tells : ByteArray := prog_1_method_105_code
def yX1_tells : MethodName := ⟨RX1, "tells", "(J)V"⟩
def dkwX1_tells_0 : List UInt8 := [42, 180, 0, 114, 42, 180, 1, 104, 31, 80, 42, 89, 180, 1, 104, 4, 96, 181, 1, 104, 177]
abbrev dktX1_tells_0 : List UInt8 := dkwX1_tells_0 ++ []
theorem dksX1_tells_0 : cX1_tells.data.toList.drop 0 = dktX1_tells_0 := by decide +kernel
theorem dX1_tells_0 : decode cX1_tells 0 = .ok (.aload_n 0, 1) := dk_42 (dk_at dksX1_tells_0 0 rfl rfl)
theorem dX1_tells_1 : decode cX1_tells 1 = .ok (.getfield 114, 3) := dk_180 0 114 (dk_at dksX1_tells_0 1 rfl rfl)
theorem dX1_tells_4 : decode cX1_tells 4 = .ok (.aload_n 0, 1) := dk_42 (dk_at dksX1_tells_0 4 rfl rfl)
theorem dX1_tells_5 : decode cX1_tells 5 = .ok (.getfield 360, 3) := dk_180 1 104 (dk_at dksX1_tells_0 5 rfl rfl)
theorem dX1_tells_8 : decode cX1_tells 8 = .ok (.lload_n 1, 1) := dk_31 (dk_at dksX1_tells_0 8 rfl rfl)
theorem dX1_tells_9 : decode cX1_tells 9 = .ok (.lastore, 1) := dk_80 (dk_at dksX1_tells_0 9 rfl rfl)
theorem dX1_tells_10 : decode cX1_tells 10 = .ok (.aload_n 0, 1) := dk_42 (dk_at dksX1_tells_0 10 rfl rfl)
theorem dX1_tells_11 : decode cX1_tells 11 = .ok (.dup, 1) := dk_89 (dk_at dksX1_tells_0 11 rfl rfl)
theorem dX1_tells_12 : decode cX1_tells 12 = .ok (.getfield 360, 3) := dk_180 1 104 (dk_at dksX1_tells_0 12 rfl rfl)
theorem dX1_tells_15 : decode cX1_tells 15 = .ok (.iconst 1, 1) := dk_4 (dk_at dksX1_tells_0 15 rfl rfl)
theorem dX1_tells_16 : decode cX1_tells 16 = .ok (.iadd, 1) := dk_96 (dk_at dksX1_tells_0 16 rfl rfl)
theorem dX1_tells_17 : decode cX1_tells 17 = .ok (.putfield 360, 3) := dk_181 1 104 (dk_at dksX1_tells_0 17 rfl rfl)
theorem dX1_tells_20 : decode cX1_tells 20 = .ok (.return_, 1) := dk_177 (dk_at dksX1_tells_0 20 rfl rfl)
abbrev cX1_year : ByteArray := prog_1_method_47_code
def yX1_year : MethodName := ⟨RX1, "year", "()I"⟩
def dkwX1_year_6 : List UInt8 := [21, 4, 172]
abbrev dktX1_year_6 : List UInt8 := dkwX1_year_6 ++ []
def dkwX1_year_5 : List UInt8 := [162, 0, 7, 10, 167, 0, 4, 9, 182, 1, 107, 42, 42, 180, 0, 12, 180, 1, 67, 133, 182, 1, 107]
abbrev dktX1_year_5 : List UInt8 := dkwX1_year_5 ++ dktX1_year_6
def dkwX1_year_4 : List UInt8 := [158, 0, 11, 42, 42, 180, 0, 52, 182, 1, 87, 42, 3, 181, 1, 104, 42, 21, 4, 42, 180, 1, 111]
abbrev dktX1_year_4 : List UInt8 := dkwX1_year_4 ++ dktX1_year_5
def dkwX1_year_3 : List UInt8 := [180, 1, 111, 162, 0, 18, 42, 21, 4, 182, 1, 122, 153, 0, 9, 132, 4, 1, 167, 255, 235, 21, 4]
abbrev dktX1_year_3 : List UInt8 := dkwX1_year_3 ++ dktX1_year_4
def dkwX1_year_2 : List UInt8 := [156, 0, 5, 29, 172, 42, 180, 0, 52, 42, 180, 0, 12, 182, 1, 48, 3, 54, 4, 21, 4, 42]
abbrev dktX1_year_2 : List UInt8 := dkwX1_year_2 ++ dktX1_year_3
def dkwX1_year_1 : List UInt8 := [180, 0, 147, 162, 0, 11, 42, 182, 1, 119, 61, 167, 255, 236, 42, 27, 28, 182, 0, 193, 62, 29]
abbrev dktX1_year_1 : List UInt8 := dkwX1_year_1 ++ dktX1_year_2
def dkwX1_year_0 : List UInt8 := [42, 16, 60, 182, 0, 184, 60, 42, 3, 181, 1, 111, 4, 61, 28, 153, 0, 22, 42, 180, 0, 135, 42]
abbrev dktX1_year_0 : List UInt8 := dkwX1_year_0 ++ dktX1_year_1
theorem dksX1_year_0 : cX1_year.data.toList.drop 0 = dktX1_year_0 := by decide +kernel
theorem dksX1_year_1 : cX1_year.data.toList.drop 23 = dktX1_year_1 := dk_seg dksX1_year_0 23 rfl rfl
theorem dksX1_year_2 : cX1_year.data.toList.drop 45 = dktX1_year_2 := dk_seg dksX1_year_1 22 rfl rfl
theorem dksX1_year_3 : cX1_year.data.toList.drop 67 = dktX1_year_3 := dk_seg dksX1_year_2 22 rfl rfl
theorem dksX1_year_4 : cX1_year.data.toList.drop 90 = dktX1_year_4 := dk_seg dksX1_year_3 23 rfl rfl
theorem dksX1_year_5 : cX1_year.data.toList.drop 113 = dktX1_year_5 := dk_seg dksX1_year_4 23 rfl rfl
theorem dksX1_year_6 : cX1_year.data.toList.drop 136 = dktX1_year_6 := dk_seg dksX1_year_5 23 rfl rfl
theorem dX1_year_0 : decode cX1_year 0 = .ok (.aload_n 0, 1) := dk_42 (dk_at dksX1_year_0 0 rfl rfl)
theorem dX1_year_1 : decode cX1_year 1 = .ok (.bipush 60, 2) := dk_16 60 (dk_at dksX1_year_0 1 rfl rfl)
theorem dX1_year_3 : decode cX1_year 3 = .ok (.invokevirtual 184, 3) := dk_182 0 184 (dk_at dksX1_year_0 3 rfl rfl)
theorem dX1_year_6 : decode cX1_year 6 = .ok (.istore_n 1, 1) := dk_60 (dk_at dksX1_year_0 6 rfl rfl)
theorem dX1_year_7 : decode cX1_year 7 = .ok (.aload_n 0, 1) := dk_42 (dk_at dksX1_year_0 7 rfl rfl)
theorem dX1_year_8 : decode cX1_year 8 = .ok (.iconst 0, 1) := dk_3 (dk_at dksX1_year_0 8 rfl rfl)
theorem dX1_year_9 : decode cX1_year 9 = .ok (.putfield 367, 3) := dk_181 1 111 (dk_at dksX1_year_0 9 rfl rfl)
theorem dX1_year_12 : decode cX1_year 12 = .ok (.iconst 1, 1) := dk_4 (dk_at dksX1_year_0 12 rfl rfl)
theorem dX1_year_13 : decode cX1_year 13 = .ok (.istore_n 2, 1) := dk_61 (dk_at dksX1_year_0 13 rfl rfl)
theorem dX1_year_14 : decode cX1_year 14 = .ok (.iload_n 2, 1) := dk_28 (dk_at dksX1_year_0 14 rfl rfl)
theorem dX1_year_15 : decode cX1_year 15 = .ok (.ifCond .eq 22, 3) := dk_153 0 22 (dk_at dksX1_year_0 15 rfl rfl)
theorem dX1_year_18 : decode cX1_year 18 = .ok (.aload_n 0, 1) := dk_42 (dk_at dksX1_year_0 18 rfl rfl)
theorem dX1_year_19 : decode cX1_year 19 = .ok (.getfield 135, 3) := dk_180 0 135 (dk_at dksX1_year_0 19 rfl rfl)
theorem dX1_year_22 : decode cX1_year 22 = .ok (.aload_n 0, 1) := dk_42 (dk_at dksX1_year_0 22 rfl rfl)
theorem dX1_year_23 : decode cX1_year 23 = .ok (.getfield 147, 3) := dk_180 0 147 (dk_at dksX1_year_1 0 rfl rfl)
theorem dX1_year_26 : decode cX1_year 26 = .ok (.if_icmp .ge 11, 3) := dk_162 0 11 (dk_at dksX1_year_1 3 rfl rfl)
theorem dX1_year_29 : decode cX1_year 29 = .ok (.aload_n 0, 1) := dk_42 (dk_at dksX1_year_1 6 rfl rfl)
theorem dX1_year_30 : decode cX1_year 30 = .ok (.invokevirtual 375, 3) := dk_182 1 119 (dk_at dksX1_year_1 7 rfl rfl)
theorem dX1_year_33 : decode cX1_year 33 = .ok (.istore_n 2, 1) := dk_61 (dk_at dksX1_year_1 10 rfl rfl)
theorem dX1_year_34 : decode cX1_year 34 = .ok (.goto (-20), 3) := dk_167 255 236 (dk_at dksX1_year_1 11 rfl rfl)
theorem dX1_year_37 : decode cX1_year 37 = .ok (.aload_n 0, 1) := dk_42 (dk_at dksX1_year_1 14 rfl rfl)
theorem dX1_year_38 : decode cX1_year 38 = .ok (.iload_n 1, 1) := dk_27 (dk_at dksX1_year_1 15 rfl rfl)
theorem dX1_year_39 : decode cX1_year 39 = .ok (.iload_n 2, 1) := dk_28 (dk_at dksX1_year_1 16 rfl rfl)
theorem dX1_year_40 : decode cX1_year 40 = .ok (.invokevirtual 193, 3) := dk_182 0 193 (dk_at dksX1_year_1 17 rfl rfl)
theorem dX1_year_43 : decode cX1_year 43 = .ok (.istore_n 3, 1) := dk_62 (dk_at dksX1_year_1 20 rfl rfl)
theorem dX1_year_44 : decode cX1_year 44 = .ok (.iload_n 3, 1) := dk_29 (dk_at dksX1_year_1 21 rfl rfl)
theorem dX1_year_45 : decode cX1_year 45 = .ok (.ifCond .ge 5, 3) := dk_156 0 5 (dk_at dksX1_year_2 0 rfl rfl)
theorem dX1_year_48 : decode cX1_year 48 = .ok (.iload_n 3, 1) := dk_29 (dk_at dksX1_year_2 3 rfl rfl)
theorem dX1_year_49 : decode cX1_year 49 = .ok (.ireturn, 1) := dk_172 (dk_at dksX1_year_2 4 rfl rfl)
theorem dX1_year_50 : decode cX1_year 50 = .ok (.aload_n 0, 1) := dk_42 (dk_at dksX1_year_2 5 rfl rfl)
theorem dX1_year_51 : decode cX1_year 51 = .ok (.getfield 52, 3) := dk_180 0 52 (dk_at dksX1_year_2 6 rfl rfl)
theorem dX1_year_54 : decode cX1_year 54 = .ok (.aload_n 0, 1) := dk_42 (dk_at dksX1_year_2 9 rfl rfl)
theorem dX1_year_55 : decode cX1_year 55 = .ok (.getfield 12, 3) := dk_180 0 12 (dk_at dksX1_year_2 10 rfl rfl)
theorem dX1_year_58 : decode cX1_year 58 = .ok (.invokevirtual 304, 3) := dk_182 1 48 (dk_at dksX1_year_2 13 rfl rfl)
theorem dX1_year_61 : decode cX1_year 61 = .ok (.iconst 0, 1) := dk_3 (dk_at dksX1_year_2 16 rfl rfl)
theorem dX1_year_62 : decode cX1_year 62 = .ok (.istore 4, 2) := dk_54 4 (dk_at dksX1_year_2 17 rfl rfl)
theorem dX1_year_64 : decode cX1_year 64 = .ok (.iload 4, 2) := dk_21 4 (dk_at dksX1_year_2 19 rfl rfl)
theorem dX1_year_66 : decode cX1_year 66 = .ok (.aload_n 0, 1) := dk_42 (dk_at dksX1_year_2 21 rfl rfl)
theorem dX1_year_67 : decode cX1_year 67 = .ok (.getfield 367, 3) := dk_180 1 111 (dk_at dksX1_year_3 0 rfl rfl)
theorem dX1_year_70 : decode cX1_year 70 = .ok (.if_icmp .ge 18, 3) := dk_162 0 18 (dk_at dksX1_year_3 3 rfl rfl)
theorem dX1_year_73 : decode cX1_year 73 = .ok (.aload_n 0, 1) := dk_42 (dk_at dksX1_year_3 6 rfl rfl)
theorem dX1_year_74 : decode cX1_year 74 = .ok (.iload 4, 2) := dk_21 4 (dk_at dksX1_year_3 7 rfl rfl)
theorem dX1_year_76 : decode cX1_year 76 = .ok (.invokevirtual 378, 3) := dk_182 1 122 (dk_at dksX1_year_3 9 rfl rfl)
theorem dX1_year_79 : decode cX1_year 79 = .ok (.ifCond .eq 9, 3) := dk_153 0 9 (dk_at dksX1_year_3 12 rfl rfl)
theorem dX1_year_82 : decode cX1_year 82 = .ok (.iinc 4 1, 3) := dk_132 4 1 (dk_at dksX1_year_3 15 rfl rfl)
theorem dX1_year_85 : decode cX1_year 85 = .ok (.goto (-21), 3) := dk_167 255 235 (dk_at dksX1_year_3 18 rfl rfl)
theorem dX1_year_88 : decode cX1_year 88 = .ok (.iload 4, 2) := dk_21 4 (dk_at dksX1_year_3 21 rfl rfl)
theorem dX1_year_90 : decode cX1_year 90 = .ok (.ifCond .le 11, 3) := dk_158 0 11 (dk_at dksX1_year_4 0 rfl rfl)
theorem dX1_year_93 : decode cX1_year 93 = .ok (.aload_n 0, 1) := dk_42 (dk_at dksX1_year_4 3 rfl rfl)
theorem dX1_year_94 : decode cX1_year 94 = .ok (.aload_n 0, 1) := dk_42 (dk_at dksX1_year_4 4 rfl rfl)
theorem dX1_year_95 : decode cX1_year 95 = .ok (.getfield 52, 3) := dk_180 0 52 (dk_at dksX1_year_4 5 rfl rfl)
theorem dX1_year_98 : decode cX1_year 98 = .ok (.invokevirtual 343, 3) := dk_182 1 87 (dk_at dksX1_year_4 8 rfl rfl)
theorem dX1_year_101 : decode cX1_year 101 = .ok (.aload_n 0, 1) := dk_42 (dk_at dksX1_year_4 11 rfl rfl)
theorem dX1_year_102 : decode cX1_year 102 = .ok (.iconst 0, 1) := dk_3 (dk_at dksX1_year_4 12 rfl rfl)
theorem dX1_year_103 : decode cX1_year 103 = .ok (.putfield 360, 3) := dk_181 1 104 (dk_at dksX1_year_4 13 rfl rfl)
theorem dX1_year_106 : decode cX1_year 106 = .ok (.aload_n 0, 1) := dk_42 (dk_at dksX1_year_4 16 rfl rfl)
theorem dX1_year_107 : decode cX1_year 107 = .ok (.iload 4, 2) := dk_21 4 (dk_at dksX1_year_4 17 rfl rfl)
theorem dX1_year_109 : decode cX1_year 109 = .ok (.aload_n 0, 1) := dk_42 (dk_at dksX1_year_4 19 rfl rfl)
theorem dX1_year_110 : decode cX1_year 110 = .ok (.getfield 367, 3) := dk_180 1 111 (dk_at dksX1_year_4 20 rfl rfl)
theorem dX1_year_113 : decode cX1_year 113 = .ok (.if_icmp .ge 7, 3) := dk_162 0 7 (dk_at dksX1_year_5 0 rfl rfl)
theorem dX1_year_116 : decode cX1_year 116 = .ok (.lconst 1, 1) := dk_10 (dk_at dksX1_year_5 3 rfl rfl)
theorem dX1_year_117 : decode cX1_year 117 = .ok (.goto 4, 3) := dk_167 0 4 (dk_at dksX1_year_5 4 rfl rfl)
theorem dX1_year_120 : decode cX1_year 120 = .ok (.lconst 0, 1) := dk_9 (dk_at dksX1_year_5 7 rfl rfl)
theorem dX1_year_121 : decode cX1_year 121 = .ok (.invokevirtual 363, 3) := dk_182 1 107 (dk_at dksX1_year_5 8 rfl rfl)
theorem dX1_year_124 : decode cX1_year 124 = .ok (.aload_n 0, 1) := dk_42 (dk_at dksX1_year_5 11 rfl rfl)
theorem dX1_year_125 : decode cX1_year 125 = .ok (.aload_n 0, 1) := dk_42 (dk_at dksX1_year_5 12 rfl rfl)
theorem dX1_year_126 : decode cX1_year 126 = .ok (.getfield 12, 3) := dk_180 0 12 (dk_at dksX1_year_5 13 rfl rfl)
theorem dX1_year_129 : decode cX1_year 129 = .ok (.getfield 323, 3) := dk_180 1 67 (dk_at dksX1_year_5 16 rfl rfl)
theorem dX1_year_132 : decode cX1_year 132 = .ok (.i2l, 1) := dk_133 (dk_at dksX1_year_5 19 rfl rfl)
theorem dX1_year_133 : decode cX1_year 133 = .ok (.invokevirtual 363, 3) := dk_182 1 107 (dk_at dksX1_year_5 20 rfl rfl)
theorem dX1_year_136 : decode cX1_year 136 = .ok (.iload 4, 2) := dk_21 4 (dk_at dksX1_year_6 0 rfl rfl)
theorem dX1_year_138 : decode cX1_year 138 = .ok (.ireturn, 1) := dk_172 (dk_at dksX1_year_6 2 rfl rfl)
abbrev cX1_readsAct : ByteArray := prog_1_method_45_code
def yX1_readsAct : MethodName := ⟨RX1, "readsAct", "()Z"⟩
def dkwX1_readsAct_6 : List UInt8 := [79, 29, 154, 0, 12, 42, 180, 0, 70, 27, 46, 155, 0, 7, 4, 167, 0, 4, 3, 172]
abbrev dktX1_readsAct_6 : List UInt8 := dkwX1_readsAct_6 ++ []
def dkwX1_readsAct_5 : List UInt8 := [4, 167, 0, 4, 3, 62, 42, 180, 0, 70, 27, 29, 153, 0, 7, 2, 167, 0, 8, 42, 4, 182, 0, 220]
abbrev dktX1_readsAct_5 : List UInt8 := dkwX1_readsAct_5 ++ dktX1_readsAct_6
def dkwX1_readsAct_4 : List UInt8 := [155, 0, 7, 4, 167, 0, 4, 3, 172, 28, 16, 103, 160, 0, 16, 42, 16, 45, 182, 0, 190, 153, 0, 7]
abbrev dktX1_readsAct_4 : List UInt8 := dkwX1_readsAct_4 ++ dktX1_readsAct_5
def dkwX1_readsAct_3 : List UInt8 := [46, 155, 0, 15, 28, 16, 110, 159, 0, 9, 28, 16, 105, 160, 0, 18, 42, 180, 0, 67, 27, 46]
abbrev dktX1_readsAct_3 : List UInt8 := dkwX1_readsAct_3 ++ dktX1_readsAct_4
def dkwX1_readsAct_2 : List UInt8 := [180, 1, 111, 4, 96, 181, 1, 111, 42, 180, 0, 67, 27, 42, 4, 182, 0, 220, 79, 42, 180, 0, 67, 27]
abbrev dktX1_readsAct_2 : List UInt8 := dkwX1_readsAct_2 ++ dktX1_readsAct_3
def dkwX1_readsAct_1 : List UInt8 := [180, 0, 135, 46, 61, 42, 180, 0, 64, 27, 28, 79, 42, 89, 180, 0, 135, 4, 96, 181, 0, 135, 42, 89]
abbrev dktX1_readsAct_1 : List UInt8 := dkwX1_readsAct_1 ++ dktX1_readsAct_2
def dkwX1_readsAct_0 : List UInt8 := [42, 180, 1, 111, 60, 42, 19, 1, 114, 182, 0, 160, 156, 0, 5, 3, 172, 42, 180, 0, 36, 42]
abbrev dktX1_readsAct_0 : List UInt8 := dkwX1_readsAct_0 ++ dktX1_readsAct_1
theorem dksX1_readsAct_0 : cX1_readsAct.data.toList.drop 0 = dktX1_readsAct_0 := by decide +kernel
theorem dksX1_readsAct_1 : cX1_readsAct.data.toList.drop 22 = dktX1_readsAct_1 := dk_seg dksX1_readsAct_0 22 rfl rfl
theorem dksX1_readsAct_2 : cX1_readsAct.data.toList.drop 46 = dktX1_readsAct_2 := dk_seg dksX1_readsAct_1 24 rfl rfl
theorem dksX1_readsAct_3 : cX1_readsAct.data.toList.drop 70 = dktX1_readsAct_3 := dk_seg dksX1_readsAct_2 24 rfl rfl
theorem dksX1_readsAct_4 : cX1_readsAct.data.toList.drop 92 = dktX1_readsAct_4 := dk_seg dksX1_readsAct_3 22 rfl rfl
theorem dksX1_readsAct_5 : cX1_readsAct.data.toList.drop 116 = dktX1_readsAct_5 := dk_seg dksX1_readsAct_4 24 rfl rfl
theorem dksX1_readsAct_6 : cX1_readsAct.data.toList.drop 140 = dktX1_readsAct_6 := dk_seg dksX1_readsAct_5 24 rfl rfl
theorem dX1_readsAct_0 : decode cX1_readsAct 0 = .ok (.aload_n 0, 1) := dk_42 (dk_at dksX1_readsAct_0 0 rfl rfl)
theorem dX1_readsAct_1 : decode cX1_readsAct 1 = .ok (.getfield 367, 3) := dk_180 1 111 (dk_at dksX1_readsAct_0 1 rfl rfl)
theorem dX1_readsAct_4 : decode cX1_readsAct 4 = .ok (.istore_n 1, 1) := dk_60 (dk_at dksX1_readsAct_0 4 rfl rfl)
theorem dX1_readsAct_5 : decode cX1_readsAct 5 = .ok (.aload_n 0, 1) := dk_42 (dk_at dksX1_readsAct_0 5 rfl rfl)
theorem dX1_readsAct_6 : decode cX1_readsAct 6 = .ok (.ldc_w 370, 3) := dk_19 1 114 (dk_at dksX1_readsAct_0 6 rfl rfl)
theorem dX1_readsAct_9 : decode cX1_readsAct 9 = .ok (.invokevirtual 160, 3) := dk_182 0 160 (dk_at dksX1_readsAct_0 9 rfl rfl)
theorem dX1_readsAct_12 : decode cX1_readsAct 12 = .ok (.ifCond .ge 5, 3) := dk_156 0 5 (dk_at dksX1_readsAct_0 12 rfl rfl)
theorem dX1_readsAct_15 : decode cX1_readsAct 15 = .ok (.iconst 0, 1) := dk_3 (dk_at dksX1_readsAct_0 15 rfl rfl)
theorem dX1_readsAct_16 : decode cX1_readsAct 16 = .ok (.ireturn, 1) := dk_172 (dk_at dksX1_readsAct_0 16 rfl rfl)
theorem dX1_readsAct_17 : decode cX1_readsAct 17 = .ok (.aload_n 0, 1) := dk_42 (dk_at dksX1_readsAct_0 17 rfl rfl)
theorem dX1_readsAct_18 : decode cX1_readsAct 18 = .ok (.getfield 36, 3) := dk_180 0 36 (dk_at dksX1_readsAct_0 18 rfl rfl)
theorem dX1_readsAct_21 : decode cX1_readsAct 21 = .ok (.aload_n 0, 1) := dk_42 (dk_at dksX1_readsAct_0 21 rfl rfl)
theorem dX1_readsAct_22 : decode cX1_readsAct 22 = .ok (.getfield 135, 3) := dk_180 0 135 (dk_at dksX1_readsAct_1 0 rfl rfl)
theorem dX1_readsAct_25 : decode cX1_readsAct 25 = .ok (.iaload, 1) := dk_46 (dk_at dksX1_readsAct_1 3 rfl rfl)
theorem dX1_readsAct_26 : decode cX1_readsAct 26 = .ok (.istore_n 2, 1) := dk_61 (dk_at dksX1_readsAct_1 4 rfl rfl)
theorem dX1_readsAct_27 : decode cX1_readsAct 27 = .ok (.aload_n 0, 1) := dk_42 (dk_at dksX1_readsAct_1 5 rfl rfl)
theorem dX1_readsAct_28 : decode cX1_readsAct 28 = .ok (.getfield 64, 3) := dk_180 0 64 (dk_at dksX1_readsAct_1 6 rfl rfl)
theorem dX1_readsAct_31 : decode cX1_readsAct 31 = .ok (.iload_n 1, 1) := dk_27 (dk_at dksX1_readsAct_1 9 rfl rfl)
theorem dX1_readsAct_32 : decode cX1_readsAct 32 = .ok (.iload_n 2, 1) := dk_28 (dk_at dksX1_readsAct_1 10 rfl rfl)
theorem dX1_readsAct_33 : decode cX1_readsAct 33 = .ok (.iastore, 1) := dk_79 (dk_at dksX1_readsAct_1 11 rfl rfl)
theorem dX1_readsAct_34 : decode cX1_readsAct 34 = .ok (.aload_n 0, 1) := dk_42 (dk_at dksX1_readsAct_1 12 rfl rfl)
theorem dX1_readsAct_35 : decode cX1_readsAct 35 = .ok (.dup, 1) := dk_89 (dk_at dksX1_readsAct_1 13 rfl rfl)
theorem dX1_readsAct_36 : decode cX1_readsAct 36 = .ok (.getfield 135, 3) := dk_180 0 135 (dk_at dksX1_readsAct_1 14 rfl rfl)
theorem dX1_readsAct_39 : decode cX1_readsAct 39 = .ok (.iconst 1, 1) := dk_4 (dk_at dksX1_readsAct_1 17 rfl rfl)
theorem dX1_readsAct_40 : decode cX1_readsAct 40 = .ok (.iadd, 1) := dk_96 (dk_at dksX1_readsAct_1 18 rfl rfl)
theorem dX1_readsAct_41 : decode cX1_readsAct 41 = .ok (.putfield 135, 3) := dk_181 0 135 (dk_at dksX1_readsAct_1 19 rfl rfl)
theorem dX1_readsAct_44 : decode cX1_readsAct 44 = .ok (.aload_n 0, 1) := dk_42 (dk_at dksX1_readsAct_1 22 rfl rfl)
theorem dX1_readsAct_45 : decode cX1_readsAct 45 = .ok (.dup, 1) := dk_89 (dk_at dksX1_readsAct_1 23 rfl rfl)
theorem dX1_readsAct_46 : decode cX1_readsAct 46 = .ok (.getfield 367, 3) := dk_180 1 111 (dk_at dksX1_readsAct_2 0 rfl rfl)
theorem dX1_readsAct_49 : decode cX1_readsAct 49 = .ok (.iconst 1, 1) := dk_4 (dk_at dksX1_readsAct_2 3 rfl rfl)
theorem dX1_readsAct_50 : decode cX1_readsAct 50 = .ok (.iadd, 1) := dk_96 (dk_at dksX1_readsAct_2 4 rfl rfl)
theorem dX1_readsAct_51 : decode cX1_readsAct 51 = .ok (.putfield 367, 3) := dk_181 1 111 (dk_at dksX1_readsAct_2 5 rfl rfl)
theorem dX1_readsAct_54 : decode cX1_readsAct 54 = .ok (.aload_n 0, 1) := dk_42 (dk_at dksX1_readsAct_2 8 rfl rfl)
theorem dX1_readsAct_55 : decode cX1_readsAct 55 = .ok (.getfield 67, 3) := dk_180 0 67 (dk_at dksX1_readsAct_2 9 rfl rfl)
theorem dX1_readsAct_58 : decode cX1_readsAct 58 = .ok (.iload_n 1, 1) := dk_27 (dk_at dksX1_readsAct_2 12 rfl rfl)
theorem dX1_readsAct_59 : decode cX1_readsAct 59 = .ok (.aload_n 0, 1) := dk_42 (dk_at dksX1_readsAct_2 13 rfl rfl)
theorem dX1_readsAct_60 : decode cX1_readsAct 60 = .ok (.iconst 1, 1) := dk_4 (dk_at dksX1_readsAct_2 14 rfl rfl)
theorem dX1_readsAct_61 : decode cX1_readsAct 61 = .ok (.invokevirtual 220, 3) := dk_182 0 220 (dk_at dksX1_readsAct_2 15 rfl rfl)
theorem dX1_readsAct_64 : decode cX1_readsAct 64 = .ok (.iastore, 1) := dk_79 (dk_at dksX1_readsAct_2 18 rfl rfl)
theorem dX1_readsAct_65 : decode cX1_readsAct 65 = .ok (.aload_n 0, 1) := dk_42 (dk_at dksX1_readsAct_2 19 rfl rfl)
theorem dX1_readsAct_66 : decode cX1_readsAct 66 = .ok (.getfield 67, 3) := dk_180 0 67 (dk_at dksX1_readsAct_2 20 rfl rfl)
theorem dX1_readsAct_69 : decode cX1_readsAct 69 = .ok (.iload_n 1, 1) := dk_27 (dk_at dksX1_readsAct_2 23 rfl rfl)
theorem dX1_readsAct_70 : decode cX1_readsAct 70 = .ok (.iaload, 1) := dk_46 (dk_at dksX1_readsAct_3 0 rfl rfl)
theorem dX1_readsAct_71 : decode cX1_readsAct 71 = .ok (.ifCond .lt 15, 3) := dk_155 0 15 (dk_at dksX1_readsAct_3 1 rfl rfl)
theorem dX1_readsAct_74 : decode cX1_readsAct 74 = .ok (.iload_n 2, 1) := dk_28 (dk_at dksX1_readsAct_3 4 rfl rfl)
theorem dX1_readsAct_75 : decode cX1_readsAct 75 = .ok (.bipush 110, 2) := dk_16 110 (dk_at dksX1_readsAct_3 5 rfl rfl)
theorem dX1_readsAct_77 : decode cX1_readsAct 77 = .ok (.if_icmp .eq 9, 3) := dk_159 0 9 (dk_at dksX1_readsAct_3 7 rfl rfl)
theorem dX1_readsAct_80 : decode cX1_readsAct 80 = .ok (.iload_n 2, 1) := dk_28 (dk_at dksX1_readsAct_3 10 rfl rfl)
theorem dX1_readsAct_81 : decode cX1_readsAct 81 = .ok (.bipush 105, 2) := dk_16 105 (dk_at dksX1_readsAct_3 11 rfl rfl)
theorem dX1_readsAct_83 : decode cX1_readsAct 83 = .ok (.if_icmp .ne 18, 3) := dk_160 0 18 (dk_at dksX1_readsAct_3 13 rfl rfl)
theorem dX1_readsAct_86 : decode cX1_readsAct 86 = .ok (.aload_n 0, 1) := dk_42 (dk_at dksX1_readsAct_3 16 rfl rfl)
theorem dX1_readsAct_87 : decode cX1_readsAct 87 = .ok (.getfield 67, 3) := dk_180 0 67 (dk_at dksX1_readsAct_3 17 rfl rfl)
theorem dX1_readsAct_90 : decode cX1_readsAct 90 = .ok (.iload_n 1, 1) := dk_27 (dk_at dksX1_readsAct_3 20 rfl rfl)
theorem dX1_readsAct_91 : decode cX1_readsAct 91 = .ok (.iaload, 1) := dk_46 (dk_at dksX1_readsAct_3 21 rfl rfl)
theorem dX1_readsAct_92 : decode cX1_readsAct 92 = .ok (.ifCond .lt 7, 3) := dk_155 0 7 (dk_at dksX1_readsAct_4 0 rfl rfl)
theorem dX1_readsAct_95 : decode cX1_readsAct 95 = .ok (.iconst 1, 1) := dk_4 (dk_at dksX1_readsAct_4 3 rfl rfl)
theorem dX1_readsAct_96 : decode cX1_readsAct 96 = .ok (.goto 4, 3) := dk_167 0 4 (dk_at dksX1_readsAct_4 4 rfl rfl)
theorem dX1_readsAct_99 : decode cX1_readsAct 99 = .ok (.iconst 0, 1) := dk_3 (dk_at dksX1_readsAct_4 7 rfl rfl)
theorem dX1_readsAct_100 : decode cX1_readsAct 100 = .ok (.ireturn, 1) := dk_172 (dk_at dksX1_readsAct_4 8 rfl rfl)
theorem dX1_readsAct_101 : decode cX1_readsAct 101 = .ok (.iload_n 2, 1) := dk_28 (dk_at dksX1_readsAct_4 9 rfl rfl)
theorem dX1_readsAct_102 : decode cX1_readsAct 102 = .ok (.bipush 103, 2) := dk_16 103 (dk_at dksX1_readsAct_4 10 rfl rfl)
theorem dX1_readsAct_104 : decode cX1_readsAct 104 = .ok (.if_icmp .ne 16, 3) := dk_160 0 16 (dk_at dksX1_readsAct_4 12 rfl rfl)
theorem dX1_readsAct_107 : decode cX1_readsAct 107 = .ok (.aload_n 0, 1) := dk_42 (dk_at dksX1_readsAct_4 15 rfl rfl)
theorem dX1_readsAct_108 : decode cX1_readsAct 108 = .ok (.bipush 45, 2) := dk_16 45 (dk_at dksX1_readsAct_4 16 rfl rfl)
theorem dX1_readsAct_110 : decode cX1_readsAct 110 = .ok (.invokevirtual 190, 3) := dk_182 0 190 (dk_at dksX1_readsAct_4 18 rfl rfl)
theorem dX1_readsAct_113 : decode cX1_readsAct 113 = .ok (.ifCond .eq 7, 3) := dk_153 0 7 (dk_at dksX1_readsAct_4 21 rfl rfl)
theorem dX1_readsAct_116 : decode cX1_readsAct 116 = .ok (.iconst 1, 1) := dk_4 (dk_at dksX1_readsAct_5 0 rfl rfl)
theorem dX1_readsAct_117 : decode cX1_readsAct 117 = .ok (.goto 4, 3) := dk_167 0 4 (dk_at dksX1_readsAct_5 1 rfl rfl)
theorem dX1_readsAct_120 : decode cX1_readsAct 120 = .ok (.iconst 0, 1) := dk_3 (dk_at dksX1_readsAct_5 4 rfl rfl)
theorem dX1_readsAct_121 : decode cX1_readsAct 121 = .ok (.istore_n 3, 1) := dk_62 (dk_at dksX1_readsAct_5 5 rfl rfl)
theorem dX1_readsAct_122 : decode cX1_readsAct 122 = .ok (.aload_n 0, 1) := dk_42 (dk_at dksX1_readsAct_5 6 rfl rfl)
theorem dX1_readsAct_123 : decode cX1_readsAct 123 = .ok (.getfield 70, 3) := dk_180 0 70 (dk_at dksX1_readsAct_5 7 rfl rfl)
theorem dX1_readsAct_126 : decode cX1_readsAct 126 = .ok (.iload_n 1, 1) := dk_27 (dk_at dksX1_readsAct_5 10 rfl rfl)
theorem dX1_readsAct_127 : decode cX1_readsAct 127 = .ok (.iload_n 3, 1) := dk_29 (dk_at dksX1_readsAct_5 11 rfl rfl)
theorem dX1_readsAct_128 : decode cX1_readsAct 128 = .ok (.ifCond .eq 7, 3) := dk_153 0 7 (dk_at dksX1_readsAct_5 12 rfl rfl)
theorem dX1_readsAct_131 : decode cX1_readsAct 131 = .ok (.iconst (-1), 1) := dk_2 (dk_at dksX1_readsAct_5 15 rfl rfl)
theorem dX1_readsAct_132 : decode cX1_readsAct 132 = .ok (.goto 8, 3) := dk_167 0 8 (dk_at dksX1_readsAct_5 16 rfl rfl)
theorem dX1_readsAct_135 : decode cX1_readsAct 135 = .ok (.aload_n 0, 1) := dk_42 (dk_at dksX1_readsAct_5 19 rfl rfl)
theorem dX1_readsAct_136 : decode cX1_readsAct 136 = .ok (.iconst 1, 1) := dk_4 (dk_at dksX1_readsAct_5 20 rfl rfl)
theorem dX1_readsAct_137 : decode cX1_readsAct 137 = .ok (.invokevirtual 220, 3) := dk_182 0 220 (dk_at dksX1_readsAct_5 21 rfl rfl)
theorem dX1_readsAct_140 : decode cX1_readsAct 140 = .ok (.iastore, 1) := dk_79 (dk_at dksX1_readsAct_6 0 rfl rfl)
theorem dX1_readsAct_141 : decode cX1_readsAct 141 = .ok (.iload_n 3, 1) := dk_29 (dk_at dksX1_readsAct_6 1 rfl rfl)
theorem dX1_readsAct_142 : decode cX1_readsAct 142 = .ok (.ifCond .ne 12, 3) := dk_154 0 12 (dk_at dksX1_readsAct_6 2 rfl rfl)
theorem dX1_readsAct_145 : decode cX1_readsAct 145 = .ok (.aload_n 0, 1) := dk_42 (dk_at dksX1_readsAct_6 5 rfl rfl)
theorem dX1_readsAct_146 : decode cX1_readsAct 146 = .ok (.getfield 70, 3) := dk_180 0 70 (dk_at dksX1_readsAct_6 6 rfl rfl)
theorem dX1_readsAct_149 : decode cX1_readsAct 149 = .ok (.iload_n 1, 1) := dk_27 (dk_at dksX1_readsAct_6 9 rfl rfl)
theorem dX1_readsAct_150 : decode cX1_readsAct 150 = .ok (.iaload, 1) := dk_46 (dk_at dksX1_readsAct_6 10 rfl rfl)
theorem dX1_readsAct_151 : decode cX1_readsAct 151 = .ok (.ifCond .lt 7, 3) := dk_155 0 7 (dk_at dksX1_readsAct_6 11 rfl rfl)
theorem dX1_readsAct_154 : decode cX1_readsAct 154 = .ok (.iconst 1, 1) := dk_4 (dk_at dksX1_readsAct_6 14 rfl rfl)
theorem dX1_readsAct_155 : decode cX1_readsAct 155 = .ok (.goto 4, 3) := dk_167 0 4 (dk_at dksX1_readsAct_6 15 rfl rfl)
theorem dX1_readsAct_158 : decode cX1_readsAct 158 = .ok (.iconst 0, 1) := dk_3 (dk_at dksX1_readsAct_6 18 rfl rfl)
theorem dX1_readsAct_159 : decode cX1_readsAct 159 = .ok (.ireturn, 1) := dk_172 (dk_at dksX1_readsAct_6 19 rfl rfl)
abbrev cX1_does : ByteArray := prog_1_method_46_code
def yX1_does : MethodName := ⟨RX1, "does", "(I)Z"⟩
def dkwX1_does_4 : List UInt8 := [182, 1, 116, 172, 42, 42, 180, 0, 12, 28, 182, 1, 100, 4, 172]
abbrev dktX1_does_4 : List UInt8 := dkwX1_does_4 ++ []
def dkwX1_does_3 : List UInt8 := [42, 180, 0, 70, 27, 46, 182, 1, 90, 172, 42, 42, 180, 0, 12, 28, 42, 180, 0, 70, 27, 46]
abbrev dktX1_does_3 : List UInt8 := dkwX1_does_3 ++ dktX1_does_4
def dkwX1_does_2 : List UInt8 := [42, 42, 180, 0, 12, 28, 182, 1, 94, 155, 0, 7, 4, 167, 0, 4, 3, 172, 42, 42, 180, 0, 12, 28]
abbrev dktX1_does_2 : List UInt8 := dkwX1_does_2 ++ dktX1_does_3
def dkwX1_does_1 : List UInt8 := [171, 0, 0, 0, 0, 0, 85, 0, 0, 0, 3, 0, 0, 0, 103, 0, 0, 0, 53, 0, 0, 0, 105, 0, 0, 0, 35, 0, 0, 0, 120, 0, 0, 0, 69]
abbrev dktX1_does_1 : List UInt8 := dkwX1_does_1 ++ dktX1_does_2
def dkwX1_does_0 : List UInt8 := [42, 180, 0, 67, 27, 46, 61, 42, 180, 0, 64, 27, 46]
abbrev dktX1_does_0 : List UInt8 := dkwX1_does_0 ++ dktX1_does_1
theorem dksX1_does_0 : cX1_does.data.toList.drop 0 = dktX1_does_0 := by decide +kernel
theorem dksX1_does_1 : cX1_does.data.toList.drop 13 = dktX1_does_1 := dk_seg dksX1_does_0 13 rfl rfl
theorem dksX1_does_2 : cX1_does.data.toList.drop 48 = dktX1_does_2 := dk_seg dksX1_does_1 35 rfl rfl
theorem dksX1_does_3 : cX1_does.data.toList.drop 72 = dktX1_does_3 := dk_seg dksX1_does_2 24 rfl rfl
theorem dksX1_does_4 : cX1_does.data.toList.drop 94 = dktX1_does_4 := dk_seg dksX1_does_3 22 rfl rfl
theorem dX1_does_0 : decode cX1_does 0 = .ok (.aload_n 0, 1) := dk_42 (dk_at dksX1_does_0 0 rfl rfl)
theorem dX1_does_1 : decode cX1_does 1 = .ok (.getfield 67, 3) := dk_180 0 67 (dk_at dksX1_does_0 1 rfl rfl)
theorem dX1_does_4 : decode cX1_does 4 = .ok (.iload_n 1, 1) := dk_27 (dk_at dksX1_does_0 4 rfl rfl)
theorem dX1_does_5 : decode cX1_does 5 = .ok (.iaload, 1) := dk_46 (dk_at dksX1_does_0 5 rfl rfl)
theorem dX1_does_6 : decode cX1_does 6 = .ok (.istore_n 2, 1) := dk_61 (dk_at dksX1_does_0 6 rfl rfl)
theorem dX1_does_7 : decode cX1_does 7 = .ok (.aload_n 0, 1) := dk_42 (dk_at dksX1_does_0 7 rfl rfl)
theorem dX1_does_8 : decode cX1_does 8 = .ok (.getfield 64, 3) := dk_180 0 64 (dk_at dksX1_does_0 8 rfl rfl)
theorem dX1_does_11 : decode cX1_does 11 = .ok (.iload_n 1, 1) := dk_27 (dk_at dksX1_does_0 11 rfl rfl)
theorem dX1_does_12 : decode cX1_does 12 = .ok (.iaload, 1) := dk_46 (dk_at dksX1_does_0 12 rfl rfl)
theorem dX1_does_13 : decode cX1_does 13 = .ok (.lookupswitch 85 #[(103, 53), (105, 35), (120, 69)], 35) := by decide +kernel
theorem dX1_does_48 : decode cX1_does 48 = .ok (.aload_n 0, 1) := dk_42 (dk_at dksX1_does_2 0 rfl rfl)
theorem dX1_does_49 : decode cX1_does 49 = .ok (.aload_n 0, 1) := dk_42 (dk_at dksX1_does_2 1 rfl rfl)
theorem dX1_does_50 : decode cX1_does 50 = .ok (.getfield 12, 3) := dk_180 0 12 (dk_at dksX1_does_2 2 rfl rfl)
theorem dX1_does_53 : decode cX1_does 53 = .ok (.iload_n 2, 1) := dk_28 (dk_at dksX1_does_2 5 rfl rfl)
theorem dX1_does_54 : decode cX1_does 54 = .ok (.invokevirtual 350, 3) := dk_182 1 94 (dk_at dksX1_does_2 6 rfl rfl)
theorem dX1_does_57 : decode cX1_does 57 = .ok (.ifCond .lt 7, 3) := dk_155 0 7 (dk_at dksX1_does_2 9 rfl rfl)
theorem dX1_does_60 : decode cX1_does 60 = .ok (.iconst 1, 1) := dk_4 (dk_at dksX1_does_2 12 rfl rfl)
theorem dX1_does_61 : decode cX1_does 61 = .ok (.goto 4, 3) := dk_167 0 4 (dk_at dksX1_does_2 13 rfl rfl)
theorem dX1_does_64 : decode cX1_does 64 = .ok (.iconst 0, 1) := dk_3 (dk_at dksX1_does_2 16 rfl rfl)
theorem dX1_does_65 : decode cX1_does 65 = .ok (.ireturn, 1) := dk_172 (dk_at dksX1_does_2 17 rfl rfl)
theorem dX1_does_66 : decode cX1_does 66 = .ok (.aload_n 0, 1) := dk_42 (dk_at dksX1_does_2 18 rfl rfl)
theorem dX1_does_67 : decode cX1_does 67 = .ok (.aload_n 0, 1) := dk_42 (dk_at dksX1_does_2 19 rfl rfl)
theorem dX1_does_68 : decode cX1_does 68 = .ok (.getfield 12, 3) := dk_180 0 12 (dk_at dksX1_does_2 20 rfl rfl)
theorem dX1_does_71 : decode cX1_does 71 = .ok (.iload_n 2, 1) := dk_28 (dk_at dksX1_does_2 23 rfl rfl)
theorem dX1_does_72 : decode cX1_does 72 = .ok (.aload_n 0, 1) := dk_42 (dk_at dksX1_does_3 0 rfl rfl)
theorem dX1_does_73 : decode cX1_does 73 = .ok (.getfield 70, 3) := dk_180 0 70 (dk_at dksX1_does_3 1 rfl rfl)
theorem dX1_does_76 : decode cX1_does 76 = .ok (.iload_n 1, 1) := dk_27 (dk_at dksX1_does_3 4 rfl rfl)
theorem dX1_does_77 : decode cX1_does 77 = .ok (.iaload, 1) := dk_46 (dk_at dksX1_does_3 5 rfl rfl)
theorem dX1_does_78 : decode cX1_does 78 = .ok (.invokevirtual 346, 3) := dk_182 1 90 (dk_at dksX1_does_3 6 rfl rfl)
theorem dX1_does_81 : decode cX1_does 81 = .ok (.ireturn, 1) := dk_172 (dk_at dksX1_does_3 9 rfl rfl)
theorem dX1_does_82 : decode cX1_does 82 = .ok (.aload_n 0, 1) := dk_42 (dk_at dksX1_does_3 10 rfl rfl)
theorem dX1_does_83 : decode cX1_does 83 = .ok (.aload_n 0, 1) := dk_42 (dk_at dksX1_does_3 11 rfl rfl)
theorem dX1_does_84 : decode cX1_does 84 = .ok (.getfield 12, 3) := dk_180 0 12 (dk_at dksX1_does_3 12 rfl rfl)
theorem dX1_does_87 : decode cX1_does 87 = .ok (.iload_n 2, 1) := dk_28 (dk_at dksX1_does_3 15 rfl rfl)
theorem dX1_does_88 : decode cX1_does 88 = .ok (.aload_n 0, 1) := dk_42 (dk_at dksX1_does_3 16 rfl rfl)
theorem dX1_does_89 : decode cX1_does 89 = .ok (.getfield 70, 3) := dk_180 0 70 (dk_at dksX1_does_3 17 rfl rfl)
theorem dX1_does_92 : decode cX1_does 92 = .ok (.iload_n 1, 1) := dk_27 (dk_at dksX1_does_3 20 rfl rfl)
theorem dX1_does_93 : decode cX1_does 93 = .ok (.iaload, 1) := dk_46 (dk_at dksX1_does_3 21 rfl rfl)
theorem dX1_does_94 : decode cX1_does 94 = .ok (.invokevirtual 372, 3) := dk_182 1 116 (dk_at dksX1_does_4 0 rfl rfl)
theorem dX1_does_97 : decode cX1_does 97 = .ok (.ireturn, 1) := dk_172 (dk_at dksX1_does_4 3 rfl rfl)
theorem dX1_does_98 : decode cX1_does 98 = .ok (.aload_n 0, 1) := dk_42 (dk_at dksX1_does_4 4 rfl rfl)
theorem dX1_does_99 : decode cX1_does 99 = .ok (.aload_n 0, 1) := dk_42 (dk_at dksX1_does_4 5 rfl rfl)
theorem dX1_does_100 : decode cX1_does 100 = .ok (.getfield 12, 3) := dk_180 0 12 (dk_at dksX1_does_4 6 rfl rfl)
theorem dX1_does_103 : decode cX1_does 103 = .ok (.iload_n 2, 1) := dk_28 (dk_at dksX1_does_4 9 rfl rfl)
theorem dX1_does_104 : decode cX1_does 104 = .ok (.invokevirtual 356, 3) := dk_182 1 100 (dk_at dksX1_does_4 10 rfl rfl)
theorem dX1_does_107 : decode cX1_does 107 = .ok (.iconst 1, 1) := dk_4 (dk_at dksX1_does_4 13 rfl rfl)
theorem dX1_does_108 : decode cX1_does 108 = .ok (.ireturn, 1) := dk_172 (dk_at dksX1_does_4 14 rfl rfl)
abbrev cX1_exchanges : ByteArray := prog_1_method_40_code
def yX1_exchanges : MethodName := ⟨RX1, "exchanges", "(LRockingHorse$Horse;II)Z"⟩
def dkwX1_exchanges_3 : List UInt8 := [167, 255, 202, 4, 172]
abbrev dktX1_exchanges_3 : List UInt8 := dkwX1_exchanges_3 ++ []
def dkwX1_exchanges_2 : List UInt8 := [21, 4, 46, 29, 160, 0, 7, 28, 167, 0, 10, 43, 180, 1, 58, 21, 4, 46, 79, 132, 4, 1]
abbrev dktX1_exchanges_2 : List UInt8 := dkwX1_exchanges_2 ++ dktX1_exchanges_3
def dkwX1_exchanges_1 : List UInt8 := [180, 1, 58, 21, 4, 43, 180, 1, 58, 21, 4, 46, 28, 160, 0, 7, 29, 167, 0, 25, 43, 180, 1, 58]
abbrev dktX1_exchanges_1 : List UInt8 := dkwX1_exchanges_1 ++ dktX1_exchanges_2
def dkwX1_exchanges_0 : List UInt8 := [42, 28, 29, 182, 1, 84, 154, 0, 5, 3, 172, 3, 54, 4, 21, 4, 16, 8, 162, 0, 53, 43]
abbrev dktX1_exchanges_0 : List UInt8 := dkwX1_exchanges_0 ++ dktX1_exchanges_1
theorem dksX1_exchanges_0 : cX1_exchanges.data.toList.drop 0 = dktX1_exchanges_0 := by decide +kernel
theorem dksX1_exchanges_1 : cX1_exchanges.data.toList.drop 22 = dktX1_exchanges_1 := dk_seg dksX1_exchanges_0 22 rfl rfl
theorem dksX1_exchanges_2 : cX1_exchanges.data.toList.drop 46 = dktX1_exchanges_2 := dk_seg dksX1_exchanges_1 24 rfl rfl
theorem dksX1_exchanges_3 : cX1_exchanges.data.toList.drop 68 = dktX1_exchanges_3 := dk_seg dksX1_exchanges_2 22 rfl rfl
theorem dX1_exchanges_0 : decode cX1_exchanges 0 = .ok (.aload_n 0, 1) := dk_42 (dk_at dksX1_exchanges_0 0 rfl rfl)
theorem dX1_exchanges_1 : decode cX1_exchanges 1 = .ok (.iload_n 2, 1) := dk_28 (dk_at dksX1_exchanges_0 1 rfl rfl)
theorem dX1_exchanges_2 : decode cX1_exchanges 2 = .ok (.iload_n 3, 1) := dk_29 (dk_at dksX1_exchanges_0 2 rfl rfl)
theorem dX1_exchanges_3 : decode cX1_exchanges 3 = .ok (.invokevirtual 340, 3) := dk_182 1 84 (dk_at dksX1_exchanges_0 3 rfl rfl)
theorem dX1_exchanges_6 : decode cX1_exchanges 6 = .ok (.ifCond .ne 5, 3) := dk_154 0 5 (dk_at dksX1_exchanges_0 6 rfl rfl)
theorem dX1_exchanges_9 : decode cX1_exchanges 9 = .ok (.iconst 0, 1) := dk_3 (dk_at dksX1_exchanges_0 9 rfl rfl)
theorem dX1_exchanges_10 : decode cX1_exchanges 10 = .ok (.ireturn, 1) := dk_172 (dk_at dksX1_exchanges_0 10 rfl rfl)
theorem dX1_exchanges_11 : decode cX1_exchanges 11 = .ok (.iconst 0, 1) := dk_3 (dk_at dksX1_exchanges_0 11 rfl rfl)
theorem dX1_exchanges_12 : decode cX1_exchanges 12 = .ok (.istore 4, 2) := dk_54 4 (dk_at dksX1_exchanges_0 12 rfl rfl)
theorem dX1_exchanges_14 : decode cX1_exchanges 14 = .ok (.iload 4, 2) := dk_21 4 (dk_at dksX1_exchanges_0 14 rfl rfl)
theorem dX1_exchanges_16 : decode cX1_exchanges 16 = .ok (.bipush 8, 2) := dk_16 8 (dk_at dksX1_exchanges_0 16 rfl rfl)
theorem dX1_exchanges_18 : decode cX1_exchanges 18 = .ok (.if_icmp .ge 53, 3) := dk_162 0 53 (dk_at dksX1_exchanges_0 18 rfl rfl)
theorem dX1_exchanges_21 : decode cX1_exchanges 21 = .ok (.aload_n 1, 1) := dk_43 (dk_at dksX1_exchanges_0 21 rfl rfl)
theorem dX1_exchanges_22 : decode cX1_exchanges 22 = .ok (.getfield 314, 3) := dk_180 1 58 (dk_at dksX1_exchanges_1 0 rfl rfl)
theorem dX1_exchanges_25 : decode cX1_exchanges 25 = .ok (.iload 4, 2) := dk_21 4 (dk_at dksX1_exchanges_1 3 rfl rfl)
theorem dX1_exchanges_27 : decode cX1_exchanges 27 = .ok (.aload_n 1, 1) := dk_43 (dk_at dksX1_exchanges_1 5 rfl rfl)
theorem dX1_exchanges_28 : decode cX1_exchanges 28 = .ok (.getfield 314, 3) := dk_180 1 58 (dk_at dksX1_exchanges_1 6 rfl rfl)
theorem dX1_exchanges_31 : decode cX1_exchanges 31 = .ok (.iload 4, 2) := dk_21 4 (dk_at dksX1_exchanges_1 9 rfl rfl)
theorem dX1_exchanges_33 : decode cX1_exchanges 33 = .ok (.iaload, 1) := dk_46 (dk_at dksX1_exchanges_1 11 rfl rfl)
theorem dX1_exchanges_34 : decode cX1_exchanges 34 = .ok (.iload_n 2, 1) := dk_28 (dk_at dksX1_exchanges_1 12 rfl rfl)
theorem dX1_exchanges_35 : decode cX1_exchanges 35 = .ok (.if_icmp .ne 7, 3) := dk_160 0 7 (dk_at dksX1_exchanges_1 13 rfl rfl)
theorem dX1_exchanges_38 : decode cX1_exchanges 38 = .ok (.iload_n 3, 1) := dk_29 (dk_at dksX1_exchanges_1 16 rfl rfl)
theorem dX1_exchanges_39 : decode cX1_exchanges 39 = .ok (.goto 25, 3) := dk_167 0 25 (dk_at dksX1_exchanges_1 17 rfl rfl)
theorem dX1_exchanges_42 : decode cX1_exchanges 42 = .ok (.aload_n 1, 1) := dk_43 (dk_at dksX1_exchanges_1 20 rfl rfl)
theorem dX1_exchanges_43 : decode cX1_exchanges 43 = .ok (.getfield 314, 3) := dk_180 1 58 (dk_at dksX1_exchanges_1 21 rfl rfl)
theorem dX1_exchanges_46 : decode cX1_exchanges 46 = .ok (.iload 4, 2) := dk_21 4 (dk_at dksX1_exchanges_2 0 rfl rfl)
theorem dX1_exchanges_48 : decode cX1_exchanges 48 = .ok (.iaload, 1) := dk_46 (dk_at dksX1_exchanges_2 2 rfl rfl)
theorem dX1_exchanges_49 : decode cX1_exchanges 49 = .ok (.iload_n 3, 1) := dk_29 (dk_at dksX1_exchanges_2 3 rfl rfl)
theorem dX1_exchanges_50 : decode cX1_exchanges 50 = .ok (.if_icmp .ne 7, 3) := dk_160 0 7 (dk_at dksX1_exchanges_2 4 rfl rfl)
theorem dX1_exchanges_53 : decode cX1_exchanges 53 = .ok (.iload_n 2, 1) := dk_28 (dk_at dksX1_exchanges_2 7 rfl rfl)
theorem dX1_exchanges_54 : decode cX1_exchanges 54 = .ok (.goto 10, 3) := dk_167 0 10 (dk_at dksX1_exchanges_2 8 rfl rfl)
theorem dX1_exchanges_57 : decode cX1_exchanges 57 = .ok (.aload_n 1, 1) := dk_43 (dk_at dksX1_exchanges_2 11 rfl rfl)
theorem dX1_exchanges_58 : decode cX1_exchanges 58 = .ok (.getfield 314, 3) := dk_180 1 58 (dk_at dksX1_exchanges_2 12 rfl rfl)
theorem dX1_exchanges_61 : decode cX1_exchanges 61 = .ok (.iload 4, 2) := dk_21 4 (dk_at dksX1_exchanges_2 15 rfl rfl)
theorem dX1_exchanges_63 : decode cX1_exchanges 63 = .ok (.iaload, 1) := dk_46 (dk_at dksX1_exchanges_2 17 rfl rfl)
theorem dX1_exchanges_64 : decode cX1_exchanges 64 = .ok (.iastore, 1) := dk_79 (dk_at dksX1_exchanges_2 18 rfl rfl)
theorem dX1_exchanges_65 : decode cX1_exchanges 65 = .ok (.iinc 4 1, 3) := dk_132 4 1 (dk_at dksX1_exchanges_2 19 rfl rfl)
theorem dX1_exchanges_68 : decode cX1_exchanges 68 = .ok (.goto (-54), 3) := dk_167 255 202 (dk_at dksX1_exchanges_3 0 rfl rfl)
theorem dX1_exchanges_71 : decode cX1_exchanges 71 = .ok (.iconst 1, 1) := dk_4 (dk_at dksX1_exchanges_3 3 rfl rfl)
theorem dX1_exchanges_72 : decode cX1_exchanges 72 = .ok (.ireturn, 1) := dk_172 (dk_at dksX1_exchanges_3 4 rfl rfl)
abbrev cX1_isPair : ByteArray := prog_1_method_6_code
def yX1_isPair : MethodName := ⟨RX1, "isPair", "(II)Z"⟩
def dkwX1_isPair_1 : List UInt8 := [167, 0, 4, 3, 172]
abbrev dktX1_isPair_1 : List UInt8 := dkwX1_isPair_1 ++ []
def dkwX1_isPair_0 : List UInt8 := [42, 27, 182, 0, 128, 153, 0, 20, 42, 28, 182, 0, 128, 153, 0, 12, 27, 28, 159, 0, 7, 4]
abbrev dktX1_isPair_0 : List UInt8 := dkwX1_isPair_0 ++ dktX1_isPair_1
theorem dksX1_isPair_0 : cX1_isPair.data.toList.drop 0 = dktX1_isPair_0 := by decide +kernel
theorem dksX1_isPair_1 : cX1_isPair.data.toList.drop 22 = dktX1_isPair_1 := dk_seg dksX1_isPair_0 22 rfl rfl
theorem dX1_isPair_0 : decode cX1_isPair 0 = .ok (.aload_n 0, 1) := dk_42 (dk_at dksX1_isPair_0 0 rfl rfl)
theorem dX1_isPair_1 : decode cX1_isPair 1 = .ok (.iload_n 1, 1) := dk_27 (dk_at dksX1_isPair_0 1 rfl rfl)
theorem dX1_isPair_2 : decode cX1_isPair 2 = .ok (.invokevirtual 128, 3) := dk_182 0 128 (dk_at dksX1_isPair_0 2 rfl rfl)
theorem dX1_isPair_5 : decode cX1_isPair 5 = .ok (.ifCond .eq 20, 3) := dk_153 0 20 (dk_at dksX1_isPair_0 5 rfl rfl)
theorem dX1_isPair_8 : decode cX1_isPair 8 = .ok (.aload_n 0, 1) := dk_42 (dk_at dksX1_isPair_0 8 rfl rfl)
theorem dX1_isPair_9 : decode cX1_isPair 9 = .ok (.iload_n 2, 1) := dk_28 (dk_at dksX1_isPair_0 9 rfl rfl)
theorem dX1_isPair_10 : decode cX1_isPair 10 = .ok (.invokevirtual 128, 3) := dk_182 0 128 (dk_at dksX1_isPair_0 10 rfl rfl)
theorem dX1_isPair_13 : decode cX1_isPair 13 = .ok (.ifCond .eq 12, 3) := dk_153 0 12 (dk_at dksX1_isPair_0 13 rfl rfl)
theorem dX1_isPair_16 : decode cX1_isPair 16 = .ok (.iload_n 1, 1) := dk_27 (dk_at dksX1_isPair_0 16 rfl rfl)
theorem dX1_isPair_17 : decode cX1_isPair 17 = .ok (.iload_n 2, 1) := dk_28 (dk_at dksX1_isPair_0 17 rfl rfl)
theorem dX1_isPair_18 : decode cX1_isPair 18 = .ok (.if_icmp .eq 7, 3) := dk_159 0 7 (dk_at dksX1_isPair_0 18 rfl rfl)
theorem dX1_isPair_21 : decode cX1_isPair 21 = .ok (.iconst 1, 1) := dk_4 (dk_at dksX1_isPair_0 21 rfl rfl)
theorem dX1_isPair_22 : decode cX1_isPair 22 = .ok (.goto 4, 3) := dk_167 0 4 (dk_at dksX1_isPair_1 0 rfl rfl)
theorem dX1_isPair_25 : decode cX1_isPair 25 = .ok (.iconst 0, 1) := dk_3 (dk_at dksX1_isPair_1 3 rfl rfl)
theorem dX1_isPair_26 : decode cX1_isPair 26 = .ok (.ireturn, 1) := dk_172 (dk_at dksX1_isPair_1 4 rfl rfl)
abbrev cX1_gaps : ByteArray := prog_1_method_48_code
def yX1_gaps : MethodName := ⟨RX1, "gaps", "()I"⟩
def dkwX1_gaps_1 : List UInt8 := [182, 1, 107, 42, 42, 180, 1, 55, 133, 182, 1, 107, 42, 180, 1, 52, 172]
abbrev dktX1_gaps_1 : List UInt8 := dkwX1_gaps_1 ++ []
def dkwX1_gaps_0 : List UInt8 := [42, 42, 180, 0, 12, 182, 1, 64, 42, 3, 181, 1, 104, 42, 42, 180, 1, 52, 184, 1, 70, 133]
abbrev dktX1_gaps_0 : List UInt8 := dkwX1_gaps_0 ++ dktX1_gaps_1
theorem dksX1_gaps_0 : cX1_gaps.data.toList.drop 0 = dktX1_gaps_0 := by decide +kernel
theorem dksX1_gaps_1 : cX1_gaps.data.toList.drop 22 = dktX1_gaps_1 := dk_seg dksX1_gaps_0 22 rfl rfl
theorem dX1_gaps_0 : decode cX1_gaps 0 = .ok (.aload_n 0, 1) := dk_42 (dk_at dksX1_gaps_0 0 rfl rfl)
theorem dX1_gaps_1 : decode cX1_gaps 1 = .ok (.aload_n 0, 1) := dk_42 (dk_at dksX1_gaps_0 1 rfl rfl)
theorem dX1_gaps_2 : decode cX1_gaps 2 = .ok (.getfield 12, 3) := dk_180 0 12 (dk_at dksX1_gaps_0 2 rfl rfl)
theorem dX1_gaps_5 : decode cX1_gaps 5 = .ok (.invokevirtual 320, 3) := dk_182 1 64 (dk_at dksX1_gaps_0 5 rfl rfl)
theorem dX1_gaps_8 : decode cX1_gaps 8 = .ok (.aload_n 0, 1) := dk_42 (dk_at dksX1_gaps_0 8 rfl rfl)
theorem dX1_gaps_9 : decode cX1_gaps 9 = .ok (.iconst 0, 1) := dk_3 (dk_at dksX1_gaps_0 9 rfl rfl)
theorem dX1_gaps_10 : decode cX1_gaps 10 = .ok (.putfield 360, 3) := dk_181 1 104 (dk_at dksX1_gaps_0 10 rfl rfl)
theorem dX1_gaps_13 : decode cX1_gaps 13 = .ok (.aload_n 0, 1) := dk_42 (dk_at dksX1_gaps_0 13 rfl rfl)
theorem dX1_gaps_14 : decode cX1_gaps 14 = .ok (.aload_n 0, 1) := dk_42 (dk_at dksX1_gaps_0 14 rfl rfl)
theorem dX1_gaps_15 : decode cX1_gaps 15 = .ok (.getfield 308, 3) := dk_180 1 52 (dk_at dksX1_gaps_0 15 rfl rfl)
theorem dX1_gaps_18 : decode cX1_gaps 18 = .ok (.invokestatic 326, 3) := dk_184 1 70 (dk_at dksX1_gaps_0 18 rfl rfl)
theorem dX1_gaps_21 : decode cX1_gaps 21 = .ok (.i2l, 1) := dk_133 (dk_at dksX1_gaps_0 21 rfl rfl)
theorem dX1_gaps_22 : decode cX1_gaps 22 = .ok (.invokevirtual 363, 3) := dk_182 1 107 (dk_at dksX1_gaps_1 0 rfl rfl)
theorem dX1_gaps_25 : decode cX1_gaps 25 = .ok (.aload_n 0, 1) := dk_42 (dk_at dksX1_gaps_1 3 rfl rfl)
theorem dX1_gaps_26 : decode cX1_gaps 26 = .ok (.aload_n 0, 1) := dk_42 (dk_at dksX1_gaps_1 4 rfl rfl)
theorem dX1_gaps_27 : decode cX1_gaps 27 = .ok (.getfield 311, 3) := dk_180 1 55 (dk_at dksX1_gaps_1 5 rfl rfl)
theorem dX1_gaps_30 : decode cX1_gaps 30 = .ok (.i2l, 1) := dk_133 (dk_at dksX1_gaps_1 8 rfl rfl)
theorem dX1_gaps_31 : decode cX1_gaps 31 = .ok (.invokevirtual 363, 3) := dk_182 1 107 (dk_at dksX1_gaps_1 9 rfl rfl)
theorem dX1_gaps_34 : decode cX1_gaps 34 = .ok (.aload_n 0, 1) := dk_42 (dk_at dksX1_gaps_1 12 rfl rfl)
theorem dX1_gaps_35 : decode cX1_gaps 35 = .ok (.getfield 308, 3) := dk_180 1 52 (dk_at dksX1_gaps_1 13 rfl rfl)
theorem dX1_gaps_38 : decode cX1_gaps 38 = .ok (.ireturn, 1) := dk_172 (dk_at dksX1_gaps_1 16 rfl rfl)
abbrev cX1_first : ByteArray := prog_1_method_49_code
def yX1_first : MethodName := ⟨RX1, "first", "(I)I"⟩
def dkwX1_first_3 : List UInt8 := [172, 132, 2, 1, 167, 255, 211, 16, 254, 172]
abbrev dktX1_first_3 : List UInt8 := dkwX1_first_3 ++ []
def dkwX1_first_2 : List UInt8 := [154, 0, 6, 167, 0, 22, 42, 3, 181, 1, 104, 42, 42, 180, 1, 52, 184, 1, 127, 133, 182, 1, 107, 28]
abbrev dktX1_first_2 : List UInt8 := dkwX1_first_2 ++ dktX1_first_3
def dkwX1_first_1 : List UInt8 := [182, 1, 48, 3, 61, 28, 27, 162, 0, 46, 42, 42, 180, 0, 16, 182, 1, 81, 42, 180, 1, 52]
abbrev dktX1_first_1 : List UInt8 := dkwX1_first_1 ++ dktX1_first_2
def dkwX1_first_0 : List UInt8 := [27, 133, 10, 20, 1, 125, 184, 0, 124, 154, 0, 5, 2, 172, 42, 180, 0, 16, 42, 180, 0, 12]
abbrev dktX1_first_0 : List UInt8 := dkwX1_first_0 ++ dktX1_first_1
theorem dksX1_first_0 : cX1_first.data.toList.drop 0 = dktX1_first_0 := by decide +kernel
theorem dksX1_first_1 : cX1_first.data.toList.drop 22 = dktX1_first_1 := dk_seg dksX1_first_0 22 rfl rfl
theorem dksX1_first_2 : cX1_first.data.toList.drop 44 = dktX1_first_2 := dk_seg dksX1_first_1 22 rfl rfl
theorem dksX1_first_3 : cX1_first.data.toList.drop 68 = dktX1_first_3 := dk_seg dksX1_first_2 24 rfl rfl
theorem dX1_first_0 : decode cX1_first 0 = .ok (.iload_n 1, 1) := dk_27 (dk_at dksX1_first_0 0 rfl rfl)
theorem dX1_first_1 : decode cX1_first 1 = .ok (.i2l, 1) := dk_133 (dk_at dksX1_first_0 1 rfl rfl)
theorem dX1_first_2 : decode cX1_first 2 = .ok (.lconst 1, 1) := dk_10 (dk_at dksX1_first_0 2 rfl rfl)
theorem dX1_first_3 : decode cX1_first 3 = .ok (.ldc2_w 381, 3) := dk_20 1 125 (dk_at dksX1_first_0 3 rfl rfl)
theorem dX1_first_6 : decode cX1_first 6 = .ok (.invokestatic 124, 3) := dk_184 0 124 (dk_at dksX1_first_0 6 rfl rfl)
theorem dX1_first_9 : decode cX1_first 9 = .ok (.ifCond .ne 5, 3) := dk_154 0 5 (dk_at dksX1_first_0 9 rfl rfl)
theorem dX1_first_12 : decode cX1_first 12 = .ok (.iconst (-1), 1) := dk_2 (dk_at dksX1_first_0 12 rfl rfl)
theorem dX1_first_13 : decode cX1_first 13 = .ok (.ireturn, 1) := dk_172 (dk_at dksX1_first_0 13 rfl rfl)
theorem dX1_first_14 : decode cX1_first 14 = .ok (.aload_n 0, 1) := dk_42 (dk_at dksX1_first_0 14 rfl rfl)
theorem dX1_first_15 : decode cX1_first 15 = .ok (.getfield 16, 3) := dk_180 0 16 (dk_at dksX1_first_0 15 rfl rfl)
theorem dX1_first_18 : decode cX1_first 18 = .ok (.aload_n 0, 1) := dk_42 (dk_at dksX1_first_0 18 rfl rfl)
theorem dX1_first_19 : decode cX1_first 19 = .ok (.getfield 12, 3) := dk_180 0 12 (dk_at dksX1_first_0 19 rfl rfl)
theorem dX1_first_22 : decode cX1_first 22 = .ok (.invokevirtual 304, 3) := dk_182 1 48 (dk_at dksX1_first_1 0 rfl rfl)
theorem dX1_first_25 : decode cX1_first 25 = .ok (.iconst 0, 1) := dk_3 (dk_at dksX1_first_1 3 rfl rfl)
theorem dX1_first_26 : decode cX1_first 26 = .ok (.istore_n 2, 1) := dk_61 (dk_at dksX1_first_1 4 rfl rfl)
theorem dX1_first_27 : decode cX1_first 27 = .ok (.iload_n 2, 1) := dk_28 (dk_at dksX1_first_1 5 rfl rfl)
theorem dX1_first_28 : decode cX1_first 28 = .ok (.iload_n 1, 1) := dk_27 (dk_at dksX1_first_1 6 rfl rfl)
theorem dX1_first_29 : decode cX1_first 29 = .ok (.if_icmp .ge 46, 3) := dk_162 0 46 (dk_at dksX1_first_1 7 rfl rfl)
theorem dX1_first_32 : decode cX1_first 32 = .ok (.aload_n 0, 1) := dk_42 (dk_at dksX1_first_1 10 rfl rfl)
theorem dX1_first_33 : decode cX1_first 33 = .ok (.aload_n 0, 1) := dk_42 (dk_at dksX1_first_1 11 rfl rfl)
theorem dX1_first_34 : decode cX1_first 34 = .ok (.getfield 16, 3) := dk_180 0 16 (dk_at dksX1_first_1 12 rfl rfl)
theorem dX1_first_37 : decode cX1_first 37 = .ok (.invokevirtual 337, 3) := dk_182 1 81 (dk_at dksX1_first_1 15 rfl rfl)
theorem dX1_first_40 : decode cX1_first 40 = .ok (.aload_n 0, 1) := dk_42 (dk_at dksX1_first_1 18 rfl rfl)
theorem dX1_first_41 : decode cX1_first 41 = .ok (.getfield 308, 3) := dk_180 1 52 (dk_at dksX1_first_1 19 rfl rfl)
theorem dX1_first_44 : decode cX1_first 44 = .ok (.ifCond .ne 6, 3) := dk_154 0 6 (dk_at dksX1_first_2 0 rfl rfl)
theorem dX1_first_47 : decode cX1_first 47 = .ok (.goto 22, 3) := dk_167 0 22 (dk_at dksX1_first_2 3 rfl rfl)
theorem dX1_first_50 : decode cX1_first 50 = .ok (.aload_n 0, 1) := dk_42 (dk_at dksX1_first_2 6 rfl rfl)
theorem dX1_first_51 : decode cX1_first 51 = .ok (.iconst 0, 1) := dk_3 (dk_at dksX1_first_2 7 rfl rfl)
theorem dX1_first_52 : decode cX1_first 52 = .ok (.putfield 360, 3) := dk_181 1 104 (dk_at dksX1_first_2 8 rfl rfl)
theorem dX1_first_55 : decode cX1_first 55 = .ok (.aload_n 0, 1) := dk_42 (dk_at dksX1_first_2 11 rfl rfl)
theorem dX1_first_56 : decode cX1_first 56 = .ok (.aload_n 0, 1) := dk_42 (dk_at dksX1_first_2 12 rfl rfl)
theorem dX1_first_57 : decode cX1_first 57 = .ok (.getfield 308, 3) := dk_180 1 52 (dk_at dksX1_first_2 13 rfl rfl)
theorem dX1_first_60 : decode cX1_first 60 = .ok (.invokestatic 383, 3) := dk_184 1 127 (dk_at dksX1_first_2 16 rfl rfl)
theorem dX1_first_63 : decode cX1_first 63 = .ok (.i2l, 1) := dk_133 (dk_at dksX1_first_2 19 rfl rfl)
theorem dX1_first_64 : decode cX1_first 64 = .ok (.invokevirtual 363, 3) := dk_182 1 107 (dk_at dksX1_first_2 20 rfl rfl)
theorem dX1_first_67 : decode cX1_first 67 = .ok (.iload_n 2, 1) := dk_28 (dk_at dksX1_first_2 23 rfl rfl)
theorem dX1_first_68 : decode cX1_first 68 = .ok (.ireturn, 1) := dk_172 (dk_at dksX1_first_3 0 rfl rfl)
theorem dX1_first_69 : decode cX1_first 69 = .ok (.iinc 2 1, 3) := dk_132 2 1 (dk_at dksX1_first_3 1 rfl rfl)
theorem dX1_first_72 : decode cX1_first 72 = .ok (.goto (-45), 3) := dk_167 255 211 (dk_at dksX1_first_3 4 rfl rfl)
theorem dX1_first_75 : decode cX1_first 75 = .ok (.bipush (-2), 2) := dk_16 254 (dk_at dksX1_first_3 7 rfl rfl)
theorem dX1_first_77 : decode cX1_first 77 = .ok (.ireturn, 1) := dk_172 (dk_at dksX1_first_3 9 rfl rfl)
abbrev cX1_later : ByteArray := prog_1_method_50_code
def yX1_later : MethodName := ⟨RX1, "later", "(I)I"⟩
def dkwX1_later_4 : List UInt8 := [182, 1, 107, 42, 180, 0, 16, 180, 1, 67, 42, 180, 0, 12, 180, 1, 67, 100, 172]
abbrev dktX1_later_4 : List UInt8 := dkwX1_later_4 ++ []
def dkwX1_later_3 : List UInt8 := [181, 1, 104, 42, 42, 42, 180, 0, 16, 180, 0, 197, 182, 1, 44, 133, 182, 1, 107, 42, 28, 133]
abbrev dktX1_later_3 : List UInt8 := dkwX1_later_3 ++ dktX1_later_4
def dkwX1_later_2 : List UInt8 := [28, 42, 180, 0, 16, 180, 0, 197, 29, 46, 184, 1, 19, 61, 132, 3, 1, 167, 255, 231, 42, 3]
abbrev dktX1_later_2 : List UInt8 := dkwX1_later_2 ++ dktX1_later_3
def dkwX1_later_1 : List UInt8 := [182, 1, 48, 42, 42, 180, 0, 16, 27, 182, 1, 100, 3, 61, 3, 62, 29, 42, 180, 0, 121, 162, 0, 23]
abbrev dktX1_later_1 : List UInt8 := dkwX1_later_1 ++ dktX1_later_2
def dkwX1_later_0 : List UInt8 := [27, 133, 9, 20, 1, 125, 184, 0, 124, 154, 0, 5, 2, 172, 42, 180, 0, 16, 42, 180, 0, 12]
abbrev dktX1_later_0 : List UInt8 := dkwX1_later_0 ++ dktX1_later_1
theorem dksX1_later_0 : cX1_later.data.toList.drop 0 = dktX1_later_0 := by decide +kernel
theorem dksX1_later_1 : cX1_later.data.toList.drop 22 = dktX1_later_1 := dk_seg dksX1_later_0 22 rfl rfl
theorem dksX1_later_2 : cX1_later.data.toList.drop 46 = dktX1_later_2 := dk_seg dksX1_later_1 24 rfl rfl
theorem dksX1_later_3 : cX1_later.data.toList.drop 68 = dktX1_later_3 := dk_seg dksX1_later_2 22 rfl rfl
theorem dksX1_later_4 : cX1_later.data.toList.drop 90 = dktX1_later_4 := dk_seg dksX1_later_3 22 rfl rfl
theorem dX1_later_0 : decode cX1_later 0 = .ok (.iload_n 1, 1) := dk_27 (dk_at dksX1_later_0 0 rfl rfl)
theorem dX1_later_1 : decode cX1_later 1 = .ok (.i2l, 1) := dk_133 (dk_at dksX1_later_0 1 rfl rfl)
theorem dX1_later_2 : decode cX1_later 2 = .ok (.lconst 0, 1) := dk_9 (dk_at dksX1_later_0 2 rfl rfl)
theorem dX1_later_3 : decode cX1_later 3 = .ok (.ldc2_w 381, 3) := dk_20 1 125 (dk_at dksX1_later_0 3 rfl rfl)
theorem dX1_later_6 : decode cX1_later 6 = .ok (.invokestatic 124, 3) := dk_184 0 124 (dk_at dksX1_later_0 6 rfl rfl)
theorem dX1_later_9 : decode cX1_later 9 = .ok (.ifCond .ne 5, 3) := dk_154 0 5 (dk_at dksX1_later_0 9 rfl rfl)
theorem dX1_later_12 : decode cX1_later 12 = .ok (.iconst (-1), 1) := dk_2 (dk_at dksX1_later_0 12 rfl rfl)
theorem dX1_later_13 : decode cX1_later 13 = .ok (.ireturn, 1) := dk_172 (dk_at dksX1_later_0 13 rfl rfl)
theorem dX1_later_14 : decode cX1_later 14 = .ok (.aload_n 0, 1) := dk_42 (dk_at dksX1_later_0 14 rfl rfl)
theorem dX1_later_15 : decode cX1_later 15 = .ok (.getfield 16, 3) := dk_180 0 16 (dk_at dksX1_later_0 15 rfl rfl)
theorem dX1_later_18 : decode cX1_later 18 = .ok (.aload_n 0, 1) := dk_42 (dk_at dksX1_later_0 18 rfl rfl)
theorem dX1_later_19 : decode cX1_later 19 = .ok (.getfield 12, 3) := dk_180 0 12 (dk_at dksX1_later_0 19 rfl rfl)
theorem dX1_later_22 : decode cX1_later 22 = .ok (.invokevirtual 304, 3) := dk_182 1 48 (dk_at dksX1_later_1 0 rfl rfl)
theorem dX1_later_25 : decode cX1_later 25 = .ok (.aload_n 0, 1) := dk_42 (dk_at dksX1_later_1 3 rfl rfl)
theorem dX1_later_26 : decode cX1_later 26 = .ok (.aload_n 0, 1) := dk_42 (dk_at dksX1_later_1 4 rfl rfl)
theorem dX1_later_27 : decode cX1_later 27 = .ok (.getfield 16, 3) := dk_180 0 16 (dk_at dksX1_later_1 5 rfl rfl)
theorem dX1_later_30 : decode cX1_later 30 = .ok (.iload_n 1, 1) := dk_27 (dk_at dksX1_later_1 8 rfl rfl)
theorem dX1_later_31 : decode cX1_later 31 = .ok (.invokevirtual 356, 3) := dk_182 1 100 (dk_at dksX1_later_1 9 rfl rfl)
theorem dX1_later_34 : decode cX1_later 34 = .ok (.iconst 0, 1) := dk_3 (dk_at dksX1_later_1 12 rfl rfl)
theorem dX1_later_35 : decode cX1_later 35 = .ok (.istore_n 2, 1) := dk_61 (dk_at dksX1_later_1 13 rfl rfl)
theorem dX1_later_36 : decode cX1_later 36 = .ok (.iconst 0, 1) := dk_3 (dk_at dksX1_later_1 14 rfl rfl)
theorem dX1_later_37 : decode cX1_later 37 = .ok (.istore_n 3, 1) := dk_62 (dk_at dksX1_later_1 15 rfl rfl)
theorem dX1_later_38 : decode cX1_later 38 = .ok (.iload_n 3, 1) := dk_29 (dk_at dksX1_later_1 16 rfl rfl)
theorem dX1_later_39 : decode cX1_later 39 = .ok (.aload_n 0, 1) := dk_42 (dk_at dksX1_later_1 17 rfl rfl)
theorem dX1_later_40 : decode cX1_later 40 = .ok (.getfield 121, 3) := dk_180 0 121 (dk_at dksX1_later_1 18 rfl rfl)
theorem dX1_later_43 : decode cX1_later 43 = .ok (.if_icmp .ge 23, 3) := dk_162 0 23 (dk_at dksX1_later_1 21 rfl rfl)
theorem dX1_later_46 : decode cX1_later 46 = .ok (.iload_n 2, 1) := dk_28 (dk_at dksX1_later_2 0 rfl rfl)
theorem dX1_later_47 : decode cX1_later 47 = .ok (.aload_n 0, 1) := dk_42 (dk_at dksX1_later_2 1 rfl rfl)
theorem dX1_later_48 : decode cX1_later 48 = .ok (.getfield 16, 3) := dk_180 0 16 (dk_at dksX1_later_2 2 rfl rfl)
theorem dX1_later_51 : decode cX1_later 51 = .ok (.getfield 197, 3) := dk_180 0 197 (dk_at dksX1_later_2 5 rfl rfl)
theorem dX1_later_54 : decode cX1_later 54 = .ok (.iload_n 3, 1) := dk_29 (dk_at dksX1_later_2 8 rfl rfl)
theorem dX1_later_55 : decode cX1_later 55 = .ok (.iaload, 1) := dk_46 (dk_at dksX1_later_2 9 rfl rfl)
theorem dX1_later_56 : decode cX1_later 56 = .ok (.invokestatic 275, 3) := dk_184 1 19 (dk_at dksX1_later_2 10 rfl rfl)
theorem dX1_later_59 : decode cX1_later 59 = .ok (.istore_n 2, 1) := dk_61 (dk_at dksX1_later_2 13 rfl rfl)
theorem dX1_later_60 : decode cX1_later 60 = .ok (.iinc 3 1, 3) := dk_132 3 1 (dk_at dksX1_later_2 14 rfl rfl)
theorem dX1_later_63 : decode cX1_later 63 = .ok (.goto (-25), 3) := dk_167 255 231 (dk_at dksX1_later_2 17 rfl rfl)
theorem dX1_later_66 : decode cX1_later 66 = .ok (.aload_n 0, 1) := dk_42 (dk_at dksX1_later_2 20 rfl rfl)
theorem dX1_later_67 : decode cX1_later 67 = .ok (.iconst 0, 1) := dk_3 (dk_at dksX1_later_2 21 rfl rfl)
theorem dX1_later_68 : decode cX1_later 68 = .ok (.putfield 360, 3) := dk_181 1 104 (dk_at dksX1_later_3 0 rfl rfl)
theorem dX1_later_71 : decode cX1_later 71 = .ok (.aload_n 0, 1) := dk_42 (dk_at dksX1_later_3 3 rfl rfl)
theorem dX1_later_72 : decode cX1_later 72 = .ok (.aload_n 0, 1) := dk_42 (dk_at dksX1_later_3 4 rfl rfl)
theorem dX1_later_73 : decode cX1_later 73 = .ok (.aload_n 0, 1) := dk_42 (dk_at dksX1_later_3 5 rfl rfl)
theorem dX1_later_74 : decode cX1_later 74 = .ok (.getfield 16, 3) := dk_180 0 16 (dk_at dksX1_later_3 6 rfl rfl)
theorem dX1_later_77 : decode cX1_later 77 = .ok (.getfield 197, 3) := dk_180 0 197 (dk_at dksX1_later_3 9 rfl rfl)
theorem dX1_later_80 : decode cX1_later 80 = .ok (.invokevirtual 300, 3) := dk_182 1 44 (dk_at dksX1_later_3 12 rfl rfl)
theorem dX1_later_83 : decode cX1_later 83 = .ok (.i2l, 1) := dk_133 (dk_at dksX1_later_3 15 rfl rfl)
theorem dX1_later_84 : decode cX1_later 84 = .ok (.invokevirtual 363, 3) := dk_182 1 107 (dk_at dksX1_later_3 16 rfl rfl)
theorem dX1_later_87 : decode cX1_later 87 = .ok (.aload_n 0, 1) := dk_42 (dk_at dksX1_later_3 19 rfl rfl)
theorem dX1_later_88 : decode cX1_later 88 = .ok (.iload_n 2, 1) := dk_28 (dk_at dksX1_later_3 20 rfl rfl)
theorem dX1_later_89 : decode cX1_later 89 = .ok (.i2l, 1) := dk_133 (dk_at dksX1_later_3 21 rfl rfl)
theorem dX1_later_90 : decode cX1_later 90 = .ok (.invokevirtual 363, 3) := dk_182 1 107 (dk_at dksX1_later_4 0 rfl rfl)
theorem dX1_later_93 : decode cX1_later 93 = .ok (.aload_n 0, 1) := dk_42 (dk_at dksX1_later_4 3 rfl rfl)
theorem dX1_later_94 : decode cX1_later 94 = .ok (.getfield 16, 3) := dk_180 0 16 (dk_at dksX1_later_4 4 rfl rfl)
theorem dX1_later_97 : decode cX1_later 97 = .ok (.getfield 323, 3) := dk_180 1 67 (dk_at dksX1_later_4 7 rfl rfl)
theorem dX1_later_100 : decode cX1_later 100 = .ok (.aload_n 0, 1) := dk_42 (dk_at dksX1_later_4 10 rfl rfl)
theorem dX1_later_101 : decode cX1_later 101 = .ok (.getfield 12, 3) := dk_180 0 12 (dk_at dksX1_later_4 11 rfl rfl)
theorem dX1_later_104 : decode cX1_later 104 = .ok (.getfield 323, 3) := dk_180 1 67 (dk_at dksX1_later_4 14 rfl rfl)
theorem dX1_later_107 : decode cX1_later 107 = .ok (.isub, 1) := dk_100 (dk_at dksX1_later_4 17 rfl rfl)
theorem dX1_later_108 : decode cX1_later 108 = .ok (.ireturn, 1) := dk_172 (dk_at dksX1_later_4 18 rfl rfl)
abbrev cX1_vigil : ByteArray := prog_1_method_51_code
def yX1_vigil : MethodName := ⟨RX1, "vigil", "(I)I"⟩
def dkwX1_vigil_4 : List UInt8 := [132, 5, 1, 167, 255, 197, 42, 3, 181, 1, 104, 42, 29, 133, 182, 1, 107, 28, 172]
abbrev dktX1_vigil_4 : List UInt8 := dkwX1_vigil_4 ++ []
def dkwX1_vigil_3 : List UInt8 := [164, 0, 13, 21, 5, 21, 4, 100, 4, 96, 167, 0, 4, 29, 62, 28, 21, 4, 184, 1, 19, 61]
abbrev dktX1_vigil_3 : List UInt8 := dkwX1_vigil_3 ++ dktX1_vigil_4
def dkwX1_vigil_2 : List UInt8 := [182, 1, 81, 42, 180, 1, 52, 154, 0, 10, 21, 4, 4, 96, 167, 0, 4, 3, 54, 4, 21, 4, 28]
abbrev dktX1_vigil_2 : List UInt8 := dkwX1_vigil_2 ++ dktX1_vigil_3
def dkwX1_vigil_1 : List UInt8 := [182, 1, 48, 3, 61, 2, 62, 3, 54, 4, 3, 54, 5, 21, 5, 27, 162, 0, 59, 42, 42, 180, 0, 16]
abbrev dktX1_vigil_1 : List UInt8 := dkwX1_vigil_1 ++ dktX1_vigil_2
def dkwX1_vigil_0 : List UInt8 := [27, 133, 9, 20, 1, 125, 184, 0, 124, 154, 0, 5, 2, 172, 42, 180, 0, 16, 42, 180, 0, 12]
abbrev dktX1_vigil_0 : List UInt8 := dkwX1_vigil_0 ++ dktX1_vigil_1
theorem dksX1_vigil_0 : cX1_vigil.data.toList.drop 0 = dktX1_vigil_0 := by decide +kernel
theorem dksX1_vigil_1 : cX1_vigil.data.toList.drop 22 = dktX1_vigil_1 := dk_seg dksX1_vigil_0 22 rfl rfl
theorem dksX1_vigil_2 : cX1_vigil.data.toList.drop 46 = dktX1_vigil_2 := dk_seg dksX1_vigil_1 24 rfl rfl
theorem dksX1_vigil_3 : cX1_vigil.data.toList.drop 69 = dktX1_vigil_3 := dk_seg dksX1_vigil_2 23 rfl rfl
theorem dksX1_vigil_4 : cX1_vigil.data.toList.drop 91 = dktX1_vigil_4 := dk_seg dksX1_vigil_3 22 rfl rfl
theorem dX1_vigil_0 : decode cX1_vigil 0 = .ok (.iload_n 1, 1) := dk_27 (dk_at dksX1_vigil_0 0 rfl rfl)
theorem dX1_vigil_1 : decode cX1_vigil 1 = .ok (.i2l, 1) := dk_133 (dk_at dksX1_vigil_0 1 rfl rfl)
theorem dX1_vigil_2 : decode cX1_vigil 2 = .ok (.lconst 0, 1) := dk_9 (dk_at dksX1_vigil_0 2 rfl rfl)
theorem dX1_vigil_3 : decode cX1_vigil 3 = .ok (.ldc2_w 381, 3) := dk_20 1 125 (dk_at dksX1_vigil_0 3 rfl rfl)
theorem dX1_vigil_6 : decode cX1_vigil 6 = .ok (.invokestatic 124, 3) := dk_184 0 124 (dk_at dksX1_vigil_0 6 rfl rfl)
theorem dX1_vigil_9 : decode cX1_vigil 9 = .ok (.ifCond .ne 5, 3) := dk_154 0 5 (dk_at dksX1_vigil_0 9 rfl rfl)
theorem dX1_vigil_12 : decode cX1_vigil 12 = .ok (.iconst (-1), 1) := dk_2 (dk_at dksX1_vigil_0 12 rfl rfl)
theorem dX1_vigil_13 : decode cX1_vigil 13 = .ok (.ireturn, 1) := dk_172 (dk_at dksX1_vigil_0 13 rfl rfl)
theorem dX1_vigil_14 : decode cX1_vigil 14 = .ok (.aload_n 0, 1) := dk_42 (dk_at dksX1_vigil_0 14 rfl rfl)
theorem dX1_vigil_15 : decode cX1_vigil 15 = .ok (.getfield 16, 3) := dk_180 0 16 (dk_at dksX1_vigil_0 15 rfl rfl)
theorem dX1_vigil_18 : decode cX1_vigil 18 = .ok (.aload_n 0, 1) := dk_42 (dk_at dksX1_vigil_0 18 rfl rfl)
theorem dX1_vigil_19 : decode cX1_vigil 19 = .ok (.getfield 12, 3) := dk_180 0 12 (dk_at dksX1_vigil_0 19 rfl rfl)
theorem dX1_vigil_22 : decode cX1_vigil 22 = .ok (.invokevirtual 304, 3) := dk_182 1 48 (dk_at dksX1_vigil_1 0 rfl rfl)
theorem dX1_vigil_25 : decode cX1_vigil 25 = .ok (.iconst 0, 1) := dk_3 (dk_at dksX1_vigil_1 3 rfl rfl)
theorem dX1_vigil_26 : decode cX1_vigil 26 = .ok (.istore_n 2, 1) := dk_61 (dk_at dksX1_vigil_1 4 rfl rfl)
theorem dX1_vigil_27 : decode cX1_vigil 27 = .ok (.iconst (-1), 1) := dk_2 (dk_at dksX1_vigil_1 5 rfl rfl)
theorem dX1_vigil_28 : decode cX1_vigil 28 = .ok (.istore_n 3, 1) := dk_62 (dk_at dksX1_vigil_1 6 rfl rfl)
theorem dX1_vigil_29 : decode cX1_vigil 29 = .ok (.iconst 0, 1) := dk_3 (dk_at dksX1_vigil_1 7 rfl rfl)
theorem dX1_vigil_30 : decode cX1_vigil 30 = .ok (.istore 4, 2) := dk_54 4 (dk_at dksX1_vigil_1 8 rfl rfl)
theorem dX1_vigil_32 : decode cX1_vigil 32 = .ok (.iconst 0, 1) := dk_3 (dk_at dksX1_vigil_1 10 rfl rfl)
theorem dX1_vigil_33 : decode cX1_vigil 33 = .ok (.istore 5, 2) := dk_54 5 (dk_at dksX1_vigil_1 11 rfl rfl)
theorem dX1_vigil_35 : decode cX1_vigil 35 = .ok (.iload 5, 2) := dk_21 5 (dk_at dksX1_vigil_1 13 rfl rfl)
theorem dX1_vigil_37 : decode cX1_vigil 37 = .ok (.iload_n 1, 1) := dk_27 (dk_at dksX1_vigil_1 15 rfl rfl)
theorem dX1_vigil_38 : decode cX1_vigil 38 = .ok (.if_icmp .ge 59, 3) := dk_162 0 59 (dk_at dksX1_vigil_1 16 rfl rfl)
theorem dX1_vigil_41 : decode cX1_vigil 41 = .ok (.aload_n 0, 1) := dk_42 (dk_at dksX1_vigil_1 19 rfl rfl)
theorem dX1_vigil_42 : decode cX1_vigil 42 = .ok (.aload_n 0, 1) := dk_42 (dk_at dksX1_vigil_1 20 rfl rfl)
theorem dX1_vigil_43 : decode cX1_vigil 43 = .ok (.getfield 16, 3) := dk_180 0 16 (dk_at dksX1_vigil_1 21 rfl rfl)
theorem dX1_vigil_46 : decode cX1_vigil 46 = .ok (.invokevirtual 337, 3) := dk_182 1 81 (dk_at dksX1_vigil_2 0 rfl rfl)
theorem dX1_vigil_49 : decode cX1_vigil 49 = .ok (.aload_n 0, 1) := dk_42 (dk_at dksX1_vigil_2 3 rfl rfl)
theorem dX1_vigil_50 : decode cX1_vigil 50 = .ok (.getfield 308, 3) := dk_180 1 52 (dk_at dksX1_vigil_2 4 rfl rfl)
theorem dX1_vigil_53 : decode cX1_vigil 53 = .ok (.ifCond .ne 10, 3) := dk_154 0 10 (dk_at dksX1_vigil_2 7 rfl rfl)
theorem dX1_vigil_56 : decode cX1_vigil 56 = .ok (.iload 4, 2) := dk_21 4 (dk_at dksX1_vigil_2 10 rfl rfl)
theorem dX1_vigil_58 : decode cX1_vigil 58 = .ok (.iconst 1, 1) := dk_4 (dk_at dksX1_vigil_2 12 rfl rfl)
theorem dX1_vigil_59 : decode cX1_vigil 59 = .ok (.iadd, 1) := dk_96 (dk_at dksX1_vigil_2 13 rfl rfl)
theorem dX1_vigil_60 : decode cX1_vigil 60 = .ok (.goto 4, 3) := dk_167 0 4 (dk_at dksX1_vigil_2 14 rfl rfl)
theorem dX1_vigil_63 : decode cX1_vigil 63 = .ok (.iconst 0, 1) := dk_3 (dk_at dksX1_vigil_2 17 rfl rfl)
theorem dX1_vigil_64 : decode cX1_vigil 64 = .ok (.istore 4, 2) := dk_54 4 (dk_at dksX1_vigil_2 18 rfl rfl)
theorem dX1_vigil_66 : decode cX1_vigil 66 = .ok (.iload 4, 2) := dk_21 4 (dk_at dksX1_vigil_2 20 rfl rfl)
theorem dX1_vigil_68 : decode cX1_vigil 68 = .ok (.iload_n 2, 1) := dk_28 (dk_at dksX1_vigil_2 22 rfl rfl)
theorem dX1_vigil_69 : decode cX1_vigil 69 = .ok (.if_icmp .le 13, 3) := dk_164 0 13 (dk_at dksX1_vigil_3 0 rfl rfl)
theorem dX1_vigil_72 : decode cX1_vigil 72 = .ok (.iload 5, 2) := dk_21 5 (dk_at dksX1_vigil_3 3 rfl rfl)
theorem dX1_vigil_74 : decode cX1_vigil 74 = .ok (.iload 4, 2) := dk_21 4 (dk_at dksX1_vigil_3 5 rfl rfl)
theorem dX1_vigil_76 : decode cX1_vigil 76 = .ok (.isub, 1) := dk_100 (dk_at dksX1_vigil_3 7 rfl rfl)
theorem dX1_vigil_77 : decode cX1_vigil 77 = .ok (.iconst 1, 1) := dk_4 (dk_at dksX1_vigil_3 8 rfl rfl)
theorem dX1_vigil_78 : decode cX1_vigil 78 = .ok (.iadd, 1) := dk_96 (dk_at dksX1_vigil_3 9 rfl rfl)
theorem dX1_vigil_79 : decode cX1_vigil 79 = .ok (.goto 4, 3) := dk_167 0 4 (dk_at dksX1_vigil_3 10 rfl rfl)
theorem dX1_vigil_82 : decode cX1_vigil 82 = .ok (.iload_n 3, 1) := dk_29 (dk_at dksX1_vigil_3 13 rfl rfl)
theorem dX1_vigil_83 : decode cX1_vigil 83 = .ok (.istore_n 3, 1) := dk_62 (dk_at dksX1_vigil_3 14 rfl rfl)
theorem dX1_vigil_84 : decode cX1_vigil 84 = .ok (.iload_n 2, 1) := dk_28 (dk_at dksX1_vigil_3 15 rfl rfl)
theorem dX1_vigil_85 : decode cX1_vigil 85 = .ok (.iload 4, 2) := dk_21 4 (dk_at dksX1_vigil_3 16 rfl rfl)
theorem dX1_vigil_87 : decode cX1_vigil 87 = .ok (.invokestatic 275, 3) := dk_184 1 19 (dk_at dksX1_vigil_3 18 rfl rfl)
theorem dX1_vigil_90 : decode cX1_vigil 90 = .ok (.istore_n 2, 1) := dk_61 (dk_at dksX1_vigil_3 21 rfl rfl)
theorem dX1_vigil_91 : decode cX1_vigil 91 = .ok (.iinc 5 1, 3) := dk_132 5 1 (dk_at dksX1_vigil_4 0 rfl rfl)
theorem dX1_vigil_94 : decode cX1_vigil 94 = .ok (.goto (-59), 3) := dk_167 255 197 (dk_at dksX1_vigil_4 3 rfl rfl)
theorem dX1_vigil_97 : decode cX1_vigil 97 = .ok (.aload_n 0, 1) := dk_42 (dk_at dksX1_vigil_4 6 rfl rfl)
theorem dX1_vigil_98 : decode cX1_vigil 98 = .ok (.iconst 0, 1) := dk_3 (dk_at dksX1_vigil_4 7 rfl rfl)
theorem dX1_vigil_99 : decode cX1_vigil 99 = .ok (.putfield 360, 3) := dk_181 1 104 (dk_at dksX1_vigil_4 8 rfl rfl)
theorem dX1_vigil_102 : decode cX1_vigil 102 = .ok (.aload_n 0, 1) := dk_42 (dk_at dksX1_vigil_4 11 rfl rfl)
theorem dX1_vigil_103 : decode cX1_vigil 103 = .ok (.iload_n 3, 1) := dk_29 (dk_at dksX1_vigil_4 12 rfl rfl)
theorem dX1_vigil_104 : decode cX1_vigil 104 = .ok (.i2l, 1) := dk_133 (dk_at dksX1_vigil_4 13 rfl rfl)
theorem dX1_vigil_105 : decode cX1_vigil 105 = .ok (.invokevirtual 363, 3) := dk_182 1 107 (dk_at dksX1_vigil_4 14 rfl rfl)
theorem dX1_vigil_108 : decode cX1_vigil 108 = .ok (.iload_n 2, 1) := dk_28 (dk_at dksX1_vigil_4 17 rfl rfl)
theorem dX1_vigil_109 : decode cX1_vigil 109 = .ok (.ireturn, 1) := dk_172 (dk_at dksX1_vigil_4 18 rfl rfl)
abbrev cX1_trade : ByteArray := prog_1_method_52_code
def yX1_trade : MethodName := ⟨RX1, "trade", "()I"⟩
def dkwX1_trade_7 : List UInt8 := [181, 1, 104, 42, 28, 133, 182, 1, 107, 42, 29, 133, 182, 1, 107, 42, 27, 133, 182, 1, 107, 21, 4, 172]
abbrev dktX1_trade_7 : List UInt8 := dkwX1_trade_7 ++ []
def dkwX1_trade_6 : List UInt8 := [54, 4, 21, 5, 61, 21, 6, 62, 132, 6, 1, 167, 255, 156, 132, 5, 1, 167, 255, 135, 42, 3]
abbrev dktX1_trade_6 : List UInt8 := dkwX1_trade_6 ++ dktX1_trade_7
def dkwX1_trade_5 : List UInt8 := [182, 1, 64, 42, 180, 1, 52, 184, 1, 70, 54, 7, 21, 7, 21, 4, 161, 0, 6, 167, 0, 13, 21, 7]
abbrev dktX1_trade_5 : List UInt8 := dkwX1_trade_5 ++ dktX1_trade_6
def dkwX1_trade_4 : List UInt8 := [180, 0, 16, 180, 1, 58, 21, 6, 42, 180, 0, 12, 180, 1, 58, 21, 5, 46, 79, 42, 42, 180, 0, 16]
abbrev dktX1_trade_4 : List UInt8 := dkwX1_trade_4 ++ dktX1_trade_5
def dkwX1_trade_3 : List UInt8 := [182, 1, 48, 42, 180, 0, 16, 180, 1, 58, 21, 5, 42, 180, 0, 12, 180, 1, 58, 21, 6, 46, 79, 42]
abbrev dktX1_trade_3 : List UInt8 := dkwX1_trade_3 ++ dktX1_trade_4
def dkwX1_trade_2 : List UInt8 := [21, 5, 4, 96, 54, 6, 21, 6, 42, 180, 0, 29, 162, 0, 97, 42, 180, 0, 16, 42, 180, 0, 12]
abbrev dktX1_trade_2 : List UInt8 := dkwX1_trade_2 ++ dktX1_trade_3
def dkwX1_trade_1 : List UInt8 := [184, 1, 70, 60, 3, 61, 3, 62, 18, 95, 54, 4, 3, 54, 5, 21, 5, 42, 180, 0, 29, 162, 0, 118]
abbrev dktX1_trade_1 : List UInt8 := dkwX1_trade_1 ++ dktX1_trade_2
def dkwX1_trade_0 : List UInt8 := [42, 180, 0, 29, 4, 160, 0, 6, 16, 254, 172, 42, 42, 180, 0, 12, 182, 1, 64, 42, 180, 1, 52]
abbrev dktX1_trade_0 : List UInt8 := dkwX1_trade_0 ++ dktX1_trade_1
theorem dksX1_trade_0 : cX1_trade.data.toList.drop 0 = dktX1_trade_0 := by decide +kernel
theorem dksX1_trade_1 : cX1_trade.data.toList.drop 23 = dktX1_trade_1 := dk_seg dksX1_trade_0 23 rfl rfl
theorem dksX1_trade_2 : cX1_trade.data.toList.drop 47 = dktX1_trade_2 := dk_seg dksX1_trade_1 24 rfl rfl
theorem dksX1_trade_3 : cX1_trade.data.toList.drop 70 = dktX1_trade_3 := dk_seg dksX1_trade_2 23 rfl rfl
theorem dksX1_trade_4 : cX1_trade.data.toList.drop 94 = dktX1_trade_4 := dk_seg dksX1_trade_3 24 rfl rfl
theorem dksX1_trade_5 : cX1_trade.data.toList.drop 118 = dktX1_trade_5 := dk_seg dksX1_trade_4 24 rfl rfl
theorem dksX1_trade_6 : cX1_trade.data.toList.drop 142 = dktX1_trade_6 := dk_seg dksX1_trade_5 24 rfl rfl
theorem dksX1_trade_7 : cX1_trade.data.toList.drop 164 = dktX1_trade_7 := dk_seg dksX1_trade_6 22 rfl rfl
theorem dX1_trade_0 : decode cX1_trade 0 = .ok (.aload_n 0, 1) := dk_42 (dk_at dksX1_trade_0 0 rfl rfl)
theorem dX1_trade_1 : decode cX1_trade 1 = .ok (.getfield 29, 3) := dk_180 0 29 (dk_at dksX1_trade_0 1 rfl rfl)
theorem dX1_trade_4 : decode cX1_trade 4 = .ok (.iconst 1, 1) := dk_4 (dk_at dksX1_trade_0 4 rfl rfl)
theorem dX1_trade_5 : decode cX1_trade 5 = .ok (.if_icmp .ne 6, 3) := dk_160 0 6 (dk_at dksX1_trade_0 5 rfl rfl)
theorem dX1_trade_8 : decode cX1_trade 8 = .ok (.bipush (-2), 2) := dk_16 254 (dk_at dksX1_trade_0 8 rfl rfl)
theorem dX1_trade_10 : decode cX1_trade 10 = .ok (.ireturn, 1) := dk_172 (dk_at dksX1_trade_0 10 rfl rfl)
theorem dX1_trade_11 : decode cX1_trade 11 = .ok (.aload_n 0, 1) := dk_42 (dk_at dksX1_trade_0 11 rfl rfl)
theorem dX1_trade_12 : decode cX1_trade 12 = .ok (.aload_n 0, 1) := dk_42 (dk_at dksX1_trade_0 12 rfl rfl)
theorem dX1_trade_13 : decode cX1_trade 13 = .ok (.getfield 12, 3) := dk_180 0 12 (dk_at dksX1_trade_0 13 rfl rfl)
theorem dX1_trade_16 : decode cX1_trade 16 = .ok (.invokevirtual 320, 3) := dk_182 1 64 (dk_at dksX1_trade_0 16 rfl rfl)
theorem dX1_trade_19 : decode cX1_trade 19 = .ok (.aload_n 0, 1) := dk_42 (dk_at dksX1_trade_0 19 rfl rfl)
theorem dX1_trade_20 : decode cX1_trade 20 = .ok (.getfield 308, 3) := dk_180 1 52 (dk_at dksX1_trade_0 20 rfl rfl)
theorem dX1_trade_23 : decode cX1_trade 23 = .ok (.invokestatic 326, 3) := dk_184 1 70 (dk_at dksX1_trade_1 0 rfl rfl)
theorem dX1_trade_26 : decode cX1_trade 26 = .ok (.istore_n 1, 1) := dk_60 (dk_at dksX1_trade_1 3 rfl rfl)
theorem dX1_trade_27 : decode cX1_trade 27 = .ok (.iconst 0, 1) := dk_3 (dk_at dksX1_trade_1 4 rfl rfl)
theorem dX1_trade_28 : decode cX1_trade 28 = .ok (.istore_n 2, 1) := dk_61 (dk_at dksX1_trade_1 5 rfl rfl)
theorem dX1_trade_29 : decode cX1_trade 29 = .ok (.iconst 0, 1) := dk_3 (dk_at dksX1_trade_1 6 rfl rfl)
theorem dX1_trade_30 : decode cX1_trade 30 = .ok (.istore_n 3, 1) := dk_62 (dk_at dksX1_trade_1 7 rfl rfl)
theorem dX1_trade_31 : decode cX1_trade 31 = .ok (.ldc 95, 2) := dk_18 95 (dk_at dksX1_trade_1 8 rfl rfl)
theorem dX1_trade_33 : decode cX1_trade 33 = .ok (.istore 4, 2) := dk_54 4 (dk_at dksX1_trade_1 10 rfl rfl)
theorem dX1_trade_35 : decode cX1_trade 35 = .ok (.iconst 0, 1) := dk_3 (dk_at dksX1_trade_1 12 rfl rfl)
theorem dX1_trade_36 : decode cX1_trade 36 = .ok (.istore 5, 2) := dk_54 5 (dk_at dksX1_trade_1 13 rfl rfl)
theorem dX1_trade_38 : decode cX1_trade 38 = .ok (.iload 5, 2) := dk_21 5 (dk_at dksX1_trade_1 15 rfl rfl)
theorem dX1_trade_40 : decode cX1_trade 40 = .ok (.aload_n 0, 1) := dk_42 (dk_at dksX1_trade_1 17 rfl rfl)
theorem dX1_trade_41 : decode cX1_trade 41 = .ok (.getfield 29, 3) := dk_180 0 29 (dk_at dksX1_trade_1 18 rfl rfl)
theorem dX1_trade_44 : decode cX1_trade 44 = .ok (.if_icmp .ge 118, 3) := dk_162 0 118 (dk_at dksX1_trade_1 21 rfl rfl)
theorem dX1_trade_47 : decode cX1_trade 47 = .ok (.iload 5, 2) := dk_21 5 (dk_at dksX1_trade_2 0 rfl rfl)
theorem dX1_trade_49 : decode cX1_trade 49 = .ok (.iconst 1, 1) := dk_4 (dk_at dksX1_trade_2 2 rfl rfl)
theorem dX1_trade_50 : decode cX1_trade 50 = .ok (.iadd, 1) := dk_96 (dk_at dksX1_trade_2 3 rfl rfl)
theorem dX1_trade_51 : decode cX1_trade 51 = .ok (.istore 6, 2) := dk_54 6 (dk_at dksX1_trade_2 4 rfl rfl)
theorem dX1_trade_53 : decode cX1_trade 53 = .ok (.iload 6, 2) := dk_21 6 (dk_at dksX1_trade_2 6 rfl rfl)
theorem dX1_trade_55 : decode cX1_trade 55 = .ok (.aload_n 0, 1) := dk_42 (dk_at dksX1_trade_2 8 rfl rfl)
theorem dX1_trade_56 : decode cX1_trade 56 = .ok (.getfield 29, 3) := dk_180 0 29 (dk_at dksX1_trade_2 9 rfl rfl)
theorem dX1_trade_59 : decode cX1_trade 59 = .ok (.if_icmp .ge 97, 3) := dk_162 0 97 (dk_at dksX1_trade_2 12 rfl rfl)
theorem dX1_trade_62 : decode cX1_trade 62 = .ok (.aload_n 0, 1) := dk_42 (dk_at dksX1_trade_2 15 rfl rfl)
theorem dX1_trade_63 : decode cX1_trade 63 = .ok (.getfield 16, 3) := dk_180 0 16 (dk_at dksX1_trade_2 16 rfl rfl)
theorem dX1_trade_66 : decode cX1_trade 66 = .ok (.aload_n 0, 1) := dk_42 (dk_at dksX1_trade_2 19 rfl rfl)
theorem dX1_trade_67 : decode cX1_trade 67 = .ok (.getfield 12, 3) := dk_180 0 12 (dk_at dksX1_trade_2 20 rfl rfl)
theorem dX1_trade_70 : decode cX1_trade 70 = .ok (.invokevirtual 304, 3) := dk_182 1 48 (dk_at dksX1_trade_3 0 rfl rfl)
theorem dX1_trade_73 : decode cX1_trade 73 = .ok (.aload_n 0, 1) := dk_42 (dk_at dksX1_trade_3 3 rfl rfl)
theorem dX1_trade_74 : decode cX1_trade 74 = .ok (.getfield 16, 3) := dk_180 0 16 (dk_at dksX1_trade_3 4 rfl rfl)
theorem dX1_trade_77 : decode cX1_trade 77 = .ok (.getfield 314, 3) := dk_180 1 58 (dk_at dksX1_trade_3 7 rfl rfl)
theorem dX1_trade_80 : decode cX1_trade 80 = .ok (.iload 5, 2) := dk_21 5 (dk_at dksX1_trade_3 10 rfl rfl)
theorem dX1_trade_82 : decode cX1_trade 82 = .ok (.aload_n 0, 1) := dk_42 (dk_at dksX1_trade_3 12 rfl rfl)
theorem dX1_trade_83 : decode cX1_trade 83 = .ok (.getfield 12, 3) := dk_180 0 12 (dk_at dksX1_trade_3 13 rfl rfl)
theorem dX1_trade_86 : decode cX1_trade 86 = .ok (.getfield 314, 3) := dk_180 1 58 (dk_at dksX1_trade_3 16 rfl rfl)
theorem dX1_trade_89 : decode cX1_trade 89 = .ok (.iload 6, 2) := dk_21 6 (dk_at dksX1_trade_3 19 rfl rfl)
theorem dX1_trade_91 : decode cX1_trade 91 = .ok (.iaload, 1) := dk_46 (dk_at dksX1_trade_3 21 rfl rfl)
theorem dX1_trade_92 : decode cX1_trade 92 = .ok (.iastore, 1) := dk_79 (dk_at dksX1_trade_3 22 rfl rfl)
theorem dX1_trade_93 : decode cX1_trade 93 = .ok (.aload_n 0, 1) := dk_42 (dk_at dksX1_trade_3 23 rfl rfl)
theorem dX1_trade_94 : decode cX1_trade 94 = .ok (.getfield 16, 3) := dk_180 0 16 (dk_at dksX1_trade_4 0 rfl rfl)
theorem dX1_trade_97 : decode cX1_trade 97 = .ok (.getfield 314, 3) := dk_180 1 58 (dk_at dksX1_trade_4 3 rfl rfl)
theorem dX1_trade_100 : decode cX1_trade 100 = .ok (.iload 6, 2) := dk_21 6 (dk_at dksX1_trade_4 6 rfl rfl)
theorem dX1_trade_102 : decode cX1_trade 102 = .ok (.aload_n 0, 1) := dk_42 (dk_at dksX1_trade_4 8 rfl rfl)
theorem dX1_trade_103 : decode cX1_trade 103 = .ok (.getfield 12, 3) := dk_180 0 12 (dk_at dksX1_trade_4 9 rfl rfl)
theorem dX1_trade_106 : decode cX1_trade 106 = .ok (.getfield 314, 3) := dk_180 1 58 (dk_at dksX1_trade_4 12 rfl rfl)
theorem dX1_trade_109 : decode cX1_trade 109 = .ok (.iload 5, 2) := dk_21 5 (dk_at dksX1_trade_4 15 rfl rfl)
theorem dX1_trade_111 : decode cX1_trade 111 = .ok (.iaload, 1) := dk_46 (dk_at dksX1_trade_4 17 rfl rfl)
theorem dX1_trade_112 : decode cX1_trade 112 = .ok (.iastore, 1) := dk_79 (dk_at dksX1_trade_4 18 rfl rfl)
theorem dX1_trade_113 : decode cX1_trade 113 = .ok (.aload_n 0, 1) := dk_42 (dk_at dksX1_trade_4 19 rfl rfl)
theorem dX1_trade_114 : decode cX1_trade 114 = .ok (.aload_n 0, 1) := dk_42 (dk_at dksX1_trade_4 20 rfl rfl)
theorem dX1_trade_115 : decode cX1_trade 115 = .ok (.getfield 16, 3) := dk_180 0 16 (dk_at dksX1_trade_4 21 rfl rfl)
theorem dX1_trade_118 : decode cX1_trade 118 = .ok (.invokevirtual 320, 3) := dk_182 1 64 (dk_at dksX1_trade_5 0 rfl rfl)
theorem dX1_trade_121 : decode cX1_trade 121 = .ok (.aload_n 0, 1) := dk_42 (dk_at dksX1_trade_5 3 rfl rfl)
theorem dX1_trade_122 : decode cX1_trade 122 = .ok (.getfield 308, 3) := dk_180 1 52 (dk_at dksX1_trade_5 4 rfl rfl)
theorem dX1_trade_125 : decode cX1_trade 125 = .ok (.invokestatic 326, 3) := dk_184 1 70 (dk_at dksX1_trade_5 7 rfl rfl)
theorem dX1_trade_128 : decode cX1_trade 128 = .ok (.istore 7, 2) := dk_54 7 (dk_at dksX1_trade_5 10 rfl rfl)
theorem dX1_trade_130 : decode cX1_trade 130 = .ok (.iload 7, 2) := dk_21 7 (dk_at dksX1_trade_5 12 rfl rfl)
theorem dX1_trade_132 : decode cX1_trade 132 = .ok (.iload 4, 2) := dk_21 4 (dk_at dksX1_trade_5 14 rfl rfl)
theorem dX1_trade_134 : decode cX1_trade 134 = .ok (.if_icmp .lt 6, 3) := dk_161 0 6 (dk_at dksX1_trade_5 16 rfl rfl)
theorem dX1_trade_137 : decode cX1_trade 137 = .ok (.goto 13, 3) := dk_167 0 13 (dk_at dksX1_trade_5 19 rfl rfl)
theorem dX1_trade_140 : decode cX1_trade 140 = .ok (.iload 7, 2) := dk_21 7 (dk_at dksX1_trade_5 22 rfl rfl)
theorem dX1_trade_142 : decode cX1_trade 142 = .ok (.istore 4, 2) := dk_54 4 (dk_at dksX1_trade_6 0 rfl rfl)
theorem dX1_trade_144 : decode cX1_trade 144 = .ok (.iload 5, 2) := dk_21 5 (dk_at dksX1_trade_6 2 rfl rfl)
theorem dX1_trade_146 : decode cX1_trade 146 = .ok (.istore_n 2, 1) := dk_61 (dk_at dksX1_trade_6 4 rfl rfl)
theorem dX1_trade_147 : decode cX1_trade 147 = .ok (.iload 6, 2) := dk_21 6 (dk_at dksX1_trade_6 5 rfl rfl)
theorem dX1_trade_149 : decode cX1_trade 149 = .ok (.istore_n 3, 1) := dk_62 (dk_at dksX1_trade_6 7 rfl rfl)
theorem dX1_trade_150 : decode cX1_trade 150 = .ok (.iinc 6 1, 3) := dk_132 6 1 (dk_at dksX1_trade_6 8 rfl rfl)
theorem dX1_trade_153 : decode cX1_trade 153 = .ok (.goto (-100), 3) := dk_167 255 156 (dk_at dksX1_trade_6 11 rfl rfl)
theorem dX1_trade_156 : decode cX1_trade 156 = .ok (.iinc 5 1, 3) := dk_132 5 1 (dk_at dksX1_trade_6 14 rfl rfl)
theorem dX1_trade_159 : decode cX1_trade 159 = .ok (.goto (-121), 3) := dk_167 255 135 (dk_at dksX1_trade_6 17 rfl rfl)
theorem dX1_trade_162 : decode cX1_trade 162 = .ok (.aload_n 0, 1) := dk_42 (dk_at dksX1_trade_6 20 rfl rfl)
theorem dX1_trade_163 : decode cX1_trade 163 = .ok (.iconst 0, 1) := dk_3 (dk_at dksX1_trade_6 21 rfl rfl)
theorem dX1_trade_164 : decode cX1_trade 164 = .ok (.putfield 360, 3) := dk_181 1 104 (dk_at dksX1_trade_7 0 rfl rfl)
theorem dX1_trade_167 : decode cX1_trade 167 = .ok (.aload_n 0, 1) := dk_42 (dk_at dksX1_trade_7 3 rfl rfl)
theorem dX1_trade_168 : decode cX1_trade 168 = .ok (.iload_n 2, 1) := dk_28 (dk_at dksX1_trade_7 4 rfl rfl)
theorem dX1_trade_169 : decode cX1_trade 169 = .ok (.i2l, 1) := dk_133 (dk_at dksX1_trade_7 5 rfl rfl)
theorem dX1_trade_170 : decode cX1_trade 170 = .ok (.invokevirtual 363, 3) := dk_182 1 107 (dk_at dksX1_trade_7 6 rfl rfl)
theorem dX1_trade_173 : decode cX1_trade 173 = .ok (.aload_n 0, 1) := dk_42 (dk_at dksX1_trade_7 9 rfl rfl)
theorem dX1_trade_174 : decode cX1_trade 174 = .ok (.iload_n 3, 1) := dk_29 (dk_at dksX1_trade_7 10 rfl rfl)
theorem dX1_trade_175 : decode cX1_trade 175 = .ok (.i2l, 1) := dk_133 (dk_at dksX1_trade_7 11 rfl rfl)
theorem dX1_trade_176 : decode cX1_trade 176 = .ok (.invokevirtual 363, 3) := dk_182 1 107 (dk_at dksX1_trade_7 12 rfl rfl)
theorem dX1_trade_179 : decode cX1_trade 179 = .ok (.aload_n 0, 1) := dk_42 (dk_at dksX1_trade_7 15 rfl rfl)
theorem dX1_trade_180 : decode cX1_trade 180 = .ok (.iload_n 1, 1) := dk_27 (dk_at dksX1_trade_7 16 rfl rfl)
theorem dX1_trade_181 : decode cX1_trade 181 = .ok (.i2l, 1) := dk_133 (dk_at dksX1_trade_7 17 rfl rfl)
theorem dX1_trade_182 : decode cX1_trade 182 = .ok (.invokevirtual 363, 3) := dk_182 1 107 (dk_at dksX1_trade_7 18 rfl rfl)
theorem dX1_trade_185 : decode cX1_trade 185 = .ok (.iload 4, 2) := dk_21 4 (dk_at dksX1_trade_7 21 rfl rfl)
theorem dX1_trade_187 : decode cX1_trade 187 = .ok (.ireturn, 1) := dk_172 (dk_at dksX1_trade_7 23 rfl rfl)
abbrev cX1_easiest : ByteArray := prog_1_method_62_code
def yX1_easiest : MethodName := ⟨RX1, "easiest", "()I"⟩
def dkwX1_easiest_1 : List UInt8 := [27, 172]
abbrev dktX1_easiest_1 : List UInt8 := dkwX1_easiest_1 ++ []
def dkwX1_easiest_0 : List UInt8 := [42, 3, 182, 1, 156, 60, 27, 18, 95, 160, 0, 6, 16, 254, 172, 42, 27, 182, 1, 159, 42, 182, 1, 162]
abbrev dktX1_easiest_0 : List UInt8 := dkwX1_easiest_0 ++ dktX1_easiest_1
theorem dksX1_easiest_0 : cX1_easiest.data.toList.drop 0 = dktX1_easiest_0 := by decide +kernel
theorem dksX1_easiest_1 : cX1_easiest.data.toList.drop 24 = dktX1_easiest_1 := dk_seg dksX1_easiest_0 24 rfl rfl
theorem dX1_easiest_0 : decode cX1_easiest 0 = .ok (.aload_n 0, 1) := dk_42 (dk_at dksX1_easiest_0 0 rfl rfl)
theorem dX1_easiest_1 : decode cX1_easiest 1 = .ok (.iconst 0, 1) := dk_3 (dk_at dksX1_easiest_0 1 rfl rfl)
theorem dX1_easiest_2 : decode cX1_easiest 2 = .ok (.invokevirtual 412, 3) := dk_182 1 156 (dk_at dksX1_easiest_0 2 rfl rfl)
theorem dX1_easiest_5 : decode cX1_easiest 5 = .ok (.istore_n 1, 1) := dk_60 (dk_at dksX1_easiest_0 5 rfl rfl)
theorem dX1_easiest_6 : decode cX1_easiest 6 = .ok (.iload_n 1, 1) := dk_27 (dk_at dksX1_easiest_0 6 rfl rfl)
theorem dX1_easiest_7 : decode cX1_easiest 7 = .ok (.ldc 95, 2) := dk_18 95 (dk_at dksX1_easiest_0 7 rfl rfl)
theorem dX1_easiest_9 : decode cX1_easiest 9 = .ok (.if_icmp .ne 6, 3) := dk_160 0 6 (dk_at dksX1_easiest_0 9 rfl rfl)
theorem dX1_easiest_12 : decode cX1_easiest 12 = .ok (.bipush (-2), 2) := dk_16 254 (dk_at dksX1_easiest_0 12 rfl rfl)
theorem dX1_easiest_14 : decode cX1_easiest 14 = .ok (.ireturn, 1) := dk_172 (dk_at dksX1_easiest_0 14 rfl rfl)
theorem dX1_easiest_15 : decode cX1_easiest 15 = .ok (.aload_n 0, 1) := dk_42 (dk_at dksX1_easiest_0 15 rfl rfl)
theorem dX1_easiest_16 : decode cX1_easiest 16 = .ok (.iload_n 1, 1) := dk_27 (dk_at dksX1_easiest_0 16 rfl rfl)
theorem dX1_easiest_17 : decode cX1_easiest 17 = .ok (.invokevirtual 415, 3) := dk_182 1 159 (dk_at dksX1_easiest_0 17 rfl rfl)
theorem dX1_easiest_20 : decode cX1_easiest 20 = .ok (.aload_n 0, 1) := dk_42 (dk_at dksX1_easiest_0 20 rfl rfl)
theorem dX1_easiest_21 : decode cX1_easiest 21 = .ok (.invokevirtual 418, 3) := dk_182 1 162 (dk_at dksX1_easiest_0 21 rfl rfl)
theorem dX1_easiest_24 : decode cX1_easiest 24 = .ok (.iload_n 1, 1) := dk_27 (dk_at dksX1_easiest_1 0 rfl rfl)
theorem dX1_easiest_25 : decode cX1_easiest 25 = .ok (.ireturn, 1) := dk_172 (dk_at dksX1_easiest_1 1 rfl rfl)
abbrev cX1_easiestBut : ByteArray := prog_1_method_61_code
def yX1_easiestBut : MethodName := ⟨RX1, "easiestBut", "(I)I"⟩
def dkwX1_easiestBut_0 : List UInt8 := [42, 27, 182, 1, 150, 42, 182, 1, 153, 42, 182, 1, 147, 172]
abbrev dktX1_easiestBut_0 : List UInt8 := dkwX1_easiestBut_0 ++ []
theorem dksX1_easiestBut_0 : cX1_easiestBut.data.toList.drop 0 = dktX1_easiestBut_0 := by decide +kernel
theorem dX1_easiestBut_0 : decode cX1_easiestBut 0 = .ok (.aload_n 0, 1) := dk_42 (dk_at dksX1_easiestBut_0 0 rfl rfl)
theorem dX1_easiestBut_1 : decode cX1_easiestBut 1 = .ok (.iload_n 1, 1) := dk_27 (dk_at dksX1_easiestBut_0 1 rfl rfl)
theorem dX1_easiestBut_2 : decode cX1_easiestBut 2 = .ok (.invokevirtual 406, 3) := dk_182 1 150 (dk_at dksX1_easiestBut_0 2 rfl rfl)
theorem dX1_easiestBut_5 : decode cX1_easiestBut 5 = .ok (.aload_n 0, 1) := dk_42 (dk_at dksX1_easiestBut_0 5 rfl rfl)
theorem dX1_easiestBut_6 : decode cX1_easiestBut 6 = .ok (.invokevirtual 409, 3) := dk_182 1 153 (dk_at dksX1_easiestBut_0 6 rfl rfl)
theorem dX1_easiestBut_9 : decode cX1_easiestBut 9 = .ok (.aload_n 0, 1) := dk_42 (dk_at dksX1_easiestBut_0 9 rfl rfl)
theorem dX1_easiestBut_10 : decode cX1_easiestBut 10 = .ok (.invokevirtual 403, 3) := dk_182 1 147 (dk_at dksX1_easiestBut_0 10 rfl rfl)
theorem dX1_easiestBut_13 : decode cX1_easiestBut 13 = .ok (.ireturn, 1) := dk_172 (dk_at dksX1_easiestBut_0 13 rfl rfl)
abbrev cX1_opens : ByteArray := prog_1_method_53_code
def yX1_opens : MethodName := ⟨RX1, "opens", "(I)V"⟩
def dkwX1_opens_3 : List UInt8 := [180, 0, 79, 28, 3, 79, 132, 2, 1, 167, 255, 240, 177]
abbrev dktX1_opens_3 : List UInt8 := dkwX1_opens_3 ++ []
def dkwX1_opens_2 : List UInt8 := [46, 42, 182, 1, 130, 126, 79, 132, 2, 1, 167, 255, 202, 3, 61, 28, 16, 64, 162, 0, 16, 42]
abbrev dktX1_opens_2 : List UInt8 := dkwX1_opens_2 ++ dktX1_opens_3
def dkwX1_opens_1 : List UInt8 := [180, 0, 12, 180, 0, 200, 27, 128, 28, 184, 1, 25, 153, 0, 7, 3, 167, 0, 14, 42, 180, 0, 26, 28]
abbrev dktX1_opens_1 : List UInt8 := dkwX1_opens_1 ++ dktX1_opens_2
def dkwX1_opens_0 : List UInt8 := [3, 61, 28, 16, 8, 162, 0, 54, 42, 180, 0, 73, 28, 28, 42, 180, 0, 121, 162, 0, 19, 42]
abbrev dktX1_opens_0 : List UInt8 := dkwX1_opens_0 ++ dktX1_opens_1
theorem dksX1_opens_0 : cX1_opens.data.toList.drop 0 = dktX1_opens_0 := by decide +kernel
theorem dksX1_opens_1 : cX1_opens.data.toList.drop 22 = dktX1_opens_1 := dk_seg dksX1_opens_0 22 rfl rfl
theorem dksX1_opens_2 : cX1_opens.data.toList.drop 46 = dktX1_opens_2 := dk_seg dksX1_opens_1 24 rfl rfl
theorem dksX1_opens_3 : cX1_opens.data.toList.drop 68 = dktX1_opens_3 := dk_seg dksX1_opens_2 22 rfl rfl
theorem dX1_opens_0 : decode cX1_opens 0 = .ok (.iconst 0, 1) := dk_3 (dk_at dksX1_opens_0 0 rfl rfl)
theorem dX1_opens_1 : decode cX1_opens 1 = .ok (.istore_n 2, 1) := dk_61 (dk_at dksX1_opens_0 1 rfl rfl)
theorem dX1_opens_2 : decode cX1_opens 2 = .ok (.iload_n 2, 1) := dk_28 (dk_at dksX1_opens_0 2 rfl rfl)
theorem dX1_opens_3 : decode cX1_opens 3 = .ok (.bipush 8, 2) := dk_16 8 (dk_at dksX1_opens_0 3 rfl rfl)
theorem dX1_opens_5 : decode cX1_opens 5 = .ok (.if_icmp .ge 54, 3) := dk_162 0 54 (dk_at dksX1_opens_0 5 rfl rfl)
theorem dX1_opens_8 : decode cX1_opens 8 = .ok (.aload_n 0, 1) := dk_42 (dk_at dksX1_opens_0 8 rfl rfl)
theorem dX1_opens_9 : decode cX1_opens 9 = .ok (.getfield 73, 3) := dk_180 0 73 (dk_at dksX1_opens_0 9 rfl rfl)
theorem dX1_opens_12 : decode cX1_opens 12 = .ok (.iload_n 2, 1) := dk_28 (dk_at dksX1_opens_0 12 rfl rfl)
theorem dX1_opens_13 : decode cX1_opens 13 = .ok (.iload_n 2, 1) := dk_28 (dk_at dksX1_opens_0 13 rfl rfl)
theorem dX1_opens_14 : decode cX1_opens 14 = .ok (.aload_n 0, 1) := dk_42 (dk_at dksX1_opens_0 14 rfl rfl)
theorem dX1_opens_15 : decode cX1_opens 15 = .ok (.getfield 121, 3) := dk_180 0 121 (dk_at dksX1_opens_0 15 rfl rfl)
theorem dX1_opens_18 : decode cX1_opens 18 = .ok (.if_icmp .ge 19, 3) := dk_162 0 19 (dk_at dksX1_opens_0 18 rfl rfl)
theorem dX1_opens_21 : decode cX1_opens 21 = .ok (.aload_n 0, 1) := dk_42 (dk_at dksX1_opens_0 21 rfl rfl)
theorem dX1_opens_22 : decode cX1_opens 22 = .ok (.getfield 12, 3) := dk_180 0 12 (dk_at dksX1_opens_1 0 rfl rfl)
theorem dX1_opens_25 : decode cX1_opens 25 = .ok (.getfield 200, 3) := dk_180 0 200 (dk_at dksX1_opens_1 3 rfl rfl)
theorem dX1_opens_28 : decode cX1_opens 28 = .ok (.iload_n 1, 1) := dk_27 (dk_at dksX1_opens_1 6 rfl rfl)
theorem dX1_opens_29 : decode cX1_opens 29 = .ok (.ior, 1) := dk_128 (dk_at dksX1_opens_1 7 rfl rfl)
theorem dX1_opens_30 : decode cX1_opens 30 = .ok (.iload_n 2, 1) := dk_28 (dk_at dksX1_opens_1 8 rfl rfl)
theorem dX1_opens_31 : decode cX1_opens 31 = .ok (.invokestatic 281, 3) := dk_184 1 25 (dk_at dksX1_opens_1 9 rfl rfl)
theorem dX1_opens_34 : decode cX1_opens 34 = .ok (.ifCond .eq 7, 3) := dk_153 0 7 (dk_at dksX1_opens_1 12 rfl rfl)
theorem dX1_opens_37 : decode cX1_opens 37 = .ok (.iconst 0, 1) := dk_3 (dk_at dksX1_opens_1 15 rfl rfl)
theorem dX1_opens_38 : decode cX1_opens 38 = .ok (.goto 14, 3) := dk_167 0 14 (dk_at dksX1_opens_1 16 rfl rfl)
theorem dX1_opens_41 : decode cX1_opens 41 = .ok (.aload_n 0, 1) := dk_42 (dk_at dksX1_opens_1 19 rfl rfl)
theorem dX1_opens_42 : decode cX1_opens 42 = .ok (.getfield 26, 3) := dk_180 0 26 (dk_at dksX1_opens_1 20 rfl rfl)
theorem dX1_opens_45 : decode cX1_opens 45 = .ok (.iload_n 2, 1) := dk_28 (dk_at dksX1_opens_1 23 rfl rfl)
theorem dX1_opens_46 : decode cX1_opens 46 = .ok (.iaload, 1) := dk_46 (dk_at dksX1_opens_2 0 rfl rfl)
theorem dX1_opens_47 : decode cX1_opens 47 = .ok (.aload_n 0, 1) := dk_42 (dk_at dksX1_opens_2 1 rfl rfl)
theorem dX1_opens_48 : decode cX1_opens 48 = .ok (.invokevirtual 386, 3) := dk_182 1 130 (dk_at dksX1_opens_2 2 rfl rfl)
theorem dX1_opens_51 : decode cX1_opens 51 = .ok (.iand, 1) := dk_126 (dk_at dksX1_opens_2 5 rfl rfl)
theorem dX1_opens_52 : decode cX1_opens 52 = .ok (.iastore, 1) := dk_79 (dk_at dksX1_opens_2 6 rfl rfl)
theorem dX1_opens_53 : decode cX1_opens 53 = .ok (.iinc 2 1, 3) := dk_132 2 1 (dk_at dksX1_opens_2 7 rfl rfl)
theorem dX1_opens_56 : decode cX1_opens 56 = .ok (.goto (-54), 3) := dk_167 255 202 (dk_at dksX1_opens_2 10 rfl rfl)
theorem dX1_opens_59 : decode cX1_opens 59 = .ok (.iconst 0, 1) := dk_3 (dk_at dksX1_opens_2 13 rfl rfl)
theorem dX1_opens_60 : decode cX1_opens 60 = .ok (.istore_n 2, 1) := dk_61 (dk_at dksX1_opens_2 14 rfl rfl)
theorem dX1_opens_61 : decode cX1_opens 61 = .ok (.iload_n 2, 1) := dk_28 (dk_at dksX1_opens_2 15 rfl rfl)
theorem dX1_opens_62 : decode cX1_opens 62 = .ok (.bipush 64, 2) := dk_16 64 (dk_at dksX1_opens_2 16 rfl rfl)
theorem dX1_opens_64 : decode cX1_opens 64 = .ok (.if_icmp .ge 16, 3) := dk_162 0 16 (dk_at dksX1_opens_2 18 rfl rfl)
theorem dX1_opens_67 : decode cX1_opens 67 = .ok (.aload_n 0, 1) := dk_42 (dk_at dksX1_opens_2 21 rfl rfl)
theorem dX1_opens_68 : decode cX1_opens 68 = .ok (.getfield 79, 3) := dk_180 0 79 (dk_at dksX1_opens_3 0 rfl rfl)
theorem dX1_opens_71 : decode cX1_opens 71 = .ok (.iload_n 2, 1) := dk_28 (dk_at dksX1_opens_3 3 rfl rfl)
theorem dX1_opens_72 : decode cX1_opens 72 = .ok (.iconst 0, 1) := dk_3 (dk_at dksX1_opens_3 4 rfl rfl)
theorem dX1_opens_73 : decode cX1_opens 73 = .ok (.iastore, 1) := dk_79 (dk_at dksX1_opens_3 5 rfl rfl)
theorem dX1_opens_74 : decode cX1_opens 74 = .ok (.iinc 2 1, 3) := dk_132 2 1 (dk_at dksX1_opens_3 6 rfl rfl)
theorem dX1_opens_77 : decode cX1_opens 77 = .ok (.goto (-16), 3) := dk_167 255 240 (dk_at dksX1_opens_3 9 rfl rfl)
theorem dX1_opens_80 : decode cX1_opens 80 = .ok (.return_, 1) := dk_177 (dk_at dksX1_opens_3 12 rfl rfl)
abbrev cX1_wholeNight : ByteArray := prog_1_method_9_code
def yX1_wholeNight : MethodName := ⟨RX1, "wholeNight", "()I"⟩
def dkwX1_wholeNight_0 : List UInt8 := [4, 42, 180, 0, 29, 120, 4, 100, 172]
abbrev dktX1_wholeNight_0 : List UInt8 := dkwX1_wholeNight_0 ++ []
theorem dksX1_wholeNight_0 : cX1_wholeNight.data.toList.drop 0 = dktX1_wholeNight_0 := by decide +kernel
theorem dX1_wholeNight_0 : decode cX1_wholeNight 0 = .ok (.iconst 1, 1) := dk_4 (dk_at dksX1_wholeNight_0 0 rfl rfl)
theorem dX1_wholeNight_1 : decode cX1_wholeNight 1 = .ok (.aload_n 0, 1) := dk_42 (dk_at dksX1_wholeNight_0 1 rfl rfl)
theorem dX1_wholeNight_2 : decode cX1_wholeNight 2 = .ok (.getfield 29, 3) := dk_180 0 29 (dk_at dksX1_wholeNight_0 2 rfl rfl)
theorem dX1_wholeNight_5 : decode cX1_wholeNight 5 = .ok (.ishl, 1) := dk_120 (dk_at dksX1_wholeNight_0 5 rfl rfl)
theorem dX1_wholeNight_6 : decode cX1_wholeNight 6 = .ok (.iconst 1, 1) := dk_4 (dk_at dksX1_wholeNight_0 6 rfl rfl)
theorem dX1_wholeNight_7 : decode cX1_wholeNight 7 = .ok (.isub, 1) := dk_100 (dk_at dksX1_wholeNight_0 7 rfl rfl)
theorem dX1_wholeNight_8 : decode cX1_wholeNight 8 = .ok (.ireturn, 1) := dk_172 (dk_at dksX1_wholeNight_0 8 rfl rfl)
abbrev cX1_pricesHard : ByteArray := prog_1_method_54_code
def yX1_pricesHard : MethodName := ⟨RX1, "pricesHard", "()V"⟩
def dkwX1_pricesHard_2 : List UInt8 := [132, 1, 1, 167, 255, 208, 177]
abbrev dktX1_pricesHard_2 : List UInt8 := dkwX1_pricesHard_2 ++ []
def dkwX1_pricesHard_1 : List UInt8 := [16, 8, 27, 104, 28, 96, 42, 42, 180, 0, 12, 27, 28, 182, 1, 34, 79, 132, 2, 1, 167, 255, 224]
abbrev dktX1_pricesHard_1 : List UInt8 := dkwX1_pricesHard_1 ++ dktX1_pricesHard_2
def dkwX1_pricesHard_0 : List UInt8 := [3, 60, 27, 42, 180, 0, 121, 162, 0, 46, 3, 61, 28, 42, 180, 0, 29, 162, 0, 30, 42, 180, 0, 79]
abbrev dktX1_pricesHard_0 : List UInt8 := dkwX1_pricesHard_0 ++ dktX1_pricesHard_1
theorem dksX1_pricesHard_0 : cX1_pricesHard.data.toList.drop 0 = dktX1_pricesHard_0 := by decide +kernel
theorem dksX1_pricesHard_1 : cX1_pricesHard.data.toList.drop 24 = dktX1_pricesHard_1 := dk_seg dksX1_pricesHard_0 24 rfl rfl
theorem dksX1_pricesHard_2 : cX1_pricesHard.data.toList.drop 47 = dktX1_pricesHard_2 := dk_seg dksX1_pricesHard_1 23 rfl rfl
theorem dX1_pricesHard_0 : decode cX1_pricesHard 0 = .ok (.iconst 0, 1) := dk_3 (dk_at dksX1_pricesHard_0 0 rfl rfl)
theorem dX1_pricesHard_1 : decode cX1_pricesHard 1 = .ok (.istore_n 1, 1) := dk_60 (dk_at dksX1_pricesHard_0 1 rfl rfl)
theorem dX1_pricesHard_2 : decode cX1_pricesHard 2 = .ok (.iload_n 1, 1) := dk_27 (dk_at dksX1_pricesHard_0 2 rfl rfl)
theorem dX1_pricesHard_3 : decode cX1_pricesHard 3 = .ok (.aload_n 0, 1) := dk_42 (dk_at dksX1_pricesHard_0 3 rfl rfl)
theorem dX1_pricesHard_4 : decode cX1_pricesHard 4 = .ok (.getfield 121, 3) := dk_180 0 121 (dk_at dksX1_pricesHard_0 4 rfl rfl)
theorem dX1_pricesHard_7 : decode cX1_pricesHard 7 = .ok (.if_icmp .ge 46, 3) := dk_162 0 46 (dk_at dksX1_pricesHard_0 7 rfl rfl)
theorem dX1_pricesHard_10 : decode cX1_pricesHard 10 = .ok (.iconst 0, 1) := dk_3 (dk_at dksX1_pricesHard_0 10 rfl rfl)
theorem dX1_pricesHard_11 : decode cX1_pricesHard 11 = .ok (.istore_n 2, 1) := dk_61 (dk_at dksX1_pricesHard_0 11 rfl rfl)
theorem dX1_pricesHard_12 : decode cX1_pricesHard 12 = .ok (.iload_n 2, 1) := dk_28 (dk_at dksX1_pricesHard_0 12 rfl rfl)
theorem dX1_pricesHard_13 : decode cX1_pricesHard 13 = .ok (.aload_n 0, 1) := dk_42 (dk_at dksX1_pricesHard_0 13 rfl rfl)
theorem dX1_pricesHard_14 : decode cX1_pricesHard 14 = .ok (.getfield 29, 3) := dk_180 0 29 (dk_at dksX1_pricesHard_0 14 rfl rfl)
theorem dX1_pricesHard_17 : decode cX1_pricesHard 17 = .ok (.if_icmp .ge 30, 3) := dk_162 0 30 (dk_at dksX1_pricesHard_0 17 rfl rfl)
theorem dX1_pricesHard_20 : decode cX1_pricesHard 20 = .ok (.aload_n 0, 1) := dk_42 (dk_at dksX1_pricesHard_0 20 rfl rfl)
theorem dX1_pricesHard_21 : decode cX1_pricesHard 21 = .ok (.getfield 79, 3) := dk_180 0 79 (dk_at dksX1_pricesHard_0 21 rfl rfl)
theorem dX1_pricesHard_24 : decode cX1_pricesHard 24 = .ok (.bipush 8, 2) := dk_16 8 (dk_at dksX1_pricesHard_1 0 rfl rfl)
theorem dX1_pricesHard_26 : decode cX1_pricesHard 26 = .ok (.iload_n 1, 1) := dk_27 (dk_at dksX1_pricesHard_1 2 rfl rfl)
theorem dX1_pricesHard_27 : decode cX1_pricesHard 27 = .ok (.imul, 1) := dk_104 (dk_at dksX1_pricesHard_1 3 rfl rfl)
theorem dX1_pricesHard_28 : decode cX1_pricesHard 28 = .ok (.iload_n 2, 1) := dk_28 (dk_at dksX1_pricesHard_1 4 rfl rfl)
theorem dX1_pricesHard_29 : decode cX1_pricesHard 29 = .ok (.iadd, 1) := dk_96 (dk_at dksX1_pricesHard_1 5 rfl rfl)
theorem dX1_pricesHard_30 : decode cX1_pricesHard 30 = .ok (.aload_n 0, 1) := dk_42 (dk_at dksX1_pricesHard_1 6 rfl rfl)
theorem dX1_pricesHard_31 : decode cX1_pricesHard 31 = .ok (.aload_n 0, 1) := dk_42 (dk_at dksX1_pricesHard_1 7 rfl rfl)
theorem dX1_pricesHard_32 : decode cX1_pricesHard 32 = .ok (.getfield 12, 3) := dk_180 0 12 (dk_at dksX1_pricesHard_1 8 rfl rfl)
theorem dX1_pricesHard_35 : decode cX1_pricesHard 35 = .ok (.iload_n 1, 1) := dk_27 (dk_at dksX1_pricesHard_1 11 rfl rfl)
theorem dX1_pricesHard_36 : decode cX1_pricesHard 36 = .ok (.iload_n 2, 1) := dk_28 (dk_at dksX1_pricesHard_1 12 rfl rfl)
theorem dX1_pricesHard_37 : decode cX1_pricesHard 37 = .ok (.invokevirtual 290, 3) := dk_182 1 34 (dk_at dksX1_pricesHard_1 13 rfl rfl)
theorem dX1_pricesHard_40 : decode cX1_pricesHard 40 = .ok (.iastore, 1) := dk_79 (dk_at dksX1_pricesHard_1 16 rfl rfl)
theorem dX1_pricesHard_41 : decode cX1_pricesHard 41 = .ok (.iinc 2 1, 3) := dk_132 2 1 (dk_at dksX1_pricesHard_1 17 rfl rfl)
theorem dX1_pricesHard_44 : decode cX1_pricesHard 44 = .ok (.goto (-32), 3) := dk_167 255 224 (dk_at dksX1_pricesHard_1 20 rfl rfl)
theorem dX1_pricesHard_47 : decode cX1_pricesHard 47 = .ok (.iinc 1 1, 3) := dk_132 1 1 (dk_at dksX1_pricesHard_2 0 rfl rfl)
theorem dX1_pricesHard_50 : decode cX1_pricesHard 50 = .ok (.goto (-48), 3) := dk_167 255 208 (dk_at dksX1_pricesHard_2 3 rfl rfl)
theorem dX1_pricesHard_53 : decode cX1_pricesHard 53 = .ok (.return_, 1) := dk_177 (dk_at dksX1_pricesHard_2 6 rfl rfl)
abbrev cX1_laysLeast : ByteArray := prog_1_method_56_code
def yX1_laysLeast : MethodName := ⟨RX1, "laysLeast", "()I"⟩
def dkwX1_laysLeast_7 : List UInt8 := [182, 1, 130, 46, 184, 0, 141, 172]
abbrev dktX1_laysLeast_7 : List UInt8 := dkwX1_laysLeast_7 ++ []
def dkwX1_laysLeast_6 : List UInt8 := [54, 4, 167, 255, 181, 132, 2, 255, 167, 255, 159, 132, 1, 1, 167, 255, 135, 18, 95, 42, 180, 0, 85, 42]
abbrev dktX1_laysLeast_6 : List UInt8 := dkwX1_laysLeast_6 ++ dktX1_laysLeast_7
def dkwX1_laysLeast_5 : List UInt8 := [21, 4, 2, 130, 126, 46, 42, 180, 0, 82, 21, 4, 46, 96, 184, 0, 141, 79, 21, 4, 4, 100, 29, 126]
abbrev dktX1_laysLeast_5 : List UInt8 := dkwX1_laysLeast_5 ++ dktX1_laysLeast_6
def dkwX1_laysLeast_4 : List UInt8 := [42, 180, 0, 96, 163, 0, 37, 42, 180, 0, 85, 28, 42, 180, 0, 85, 28, 46, 42, 180, 0, 85, 28]
abbrev dktX1_laysLeast_4 : List UInt8 := dkwX1_laysLeast_4 ++ dktX1_laysLeast_5
def dkwX1_laysLeast_3 : List UInt8 := [158, 0, 76, 21, 4, 184, 1, 70, 42, 180, 0, 19, 27, 46, 163, 0, 51, 42, 180, 0, 82, 21, 4, 46]
abbrev dktX1_laysLeast_3 : List UInt8 := dkwX1_laysLeast_3 ++ dktX1_laysLeast_4
def dkwX1_laysLeast_2 : List UInt8 := [182, 1, 130, 61, 28, 158, 0, 99, 28, 42, 180, 0, 73, 27, 46, 126, 62, 29, 54, 4, 21, 4]
abbrev dktX1_laysLeast_2 : List UInt8 := dkwX1_laysLeast_2 ++ dktX1_laysLeast_3
def dkwX1_laysLeast_1 : List UInt8 := [79, 132, 1, 1, 167, 255, 230, 3, 60, 27, 42, 180, 0, 121, 162, 0, 119, 42, 27, 182, 1, 133, 42]
abbrev dktX1_laysLeast_1 : List UInt8 := dkwX1_laysLeast_1 ++ dktX1_laysLeast_2
def dkwX1_laysLeast_0 : List UInt8 := [3, 60, 27, 17, 1, 0, 162, 0, 25, 42, 180, 0, 85, 27, 27, 154, 0, 7, 3, 167, 0, 5, 18, 95]
abbrev dktX1_laysLeast_0 : List UInt8 := dkwX1_laysLeast_0 ++ dktX1_laysLeast_1
theorem dksX1_laysLeast_0 : cX1_laysLeast.data.toList.drop 0 = dktX1_laysLeast_0 := by decide +kernel
theorem dksX1_laysLeast_1 : cX1_laysLeast.data.toList.drop 24 = dktX1_laysLeast_1 := dk_seg dksX1_laysLeast_0 24 rfl rfl
theorem dksX1_laysLeast_2 : cX1_laysLeast.data.toList.drop 47 = dktX1_laysLeast_2 := dk_seg dksX1_laysLeast_1 23 rfl rfl
theorem dksX1_laysLeast_3 : cX1_laysLeast.data.toList.drop 69 = dktX1_laysLeast_3 := dk_seg dksX1_laysLeast_2 22 rfl rfl
theorem dksX1_laysLeast_4 : cX1_laysLeast.data.toList.drop 93 = dktX1_laysLeast_4 := dk_seg dksX1_laysLeast_3 24 rfl rfl
theorem dksX1_laysLeast_5 : cX1_laysLeast.data.toList.drop 116 = dktX1_laysLeast_5 := dk_seg dksX1_laysLeast_4 23 rfl rfl
theorem dksX1_laysLeast_6 : cX1_laysLeast.data.toList.drop 140 = dktX1_laysLeast_6 := dk_seg dksX1_laysLeast_5 24 rfl rfl
theorem dksX1_laysLeast_7 : cX1_laysLeast.data.toList.drop 164 = dktX1_laysLeast_7 := dk_seg dksX1_laysLeast_6 24 rfl rfl
theorem dX1_laysLeast_0 : decode cX1_laysLeast 0 = .ok (.iconst 0, 1) := dk_3 (dk_at dksX1_laysLeast_0 0 rfl rfl)
theorem dX1_laysLeast_1 : decode cX1_laysLeast 1 = .ok (.istore_n 1, 1) := dk_60 (dk_at dksX1_laysLeast_0 1 rfl rfl)
theorem dX1_laysLeast_2 : decode cX1_laysLeast 2 = .ok (.iload_n 1, 1) := dk_27 (dk_at dksX1_laysLeast_0 2 rfl rfl)
theorem dX1_laysLeast_3 : decode cX1_laysLeast 3 = .ok (.sipush 256, 3) := dk_17 1 0 (dk_at dksX1_laysLeast_0 3 rfl rfl)
theorem dX1_laysLeast_6 : decode cX1_laysLeast 6 = .ok (.if_icmp .ge 25, 3) := dk_162 0 25 (dk_at dksX1_laysLeast_0 6 rfl rfl)
theorem dX1_laysLeast_9 : decode cX1_laysLeast 9 = .ok (.aload_n 0, 1) := dk_42 (dk_at dksX1_laysLeast_0 9 rfl rfl)
theorem dX1_laysLeast_10 : decode cX1_laysLeast 10 = .ok (.getfield 85, 3) := dk_180 0 85 (dk_at dksX1_laysLeast_0 10 rfl rfl)
theorem dX1_laysLeast_13 : decode cX1_laysLeast 13 = .ok (.iload_n 1, 1) := dk_27 (dk_at dksX1_laysLeast_0 13 rfl rfl)
theorem dX1_laysLeast_14 : decode cX1_laysLeast 14 = .ok (.iload_n 1, 1) := dk_27 (dk_at dksX1_laysLeast_0 14 rfl rfl)
theorem dX1_laysLeast_15 : decode cX1_laysLeast 15 = .ok (.ifCond .ne 7, 3) := dk_154 0 7 (dk_at dksX1_laysLeast_0 15 rfl rfl)
theorem dX1_laysLeast_18 : decode cX1_laysLeast 18 = .ok (.iconst 0, 1) := dk_3 (dk_at dksX1_laysLeast_0 18 rfl rfl)
theorem dX1_laysLeast_19 : decode cX1_laysLeast 19 = .ok (.goto 5, 3) := dk_167 0 5 (dk_at dksX1_laysLeast_0 19 rfl rfl)
theorem dX1_laysLeast_22 : decode cX1_laysLeast 22 = .ok (.ldc 95, 2) := dk_18 95 (dk_at dksX1_laysLeast_0 22 rfl rfl)
theorem dX1_laysLeast_24 : decode cX1_laysLeast 24 = .ok (.iastore, 1) := dk_79 (dk_at dksX1_laysLeast_1 0 rfl rfl)
theorem dX1_laysLeast_25 : decode cX1_laysLeast 25 = .ok (.iinc 1 1, 3) := dk_132 1 1 (dk_at dksX1_laysLeast_1 1 rfl rfl)
theorem dX1_laysLeast_28 : decode cX1_laysLeast 28 = .ok (.goto (-26), 3) := dk_167 255 230 (dk_at dksX1_laysLeast_1 4 rfl rfl)
theorem dX1_laysLeast_31 : decode cX1_laysLeast 31 = .ok (.iconst 0, 1) := dk_3 (dk_at dksX1_laysLeast_1 7 rfl rfl)
theorem dX1_laysLeast_32 : decode cX1_laysLeast 32 = .ok (.istore_n 1, 1) := dk_60 (dk_at dksX1_laysLeast_1 8 rfl rfl)
theorem dX1_laysLeast_33 : decode cX1_laysLeast 33 = .ok (.iload_n 1, 1) := dk_27 (dk_at dksX1_laysLeast_1 9 rfl rfl)
theorem dX1_laysLeast_34 : decode cX1_laysLeast 34 = .ok (.aload_n 0, 1) := dk_42 (dk_at dksX1_laysLeast_1 10 rfl rfl)
theorem dX1_laysLeast_35 : decode cX1_laysLeast 35 = .ok (.getfield 121, 3) := dk_180 0 121 (dk_at dksX1_laysLeast_1 11 rfl rfl)
theorem dX1_laysLeast_38 : decode cX1_laysLeast 38 = .ok (.if_icmp .ge 119, 3) := dk_162 0 119 (dk_at dksX1_laysLeast_1 14 rfl rfl)
theorem dX1_laysLeast_41 : decode cX1_laysLeast 41 = .ok (.aload_n 0, 1) := dk_42 (dk_at dksX1_laysLeast_1 17 rfl rfl)
theorem dX1_laysLeast_42 : decode cX1_laysLeast 42 = .ok (.iload_n 1, 1) := dk_27 (dk_at dksX1_laysLeast_1 18 rfl rfl)
theorem dX1_laysLeast_43 : decode cX1_laysLeast 43 = .ok (.invokevirtual 389, 3) := dk_182 1 133 (dk_at dksX1_laysLeast_1 19 rfl rfl)
theorem dX1_laysLeast_46 : decode cX1_laysLeast 46 = .ok (.aload_n 0, 1) := dk_42 (dk_at dksX1_laysLeast_1 22 rfl rfl)
theorem dX1_laysLeast_47 : decode cX1_laysLeast 47 = .ok (.invokevirtual 386, 3) := dk_182 1 130 (dk_at dksX1_laysLeast_2 0 rfl rfl)
theorem dX1_laysLeast_50 : decode cX1_laysLeast 50 = .ok (.istore_n 2, 1) := dk_61 (dk_at dksX1_laysLeast_2 3 rfl rfl)
theorem dX1_laysLeast_51 : decode cX1_laysLeast 51 = .ok (.iload_n 2, 1) := dk_28 (dk_at dksX1_laysLeast_2 4 rfl rfl)
theorem dX1_laysLeast_52 : decode cX1_laysLeast 52 = .ok (.ifCond .le 99, 3) := dk_158 0 99 (dk_at dksX1_laysLeast_2 5 rfl rfl)
theorem dX1_laysLeast_55 : decode cX1_laysLeast 55 = .ok (.iload_n 2, 1) := dk_28 (dk_at dksX1_laysLeast_2 8 rfl rfl)
theorem dX1_laysLeast_56 : decode cX1_laysLeast 56 = .ok (.aload_n 0, 1) := dk_42 (dk_at dksX1_laysLeast_2 9 rfl rfl)
theorem dX1_laysLeast_57 : decode cX1_laysLeast 57 = .ok (.getfield 73, 3) := dk_180 0 73 (dk_at dksX1_laysLeast_2 10 rfl rfl)
theorem dX1_laysLeast_60 : decode cX1_laysLeast 60 = .ok (.iload_n 1, 1) := dk_27 (dk_at dksX1_laysLeast_2 13 rfl rfl)
theorem dX1_laysLeast_61 : decode cX1_laysLeast 61 = .ok (.iaload, 1) := dk_46 (dk_at dksX1_laysLeast_2 14 rfl rfl)
theorem dX1_laysLeast_62 : decode cX1_laysLeast 62 = .ok (.iand, 1) := dk_126 (dk_at dksX1_laysLeast_2 15 rfl rfl)
theorem dX1_laysLeast_63 : decode cX1_laysLeast 63 = .ok (.istore_n 3, 1) := dk_62 (dk_at dksX1_laysLeast_2 16 rfl rfl)
theorem dX1_laysLeast_64 : decode cX1_laysLeast 64 = .ok (.iload_n 3, 1) := dk_29 (dk_at dksX1_laysLeast_2 17 rfl rfl)
theorem dX1_laysLeast_65 : decode cX1_laysLeast 65 = .ok (.istore 4, 2) := dk_54 4 (dk_at dksX1_laysLeast_2 18 rfl rfl)
theorem dX1_laysLeast_67 : decode cX1_laysLeast 67 = .ok (.iload 4, 2) := dk_21 4 (dk_at dksX1_laysLeast_2 20 rfl rfl)
theorem dX1_laysLeast_69 : decode cX1_laysLeast 69 = .ok (.ifCond .le 76, 3) := dk_158 0 76 (dk_at dksX1_laysLeast_3 0 rfl rfl)
theorem dX1_laysLeast_72 : decode cX1_laysLeast 72 = .ok (.iload 4, 2) := dk_21 4 (dk_at dksX1_laysLeast_3 3 rfl rfl)
theorem dX1_laysLeast_74 : decode cX1_laysLeast 74 = .ok (.invokestatic 326, 3) := dk_184 1 70 (dk_at dksX1_laysLeast_3 5 rfl rfl)
theorem dX1_laysLeast_77 : decode cX1_laysLeast 77 = .ok (.aload_n 0, 1) := dk_42 (dk_at dksX1_laysLeast_3 8 rfl rfl)
theorem dX1_laysLeast_78 : decode cX1_laysLeast 78 = .ok (.getfield 19, 3) := dk_180 0 19 (dk_at dksX1_laysLeast_3 9 rfl rfl)
theorem dX1_laysLeast_81 : decode cX1_laysLeast 81 = .ok (.iload_n 1, 1) := dk_27 (dk_at dksX1_laysLeast_3 12 rfl rfl)
theorem dX1_laysLeast_82 : decode cX1_laysLeast 82 = .ok (.iaload, 1) := dk_46 (dk_at dksX1_laysLeast_3 13 rfl rfl)
theorem dX1_laysLeast_83 : decode cX1_laysLeast 83 = .ok (.if_icmp .gt 51, 3) := dk_163 0 51 (dk_at dksX1_laysLeast_3 14 rfl rfl)
theorem dX1_laysLeast_86 : decode cX1_laysLeast 86 = .ok (.aload_n 0, 1) := dk_42 (dk_at dksX1_laysLeast_3 17 rfl rfl)
theorem dX1_laysLeast_87 : decode cX1_laysLeast 87 = .ok (.getfield 82, 3) := dk_180 0 82 (dk_at dksX1_laysLeast_3 18 rfl rfl)
theorem dX1_laysLeast_90 : decode cX1_laysLeast 90 = .ok (.iload 4, 2) := dk_21 4 (dk_at dksX1_laysLeast_3 21 rfl rfl)
theorem dX1_laysLeast_92 : decode cX1_laysLeast 92 = .ok (.iaload, 1) := dk_46 (dk_at dksX1_laysLeast_3 23 rfl rfl)
theorem dX1_laysLeast_93 : decode cX1_laysLeast 93 = .ok (.aload_n 0, 1) := dk_42 (dk_at dksX1_laysLeast_4 0 rfl rfl)
theorem dX1_laysLeast_94 : decode cX1_laysLeast 94 = .ok (.getfield 96, 3) := dk_180 0 96 (dk_at dksX1_laysLeast_4 1 rfl rfl)
theorem dX1_laysLeast_97 : decode cX1_laysLeast 97 = .ok (.if_icmp .gt 37, 3) := dk_163 0 37 (dk_at dksX1_laysLeast_4 4 rfl rfl)
theorem dX1_laysLeast_100 : decode cX1_laysLeast 100 = .ok (.aload_n 0, 1) := dk_42 (dk_at dksX1_laysLeast_4 7 rfl rfl)
theorem dX1_laysLeast_101 : decode cX1_laysLeast 101 = .ok (.getfield 85, 3) := dk_180 0 85 (dk_at dksX1_laysLeast_4 8 rfl rfl)
theorem dX1_laysLeast_104 : decode cX1_laysLeast 104 = .ok (.iload_n 2, 1) := dk_28 (dk_at dksX1_laysLeast_4 11 rfl rfl)
theorem dX1_laysLeast_105 : decode cX1_laysLeast 105 = .ok (.aload_n 0, 1) := dk_42 (dk_at dksX1_laysLeast_4 12 rfl rfl)
theorem dX1_laysLeast_106 : decode cX1_laysLeast 106 = .ok (.getfield 85, 3) := dk_180 0 85 (dk_at dksX1_laysLeast_4 13 rfl rfl)
theorem dX1_laysLeast_109 : decode cX1_laysLeast 109 = .ok (.iload_n 2, 1) := dk_28 (dk_at dksX1_laysLeast_4 16 rfl rfl)
theorem dX1_laysLeast_110 : decode cX1_laysLeast 110 = .ok (.iaload, 1) := dk_46 (dk_at dksX1_laysLeast_4 17 rfl rfl)
theorem dX1_laysLeast_111 : decode cX1_laysLeast 111 = .ok (.aload_n 0, 1) := dk_42 (dk_at dksX1_laysLeast_4 18 rfl rfl)
theorem dX1_laysLeast_112 : decode cX1_laysLeast 112 = .ok (.getfield 85, 3) := dk_180 0 85 (dk_at dksX1_laysLeast_4 19 rfl rfl)
theorem dX1_laysLeast_115 : decode cX1_laysLeast 115 = .ok (.iload_n 2, 1) := dk_28 (dk_at dksX1_laysLeast_4 22 rfl rfl)
theorem dX1_laysLeast_116 : decode cX1_laysLeast 116 = .ok (.iload 4, 2) := dk_21 4 (dk_at dksX1_laysLeast_5 0 rfl rfl)
theorem dX1_laysLeast_118 : decode cX1_laysLeast 118 = .ok (.iconst (-1), 1) := dk_2 (dk_at dksX1_laysLeast_5 2 rfl rfl)
theorem dX1_laysLeast_119 : decode cX1_laysLeast 119 = .ok (.ixor, 1) := dk_130 (dk_at dksX1_laysLeast_5 3 rfl rfl)
theorem dX1_laysLeast_120 : decode cX1_laysLeast 120 = .ok (.iand, 1) := dk_126 (dk_at dksX1_laysLeast_5 4 rfl rfl)
theorem dX1_laysLeast_121 : decode cX1_laysLeast 121 = .ok (.iaload, 1) := dk_46 (dk_at dksX1_laysLeast_5 5 rfl rfl)
theorem dX1_laysLeast_122 : decode cX1_laysLeast 122 = .ok (.aload_n 0, 1) := dk_42 (dk_at dksX1_laysLeast_5 6 rfl rfl)
theorem dX1_laysLeast_123 : decode cX1_laysLeast 123 = .ok (.getfield 82, 3) := dk_180 0 82 (dk_at dksX1_laysLeast_5 7 rfl rfl)
theorem dX1_laysLeast_126 : decode cX1_laysLeast 126 = .ok (.iload 4, 2) := dk_21 4 (dk_at dksX1_laysLeast_5 10 rfl rfl)
theorem dX1_laysLeast_128 : decode cX1_laysLeast 128 = .ok (.iaload, 1) := dk_46 (dk_at dksX1_laysLeast_5 12 rfl rfl)
theorem dX1_laysLeast_129 : decode cX1_laysLeast 129 = .ok (.iadd, 1) := dk_96 (dk_at dksX1_laysLeast_5 13 rfl rfl)
theorem dX1_laysLeast_130 : decode cX1_laysLeast 130 = .ok (.invokestatic 141, 3) := dk_184 0 141 (dk_at dksX1_laysLeast_5 14 rfl rfl)
theorem dX1_laysLeast_133 : decode cX1_laysLeast 133 = .ok (.iastore, 1) := dk_79 (dk_at dksX1_laysLeast_5 17 rfl rfl)
theorem dX1_laysLeast_134 : decode cX1_laysLeast 134 = .ok (.iload 4, 2) := dk_21 4 (dk_at dksX1_laysLeast_5 18 rfl rfl)
theorem dX1_laysLeast_136 : decode cX1_laysLeast 136 = .ok (.iconst 1, 1) := dk_4 (dk_at dksX1_laysLeast_5 20 rfl rfl)
theorem dX1_laysLeast_137 : decode cX1_laysLeast 137 = .ok (.isub, 1) := dk_100 (dk_at dksX1_laysLeast_5 21 rfl rfl)
theorem dX1_laysLeast_138 : decode cX1_laysLeast 138 = .ok (.iload_n 3, 1) := dk_29 (dk_at dksX1_laysLeast_5 22 rfl rfl)
theorem dX1_laysLeast_139 : decode cX1_laysLeast 139 = .ok (.iand, 1) := dk_126 (dk_at dksX1_laysLeast_5 23 rfl rfl)
theorem dX1_laysLeast_140 : decode cX1_laysLeast 140 = .ok (.istore 4, 2) := dk_54 4 (dk_at dksX1_laysLeast_6 0 rfl rfl)
theorem dX1_laysLeast_142 : decode cX1_laysLeast 142 = .ok (.goto (-75), 3) := dk_167 255 181 (dk_at dksX1_laysLeast_6 2 rfl rfl)
theorem dX1_laysLeast_145 : decode cX1_laysLeast 145 = .ok (.iinc 2 (-1), 3) := dk_132 2 255 (dk_at dksX1_laysLeast_6 5 rfl rfl)
theorem dX1_laysLeast_148 : decode cX1_laysLeast 148 = .ok (.goto (-97), 3) := dk_167 255 159 (dk_at dksX1_laysLeast_6 8 rfl rfl)
theorem dX1_laysLeast_151 : decode cX1_laysLeast 151 = .ok (.iinc 1 1, 3) := dk_132 1 1 (dk_at dksX1_laysLeast_6 11 rfl rfl)
theorem dX1_laysLeast_154 : decode cX1_laysLeast 154 = .ok (.goto (-121), 3) := dk_167 255 135 (dk_at dksX1_laysLeast_6 14 rfl rfl)
theorem dX1_laysLeast_157 : decode cX1_laysLeast 157 = .ok (.ldc 95, 2) := dk_18 95 (dk_at dksX1_laysLeast_6 17 rfl rfl)
theorem dX1_laysLeast_159 : decode cX1_laysLeast 159 = .ok (.aload_n 0, 1) := dk_42 (dk_at dksX1_laysLeast_6 19 rfl rfl)
theorem dX1_laysLeast_160 : decode cX1_laysLeast 160 = .ok (.getfield 85, 3) := dk_180 0 85 (dk_at dksX1_laysLeast_6 20 rfl rfl)
theorem dX1_laysLeast_163 : decode cX1_laysLeast 163 = .ok (.aload_n 0, 1) := dk_42 (dk_at dksX1_laysLeast_6 23 rfl rfl)
theorem dX1_laysLeast_164 : decode cX1_laysLeast 164 = .ok (.invokevirtual 386, 3) := dk_182 1 130 (dk_at dksX1_laysLeast_7 0 rfl rfl)
theorem dX1_laysLeast_167 : decode cX1_laysLeast 167 = .ok (.iaload, 1) := dk_46 (dk_at dksX1_laysLeast_7 3 rfl rfl)
theorem dX1_laysLeast_168 : decode cX1_laysLeast 168 = .ok (.invokestatic 141, 3) := dk_184 0 141 (dk_at dksX1_laysLeast_7 4 rfl rfl)
theorem dX1_laysLeast_171 : decode cX1_laysLeast 171 = .ok (.ireturn, 1) := dk_172 (dk_at dksX1_laysLeast_7 7 rfl rfl)
abbrev cX1_pricesSets : ByteArray := prog_1_method_55_code
def yX1_pricesSets : MethodName := ⟨RX1, "pricesSets", "(I)V"⟩
def dkwX1_pricesSets_2 : List UInt8 := [177]
abbrev dktX1_pricesSets_2 : List UInt8 := dkwX1_pricesSets_2 ++ []
def dkwX1_pricesSets_1 : List UInt8 := [28, 4, 100, 126, 46, 42, 180, 0, 79, 16, 8, 27, 104, 29, 96, 46, 96, 79, 132, 2, 1, 167, 255, 213]
abbrev dktX1_pricesSets_1 : List UInt8 := dkwX1_pricesSets_1 ++ dktX1_pricesSets_2
def dkwX1_pricesSets_0 : List UInt8 := [4, 61, 28, 17, 1, 0, 162, 0, 42, 28, 184, 1, 127, 62, 42, 180, 0, 82, 28, 42, 180, 0, 82, 28]
abbrev dktX1_pricesSets_0 : List UInt8 := dkwX1_pricesSets_0 ++ dktX1_pricesSets_1
theorem dksX1_pricesSets_0 : cX1_pricesSets.data.toList.drop 0 = dktX1_pricesSets_0 := by decide +kernel
theorem dksX1_pricesSets_1 : cX1_pricesSets.data.toList.drop 24 = dktX1_pricesSets_1 := dk_seg dksX1_pricesSets_0 24 rfl rfl
theorem dksX1_pricesSets_2 : cX1_pricesSets.data.toList.drop 48 = dktX1_pricesSets_2 := dk_seg dksX1_pricesSets_1 24 rfl rfl
theorem dX1_pricesSets_0 : decode cX1_pricesSets 0 = .ok (.iconst 1, 1) := dk_4 (dk_at dksX1_pricesSets_0 0 rfl rfl)
theorem dX1_pricesSets_1 : decode cX1_pricesSets 1 = .ok (.istore_n 2, 1) := dk_61 (dk_at dksX1_pricesSets_0 1 rfl rfl)
theorem dX1_pricesSets_2 : decode cX1_pricesSets 2 = .ok (.iload_n 2, 1) := dk_28 (dk_at dksX1_pricesSets_0 2 rfl rfl)
theorem dX1_pricesSets_3 : decode cX1_pricesSets 3 = .ok (.sipush 256, 3) := dk_17 1 0 (dk_at dksX1_pricesSets_0 3 rfl rfl)
theorem dX1_pricesSets_6 : decode cX1_pricesSets 6 = .ok (.if_icmp .ge 42, 3) := dk_162 0 42 (dk_at dksX1_pricesSets_0 6 rfl rfl)
theorem dX1_pricesSets_9 : decode cX1_pricesSets 9 = .ok (.iload_n 2, 1) := dk_28 (dk_at dksX1_pricesSets_0 9 rfl rfl)
theorem dX1_pricesSets_10 : decode cX1_pricesSets 10 = .ok (.invokestatic 383, 3) := dk_184 1 127 (dk_at dksX1_pricesSets_0 10 rfl rfl)
theorem dX1_pricesSets_13 : decode cX1_pricesSets 13 = .ok (.istore_n 3, 1) := dk_62 (dk_at dksX1_pricesSets_0 13 rfl rfl)
theorem dX1_pricesSets_14 : decode cX1_pricesSets 14 = .ok (.aload_n 0, 1) := dk_42 (dk_at dksX1_pricesSets_0 14 rfl rfl)
theorem dX1_pricesSets_15 : decode cX1_pricesSets 15 = .ok (.getfield 82, 3) := dk_180 0 82 (dk_at dksX1_pricesSets_0 15 rfl rfl)
theorem dX1_pricesSets_18 : decode cX1_pricesSets 18 = .ok (.iload_n 2, 1) := dk_28 (dk_at dksX1_pricesSets_0 18 rfl rfl)
theorem dX1_pricesSets_19 : decode cX1_pricesSets 19 = .ok (.aload_n 0, 1) := dk_42 (dk_at dksX1_pricesSets_0 19 rfl rfl)
theorem dX1_pricesSets_20 : decode cX1_pricesSets 20 = .ok (.getfield 82, 3) := dk_180 0 82 (dk_at dksX1_pricesSets_0 20 rfl rfl)
theorem dX1_pricesSets_23 : decode cX1_pricesSets 23 = .ok (.iload_n 2, 1) := dk_28 (dk_at dksX1_pricesSets_0 23 rfl rfl)
theorem dX1_pricesSets_24 : decode cX1_pricesSets 24 = .ok (.iload_n 2, 1) := dk_28 (dk_at dksX1_pricesSets_1 0 rfl rfl)
theorem dX1_pricesSets_25 : decode cX1_pricesSets 25 = .ok (.iconst 1, 1) := dk_4 (dk_at dksX1_pricesSets_1 1 rfl rfl)
theorem dX1_pricesSets_26 : decode cX1_pricesSets 26 = .ok (.isub, 1) := dk_100 (dk_at dksX1_pricesSets_1 2 rfl rfl)
theorem dX1_pricesSets_27 : decode cX1_pricesSets 27 = .ok (.iand, 1) := dk_126 (dk_at dksX1_pricesSets_1 3 rfl rfl)
theorem dX1_pricesSets_28 : decode cX1_pricesSets 28 = .ok (.iaload, 1) := dk_46 (dk_at dksX1_pricesSets_1 4 rfl rfl)
theorem dX1_pricesSets_29 : decode cX1_pricesSets 29 = .ok (.aload_n 0, 1) := dk_42 (dk_at dksX1_pricesSets_1 5 rfl rfl)
theorem dX1_pricesSets_30 : decode cX1_pricesSets 30 = .ok (.getfield 79, 3) := dk_180 0 79 (dk_at dksX1_pricesSets_1 6 rfl rfl)
theorem dX1_pricesSets_33 : decode cX1_pricesSets 33 = .ok (.bipush 8, 2) := dk_16 8 (dk_at dksX1_pricesSets_1 9 rfl rfl)
theorem dX1_pricesSets_35 : decode cX1_pricesSets 35 = .ok (.iload_n 1, 1) := dk_27 (dk_at dksX1_pricesSets_1 11 rfl rfl)
theorem dX1_pricesSets_36 : decode cX1_pricesSets 36 = .ok (.imul, 1) := dk_104 (dk_at dksX1_pricesSets_1 12 rfl rfl)
theorem dX1_pricesSets_37 : decode cX1_pricesSets 37 = .ok (.iload_n 3, 1) := dk_29 (dk_at dksX1_pricesSets_1 13 rfl rfl)
theorem dX1_pricesSets_38 : decode cX1_pricesSets 38 = .ok (.iadd, 1) := dk_96 (dk_at dksX1_pricesSets_1 14 rfl rfl)
theorem dX1_pricesSets_39 : decode cX1_pricesSets 39 = .ok (.iaload, 1) := dk_46 (dk_at dksX1_pricesSets_1 15 rfl rfl)
theorem dX1_pricesSets_40 : decode cX1_pricesSets 40 = .ok (.iadd, 1) := dk_96 (dk_at dksX1_pricesSets_1 16 rfl rfl)
theorem dX1_pricesSets_41 : decode cX1_pricesSets 41 = .ok (.iastore, 1) := dk_79 (dk_at dksX1_pricesSets_1 17 rfl rfl)
theorem dX1_pricesSets_42 : decode cX1_pricesSets 42 = .ok (.iinc 2 1, 3) := dk_132 2 1 (dk_at dksX1_pricesSets_1 18 rfl rfl)
theorem dX1_pricesSets_45 : decode cX1_pricesSets 45 = .ok (.goto (-43), 3) := dk_167 255 213 (dk_at dksX1_pricesSets_1 21 rfl rfl)
theorem dX1_pricesSets_48 : decode cX1_pricesSets 48 = .ok (.return_, 1) := dk_177 (dk_at dksX1_pricesSets_2 0 rfl rfl)
abbrev cX1_laysTurn : ByteArray := prog_1_method_59_code
def yX1_laysTurn : MethodName := ⟨RX1, "laysTurn", "(I)V"⟩
def dkwX1_laysTurn_5 : List UInt8 := [132, 2, 1, 167, 255, 141, 177]
abbrev dktX1_laysTurn_5 : List UInt8 := dkwX1_laysTurn_5 ++ []
def dkwX1_laysTurn_4 : List UInt8 := [153, 0, 18, 42, 180, 0, 76, 3, 42, 180, 0, 73, 3, 16, 8, 184, 1, 137, 132, 4, 1, 167, 255, 160]
abbrev dktX1_laysTurn_4 : List UInt8 := dkwX1_laysTurn_4 ++ dktX1_laysTurn_5
def dkwX1_laysTurn_3 : List UInt8 := [180, 0, 88, 28, 21, 4, 79, 42, 182, 1, 147, 27, 159, 0, 7, 4, 167, 0, 4, 3, 62, 29]
abbrev dktX1_laysTurn_3 : List UInt8 := dkwX1_laysTurn_3 ++ dktX1_laysTurn_4
def dkwX1_laysTurn_2 : List UInt8 := [180, 0, 73, 3, 42, 180, 0, 76, 3, 16, 8, 184, 1, 137, 42, 28, 21, 4, 182, 1, 143, 42]
abbrev dktX1_laysTurn_2 : List UInt8 := dkwX1_laysTurn_2 ++ dktX1_laysTurn_3
def dkwX1_laysTurn_1 : List UInt8 := [29, 153, 0, 89, 42, 180, 0, 73, 21, 4, 46, 28, 184, 1, 25, 154, 0, 6, 167, 0, 66, 42]
abbrev dktX1_laysTurn_1 : List UInt8 := dkwX1_laysTurn_1 ++ dktX1_laysTurn_2
def dkwX1_laysTurn_0 : List UInt8 := [3, 61, 28, 42, 180, 0, 29, 162, 0, 113, 4, 62, 3, 54, 4, 21, 4, 42, 180, 0, 121, 162, 0, 93]
abbrev dktX1_laysTurn_0 : List UInt8 := dkwX1_laysTurn_0 ++ dktX1_laysTurn_1
theorem dksX1_laysTurn_0 : cX1_laysTurn.data.toList.drop 0 = dktX1_laysTurn_0 := by decide +kernel
theorem dksX1_laysTurn_1 : cX1_laysTurn.data.toList.drop 24 = dktX1_laysTurn_1 := dk_seg dksX1_laysTurn_0 24 rfl rfl
theorem dksX1_laysTurn_2 : cX1_laysTurn.data.toList.drop 46 = dktX1_laysTurn_2 := dk_seg dksX1_laysTurn_1 22 rfl rfl
theorem dksX1_laysTurn_3 : cX1_laysTurn.data.toList.drop 68 = dktX1_laysTurn_3 := dk_seg dksX1_laysTurn_2 22 rfl rfl
theorem dksX1_laysTurn_4 : cX1_laysTurn.data.toList.drop 90 = dktX1_laysTurn_4 := dk_seg dksX1_laysTurn_3 22 rfl rfl
theorem dksX1_laysTurn_5 : cX1_laysTurn.data.toList.drop 114 = dktX1_laysTurn_5 := dk_seg dksX1_laysTurn_4 24 rfl rfl
theorem dX1_laysTurn_0 : decode cX1_laysTurn 0 = .ok (.iconst 0, 1) := dk_3 (dk_at dksX1_laysTurn_0 0 rfl rfl)
theorem dX1_laysTurn_1 : decode cX1_laysTurn 1 = .ok (.istore_n 2, 1) := dk_61 (dk_at dksX1_laysTurn_0 1 rfl rfl)
theorem dX1_laysTurn_2 : decode cX1_laysTurn 2 = .ok (.iload_n 2, 1) := dk_28 (dk_at dksX1_laysTurn_0 2 rfl rfl)
theorem dX1_laysTurn_3 : decode cX1_laysTurn 3 = .ok (.aload_n 0, 1) := dk_42 (dk_at dksX1_laysTurn_0 3 rfl rfl)
theorem dX1_laysTurn_4 : decode cX1_laysTurn 4 = .ok (.getfield 29, 3) := dk_180 0 29 (dk_at dksX1_laysTurn_0 4 rfl rfl)
theorem dX1_laysTurn_7 : decode cX1_laysTurn 7 = .ok (.if_icmp .ge 113, 3) := dk_162 0 113 (dk_at dksX1_laysTurn_0 7 rfl rfl)
theorem dX1_laysTurn_10 : decode cX1_laysTurn 10 = .ok (.iconst 1, 1) := dk_4 (dk_at dksX1_laysTurn_0 10 rfl rfl)
theorem dX1_laysTurn_11 : decode cX1_laysTurn 11 = .ok (.istore_n 3, 1) := dk_62 (dk_at dksX1_laysTurn_0 11 rfl rfl)
theorem dX1_laysTurn_12 : decode cX1_laysTurn 12 = .ok (.iconst 0, 1) := dk_3 (dk_at dksX1_laysTurn_0 12 rfl rfl)
theorem dX1_laysTurn_13 : decode cX1_laysTurn 13 = .ok (.istore 4, 2) := dk_54 4 (dk_at dksX1_laysTurn_0 13 rfl rfl)
theorem dX1_laysTurn_15 : decode cX1_laysTurn 15 = .ok (.iload 4, 2) := dk_21 4 (dk_at dksX1_laysTurn_0 15 rfl rfl)
theorem dX1_laysTurn_17 : decode cX1_laysTurn 17 = .ok (.aload_n 0, 1) := dk_42 (dk_at dksX1_laysTurn_0 17 rfl rfl)
theorem dX1_laysTurn_18 : decode cX1_laysTurn 18 = .ok (.getfield 121, 3) := dk_180 0 121 (dk_at dksX1_laysTurn_0 18 rfl rfl)
theorem dX1_laysTurn_21 : decode cX1_laysTurn 21 = .ok (.if_icmp .ge 93, 3) := dk_162 0 93 (dk_at dksX1_laysTurn_0 21 rfl rfl)
theorem dX1_laysTurn_24 : decode cX1_laysTurn 24 = .ok (.iload_n 3, 1) := dk_29 (dk_at dksX1_laysTurn_1 0 rfl rfl)
theorem dX1_laysTurn_25 : decode cX1_laysTurn 25 = .ok (.ifCond .eq 89, 3) := dk_153 0 89 (dk_at dksX1_laysTurn_1 1 rfl rfl)
theorem dX1_laysTurn_28 : decode cX1_laysTurn 28 = .ok (.aload_n 0, 1) := dk_42 (dk_at dksX1_laysTurn_1 4 rfl rfl)
theorem dX1_laysTurn_29 : decode cX1_laysTurn 29 = .ok (.getfield 73, 3) := dk_180 0 73 (dk_at dksX1_laysTurn_1 5 rfl rfl)
theorem dX1_laysTurn_32 : decode cX1_laysTurn 32 = .ok (.iload 4, 2) := dk_21 4 (dk_at dksX1_laysTurn_1 8 rfl rfl)
theorem dX1_laysTurn_34 : decode cX1_laysTurn 34 = .ok (.iaload, 1) := dk_46 (dk_at dksX1_laysTurn_1 10 rfl rfl)
theorem dX1_laysTurn_35 : decode cX1_laysTurn 35 = .ok (.iload_n 2, 1) := dk_28 (dk_at dksX1_laysTurn_1 11 rfl rfl)
theorem dX1_laysTurn_36 : decode cX1_laysTurn 36 = .ok (.invokestatic 281, 3) := dk_184 1 25 (dk_at dksX1_laysTurn_1 12 rfl rfl)
theorem dX1_laysTurn_39 : decode cX1_laysTurn 39 = .ok (.ifCond .ne 6, 3) := dk_154 0 6 (dk_at dksX1_laysTurn_1 15 rfl rfl)
theorem dX1_laysTurn_42 : decode cX1_laysTurn 42 = .ok (.goto 66, 3) := dk_167 0 66 (dk_at dksX1_laysTurn_1 18 rfl rfl)
theorem dX1_laysTurn_45 : decode cX1_laysTurn 45 = .ok (.aload_n 0, 1) := dk_42 (dk_at dksX1_laysTurn_1 21 rfl rfl)
theorem dX1_laysTurn_46 : decode cX1_laysTurn 46 = .ok (.getfield 73, 3) := dk_180 0 73 (dk_at dksX1_laysTurn_2 0 rfl rfl)
theorem dX1_laysTurn_49 : decode cX1_laysTurn 49 = .ok (.iconst 0, 1) := dk_3 (dk_at dksX1_laysTurn_2 3 rfl rfl)
theorem dX1_laysTurn_50 : decode cX1_laysTurn 50 = .ok (.aload_n 0, 1) := dk_42 (dk_at dksX1_laysTurn_2 4 rfl rfl)
theorem dX1_laysTurn_51 : decode cX1_laysTurn 51 = .ok (.getfield 76, 3) := dk_180 0 76 (dk_at dksX1_laysTurn_2 5 rfl rfl)
theorem dX1_laysTurn_54 : decode cX1_laysTurn 54 = .ok (.iconst 0, 1) := dk_3 (dk_at dksX1_laysTurn_2 8 rfl rfl)
theorem dX1_laysTurn_55 : decode cX1_laysTurn 55 = .ok (.bipush 8, 2) := dk_16 8 (dk_at dksX1_laysTurn_2 9 rfl rfl)
theorem dX1_laysTurn_57 : decode cX1_laysTurn 57 = .ok (.invokestatic 393, 3) := dk_184 1 137 (dk_at dksX1_laysTurn_2 11 rfl rfl)
theorem dX1_laysTurn_60 : decode cX1_laysTurn 60 = .ok (.aload_n 0, 1) := dk_42 (dk_at dksX1_laysTurn_2 14 rfl rfl)
theorem dX1_laysTurn_61 : decode cX1_laysTurn 61 = .ok (.iload_n 2, 1) := dk_28 (dk_at dksX1_laysTurn_2 15 rfl rfl)
theorem dX1_laysTurn_62 : decode cX1_laysTurn 62 = .ok (.iload 4, 2) := dk_21 4 (dk_at dksX1_laysTurn_2 16 rfl rfl)
theorem dX1_laysTurn_64 : decode cX1_laysTurn 64 = .ok (.invokevirtual 399, 3) := dk_182 1 143 (dk_at dksX1_laysTurn_2 18 rfl rfl)
theorem dX1_laysTurn_67 : decode cX1_laysTurn 67 = .ok (.aload_n 0, 1) := dk_42 (dk_at dksX1_laysTurn_2 21 rfl rfl)
theorem dX1_laysTurn_68 : decode cX1_laysTurn 68 = .ok (.getfield 88, 3) := dk_180 0 88 (dk_at dksX1_laysTurn_3 0 rfl rfl)
theorem dX1_laysTurn_71 : decode cX1_laysTurn 71 = .ok (.iload_n 2, 1) := dk_28 (dk_at dksX1_laysTurn_3 3 rfl rfl)
theorem dX1_laysTurn_72 : decode cX1_laysTurn 72 = .ok (.iload 4, 2) := dk_21 4 (dk_at dksX1_laysTurn_3 4 rfl rfl)
theorem dX1_laysTurn_74 : decode cX1_laysTurn 74 = .ok (.iastore, 1) := dk_79 (dk_at dksX1_laysTurn_3 6 rfl rfl)
theorem dX1_laysTurn_75 : decode cX1_laysTurn 75 = .ok (.aload_n 0, 1) := dk_42 (dk_at dksX1_laysTurn_3 7 rfl rfl)
theorem dX1_laysTurn_76 : decode cX1_laysTurn 76 = .ok (.invokevirtual 403, 3) := dk_182 1 147 (dk_at dksX1_laysTurn_3 8 rfl rfl)
theorem dX1_laysTurn_79 : decode cX1_laysTurn 79 = .ok (.iload_n 1, 1) := dk_27 (dk_at dksX1_laysTurn_3 11 rfl rfl)
theorem dX1_laysTurn_80 : decode cX1_laysTurn 80 = .ok (.if_icmp .eq 7, 3) := dk_159 0 7 (dk_at dksX1_laysTurn_3 12 rfl rfl)
theorem dX1_laysTurn_83 : decode cX1_laysTurn 83 = .ok (.iconst 1, 1) := dk_4 (dk_at dksX1_laysTurn_3 15 rfl rfl)
theorem dX1_laysTurn_84 : decode cX1_laysTurn 84 = .ok (.goto 4, 3) := dk_167 0 4 (dk_at dksX1_laysTurn_3 16 rfl rfl)
theorem dX1_laysTurn_87 : decode cX1_laysTurn 87 = .ok (.iconst 0, 1) := dk_3 (dk_at dksX1_laysTurn_3 19 rfl rfl)
theorem dX1_laysTurn_88 : decode cX1_laysTurn 88 = .ok (.istore_n 3, 1) := dk_62 (dk_at dksX1_laysTurn_3 20 rfl rfl)
theorem dX1_laysTurn_89 : decode cX1_laysTurn 89 = .ok (.iload_n 3, 1) := dk_29 (dk_at dksX1_laysTurn_3 21 rfl rfl)
theorem dX1_laysTurn_90 : decode cX1_laysTurn 90 = .ok (.ifCond .eq 18, 3) := dk_153 0 18 (dk_at dksX1_laysTurn_4 0 rfl rfl)
theorem dX1_laysTurn_93 : decode cX1_laysTurn 93 = .ok (.aload_n 0, 1) := dk_42 (dk_at dksX1_laysTurn_4 3 rfl rfl)
theorem dX1_laysTurn_94 : decode cX1_laysTurn 94 = .ok (.getfield 76, 3) := dk_180 0 76 (dk_at dksX1_laysTurn_4 4 rfl rfl)
theorem dX1_laysTurn_97 : decode cX1_laysTurn 97 = .ok (.iconst 0, 1) := dk_3 (dk_at dksX1_laysTurn_4 7 rfl rfl)
theorem dX1_laysTurn_98 : decode cX1_laysTurn 98 = .ok (.aload_n 0, 1) := dk_42 (dk_at dksX1_laysTurn_4 8 rfl rfl)
theorem dX1_laysTurn_99 : decode cX1_laysTurn 99 = .ok (.getfield 73, 3) := dk_180 0 73 (dk_at dksX1_laysTurn_4 9 rfl rfl)
theorem dX1_laysTurn_102 : decode cX1_laysTurn 102 = .ok (.iconst 0, 1) := dk_3 (dk_at dksX1_laysTurn_4 12 rfl rfl)
theorem dX1_laysTurn_103 : decode cX1_laysTurn 103 = .ok (.bipush 8, 2) := dk_16 8 (dk_at dksX1_laysTurn_4 13 rfl rfl)
theorem dX1_laysTurn_105 : decode cX1_laysTurn 105 = .ok (.invokestatic 393, 3) := dk_184 1 137 (dk_at dksX1_laysTurn_4 15 rfl rfl)
theorem dX1_laysTurn_108 : decode cX1_laysTurn 108 = .ok (.iinc 4 1, 3) := dk_132 4 1 (dk_at dksX1_laysTurn_4 18 rfl rfl)
theorem dX1_laysTurn_111 : decode cX1_laysTurn 111 = .ok (.goto (-96), 3) := dk_167 255 160 (dk_at dksX1_laysTurn_4 21 rfl rfl)
theorem dX1_laysTurn_114 : decode cX1_laysTurn 114 = .ok (.iinc 2 1, 3) := dk_132 2 1 (dk_at dksX1_laysTurn_5 0 rfl rfl)
theorem dX1_laysTurn_117 : decode cX1_laysTurn 117 = .ok (.goto (-115), 3) := dk_167 255 141 (dk_at dksX1_laysTurn_5 3 rfl rfl)
theorem dX1_laysTurn_120 : decode cX1_laysTurn 120 = .ok (.return_, 1) := dk_177 (dk_at dksX1_laysTurn_5 6 rfl rfl)
abbrev cX1_fixes : ByteArray := prog_1_method_58_code
def yX1_fixes : MethodName := ⟨RX1, "fixes", "(II)V"⟩
def dkwX1_fixes_1 : List UInt8 := [180, 0, 73, 29, 46, 167, 0, 8, 4, 27, 120, 2, 130, 126, 79, 132, 3, 1, 167, 255, 217, 177]
abbrev dktX1_fixes_1 : List UInt8 := dkwX1_fixes_1 ++ []
def dkwX1_fixes_0 : List UInt8 := [3, 62, 29, 42, 180, 0, 121, 162, 0, 37, 42, 180, 0, 73, 29, 92, 46, 29, 28, 160, 0, 12, 42]
abbrev dktX1_fixes_0 : List UInt8 := dkwX1_fixes_0 ++ dktX1_fixes_1
theorem dksX1_fixes_0 : cX1_fixes.data.toList.drop 0 = dktX1_fixes_0 := by decide +kernel
theorem dksX1_fixes_1 : cX1_fixes.data.toList.drop 23 = dktX1_fixes_1 := dk_seg dksX1_fixes_0 23 rfl rfl
theorem dX1_fixes_0 : decode cX1_fixes 0 = .ok (.iconst 0, 1) := dk_3 (dk_at dksX1_fixes_0 0 rfl rfl)
theorem dX1_fixes_1 : decode cX1_fixes 1 = .ok (.istore_n 3, 1) := dk_62 (dk_at dksX1_fixes_0 1 rfl rfl)
theorem dX1_fixes_2 : decode cX1_fixes 2 = .ok (.iload_n 3, 1) := dk_29 (dk_at dksX1_fixes_0 2 rfl rfl)
theorem dX1_fixes_3 : decode cX1_fixes 3 = .ok (.aload_n 0, 1) := dk_42 (dk_at dksX1_fixes_0 3 rfl rfl)
theorem dX1_fixes_4 : decode cX1_fixes 4 = .ok (.getfield 121, 3) := dk_180 0 121 (dk_at dksX1_fixes_0 4 rfl rfl)
theorem dX1_fixes_7 : decode cX1_fixes 7 = .ok (.if_icmp .ge 37, 3) := dk_162 0 37 (dk_at dksX1_fixes_0 7 rfl rfl)
theorem dX1_fixes_10 : decode cX1_fixes 10 = .ok (.aload_n 0, 1) := dk_42 (dk_at dksX1_fixes_0 10 rfl rfl)
theorem dX1_fixes_11 : decode cX1_fixes 11 = .ok (.getfield 73, 3) := dk_180 0 73 (dk_at dksX1_fixes_0 11 rfl rfl)
theorem dX1_fixes_14 : decode cX1_fixes 14 = .ok (.iload_n 3, 1) := dk_29 (dk_at dksX1_fixes_0 14 rfl rfl)
theorem dX1_fixes_15 : decode cX1_fixes 15 = .ok (.dup2, 1) := dk_92 (dk_at dksX1_fixes_0 15 rfl rfl)
theorem dX1_fixes_16 : decode cX1_fixes 16 = .ok (.iaload, 1) := dk_46 (dk_at dksX1_fixes_0 16 rfl rfl)
theorem dX1_fixes_17 : decode cX1_fixes 17 = .ok (.iload_n 3, 1) := dk_29 (dk_at dksX1_fixes_0 17 rfl rfl)
theorem dX1_fixes_18 : decode cX1_fixes 18 = .ok (.iload_n 2, 1) := dk_28 (dk_at dksX1_fixes_0 18 rfl rfl)
theorem dX1_fixes_19 : decode cX1_fixes 19 = .ok (.if_icmp .ne 12, 3) := dk_160 0 12 (dk_at dksX1_fixes_0 19 rfl rfl)
theorem dX1_fixes_22 : decode cX1_fixes 22 = .ok (.aload_n 0, 1) := dk_42 (dk_at dksX1_fixes_0 22 rfl rfl)
theorem dX1_fixes_23 : decode cX1_fixes 23 = .ok (.getfield 73, 3) := dk_180 0 73 (dk_at dksX1_fixes_1 0 rfl rfl)
theorem dX1_fixes_26 : decode cX1_fixes 26 = .ok (.iload_n 3, 1) := dk_29 (dk_at dksX1_fixes_1 3 rfl rfl)
theorem dX1_fixes_27 : decode cX1_fixes 27 = .ok (.iaload, 1) := dk_46 (dk_at dksX1_fixes_1 4 rfl rfl)
theorem dX1_fixes_28 : decode cX1_fixes 28 = .ok (.goto 8, 3) := dk_167 0 8 (dk_at dksX1_fixes_1 5 rfl rfl)
theorem dX1_fixes_31 : decode cX1_fixes 31 = .ok (.iconst 1, 1) := dk_4 (dk_at dksX1_fixes_1 8 rfl rfl)
theorem dX1_fixes_32 : decode cX1_fixes 32 = .ok (.iload_n 1, 1) := dk_27 (dk_at dksX1_fixes_1 9 rfl rfl)
theorem dX1_fixes_33 : decode cX1_fixes 33 = .ok (.ishl, 1) := dk_120 (dk_at dksX1_fixes_1 10 rfl rfl)
theorem dX1_fixes_34 : decode cX1_fixes 34 = .ok (.iconst (-1), 1) := dk_2 (dk_at dksX1_fixes_1 11 rfl rfl)
theorem dX1_fixes_35 : decode cX1_fixes 35 = .ok (.ixor, 1) := dk_130 (dk_at dksX1_fixes_1 12 rfl rfl)
theorem dX1_fixes_36 : decode cX1_fixes 36 = .ok (.iand, 1) := dk_126 (dk_at dksX1_fixes_1 13 rfl rfl)
theorem dX1_fixes_37 : decode cX1_fixes 37 = .ok (.iastore, 1) := dk_79 (dk_at dksX1_fixes_1 14 rfl rfl)
theorem dX1_fixes_38 : decode cX1_fixes 38 = .ok (.iinc 3 1, 3) := dk_132 3 1 (dk_at dksX1_fixes_1 15 rfl rfl)
theorem dX1_fixes_41 : decode cX1_fixes 41 = .ok (.goto (-39), 3) := dk_167 255 217 (dk_at dksX1_fixes_1 18 rfl rfl)
theorem dX1_fixes_44 : decode cX1_fixes 44 = .ok (.return_, 1) := dk_177 (dk_at dksX1_fixes_1 21 rfl rfl)
abbrev cX1_tellsTurn : ByteArray := prog_1_method_60_code
def yX1_tellsTurn : MethodName := ⟨RX1, "tellsTurn", "()V"⟩
def dkwX1_tellsTurn_1 : List UInt8 := [182, 1, 107, 132, 1, 1, 167, 255, 234, 177]
abbrev dktX1_tellsTurn_1 : List UInt8 := dkwX1_tellsTurn_1 ++ []
def dkwX1_tellsTurn_0 : List UInt8 := [42, 3, 181, 1, 104, 3, 60, 27, 42, 180, 0, 29, 162, 0, 20, 42, 42, 180, 0, 88, 27, 46, 133]
abbrev dktX1_tellsTurn_0 : List UInt8 := dkwX1_tellsTurn_0 ++ dktX1_tellsTurn_1
theorem dksX1_tellsTurn_0 : cX1_tellsTurn.data.toList.drop 0 = dktX1_tellsTurn_0 := by decide +kernel
theorem dksX1_tellsTurn_1 : cX1_tellsTurn.data.toList.drop 23 = dktX1_tellsTurn_1 := dk_seg dksX1_tellsTurn_0 23 rfl rfl
theorem dX1_tellsTurn_0 : decode cX1_tellsTurn 0 = .ok (.aload_n 0, 1) := dk_42 (dk_at dksX1_tellsTurn_0 0 rfl rfl)
theorem dX1_tellsTurn_1 : decode cX1_tellsTurn 1 = .ok (.iconst 0, 1) := dk_3 (dk_at dksX1_tellsTurn_0 1 rfl rfl)
theorem dX1_tellsTurn_2 : decode cX1_tellsTurn 2 = .ok (.putfield 360, 3) := dk_181 1 104 (dk_at dksX1_tellsTurn_0 2 rfl rfl)
theorem dX1_tellsTurn_5 : decode cX1_tellsTurn 5 = .ok (.iconst 0, 1) := dk_3 (dk_at dksX1_tellsTurn_0 5 rfl rfl)
theorem dX1_tellsTurn_6 : decode cX1_tellsTurn 6 = .ok (.istore_n 1, 1) := dk_60 (dk_at dksX1_tellsTurn_0 6 rfl rfl)
theorem dX1_tellsTurn_7 : decode cX1_tellsTurn 7 = .ok (.iload_n 1, 1) := dk_27 (dk_at dksX1_tellsTurn_0 7 rfl rfl)
theorem dX1_tellsTurn_8 : decode cX1_tellsTurn 8 = .ok (.aload_n 0, 1) := dk_42 (dk_at dksX1_tellsTurn_0 8 rfl rfl)
theorem dX1_tellsTurn_9 : decode cX1_tellsTurn 9 = .ok (.getfield 29, 3) := dk_180 0 29 (dk_at dksX1_tellsTurn_0 9 rfl rfl)
theorem dX1_tellsTurn_12 : decode cX1_tellsTurn 12 = .ok (.if_icmp .ge 20, 3) := dk_162 0 20 (dk_at dksX1_tellsTurn_0 12 rfl rfl)
theorem dX1_tellsTurn_15 : decode cX1_tellsTurn 15 = .ok (.aload_n 0, 1) := dk_42 (dk_at dksX1_tellsTurn_0 15 rfl rfl)
theorem dX1_tellsTurn_16 : decode cX1_tellsTurn 16 = .ok (.aload_n 0, 1) := dk_42 (dk_at dksX1_tellsTurn_0 16 rfl rfl)
theorem dX1_tellsTurn_17 : decode cX1_tellsTurn 17 = .ok (.getfield 88, 3) := dk_180 0 88 (dk_at dksX1_tellsTurn_0 17 rfl rfl)
theorem dX1_tellsTurn_20 : decode cX1_tellsTurn 20 = .ok (.iload_n 1, 1) := dk_27 (dk_at dksX1_tellsTurn_0 20 rfl rfl)
theorem dX1_tellsTurn_21 : decode cX1_tellsTurn 21 = .ok (.iaload, 1) := dk_46 (dk_at dksX1_tellsTurn_0 21 rfl rfl)
theorem dX1_tellsTurn_22 : decode cX1_tellsTurn 22 = .ok (.i2l, 1) := dk_133 (dk_at dksX1_tellsTurn_0 22 rfl rfl)
theorem dX1_tellsTurn_23 : decode cX1_tellsTurn 23 = .ok (.invokevirtual 363, 3) := dk_182 1 107 (dk_at dksX1_tellsTurn_1 0 rfl rfl)
theorem dX1_tellsTurn_26 : decode cX1_tellsTurn 26 = .ok (.iinc 1 1, 3) := dk_132 1 1 (dk_at dksX1_tellsTurn_1 3 rfl rfl)
theorem dX1_tellsTurn_29 : decode cX1_tellsTurn 29 = .ok (.goto (-22), 3) := dk_167 255 234 (dk_at dksX1_tellsTurn_1 6 rfl rfl)
theorem dX1_tellsTurn_32 : decode cX1_tellsTurn 32 = .ok (.return_, 1) := dk_177 (dk_at dksX1_tellsTurn_1 9 rfl rfl)
abbrev cX1_takes_2 : ByteArray := prog_1_method_63_code
def yX1_takes_2 : MethodName := ⟨RX1, "takes", "()I"⟩
def dkwX1_takes_2_3 : List UInt8 := [180, 0, 12, 180, 1, 58, 29, 42, 180, 0, 88, 29, 46, 79, 132, 3, 1, 167, 255, 204, 28, 172]
abbrev dktX1_takes_2_3 : List UInt8 := dkwX1_takes_2_3 ++ []
def dkwX1_takes_2_2 : List UInt8 := [180, 1, 58, 29, 46, 42, 180, 0, 88, 29, 46, 160, 0, 7, 3, 167, 0, 4, 4, 96, 61, 42]
abbrev dktX1_takes_2_2 : List UInt8 := dkwX1_takes_2_2 ++ dktX1_takes_2_3
def dkwX1_takes_2_1 : List UInt8 := [180, 0, 12, 182, 1, 87, 3, 61, 3, 62, 29, 42, 180, 0, 29, 162, 0, 50, 28, 42, 180, 0, 12]
abbrev dktX1_takes_2_1 : List UInt8 := dkwX1_takes_2_1 ++ dktX1_takes_2_2
def dkwX1_takes_2_0 : List UInt8 := [42, 3, 182, 1, 156, 60, 27, 18, 95, 160, 0, 6, 16, 254, 172, 42, 27, 182, 1, 159, 42, 42]
abbrev dktX1_takes_2_0 : List UInt8 := dkwX1_takes_2_0 ++ dktX1_takes_2_1
theorem dksX1_takes_2_0 : cX1_takes_2.data.toList.drop 0 = dktX1_takes_2_0 := by decide +kernel
theorem dksX1_takes_2_1 : cX1_takes_2.data.toList.drop 22 = dktX1_takes_2_1 := dk_seg dksX1_takes_2_0 22 rfl rfl
theorem dksX1_takes_2_2 : cX1_takes_2.data.toList.drop 45 = dktX1_takes_2_2 := dk_seg dksX1_takes_2_1 23 rfl rfl
theorem dksX1_takes_2_3 : cX1_takes_2.data.toList.drop 67 = dktX1_takes_2_3 := dk_seg dksX1_takes_2_2 22 rfl rfl
theorem dX1_takes_2_0 : decode cX1_takes_2 0 = .ok (.aload_n 0, 1) := dk_42 (dk_at dksX1_takes_2_0 0 rfl rfl)
theorem dX1_takes_2_1 : decode cX1_takes_2 1 = .ok (.iconst 0, 1) := dk_3 (dk_at dksX1_takes_2_0 1 rfl rfl)
theorem dX1_takes_2_2 : decode cX1_takes_2 2 = .ok (.invokevirtual 412, 3) := dk_182 1 156 (dk_at dksX1_takes_2_0 2 rfl rfl)
theorem dX1_takes_2_5 : decode cX1_takes_2 5 = .ok (.istore_n 1, 1) := dk_60 (dk_at dksX1_takes_2_0 5 rfl rfl)
theorem dX1_takes_2_6 : decode cX1_takes_2 6 = .ok (.iload_n 1, 1) := dk_27 (dk_at dksX1_takes_2_0 6 rfl rfl)
theorem dX1_takes_2_7 : decode cX1_takes_2 7 = .ok (.ldc 95, 2) := dk_18 95 (dk_at dksX1_takes_2_0 7 rfl rfl)
theorem dX1_takes_2_9 : decode cX1_takes_2 9 = .ok (.if_icmp .ne 6, 3) := dk_160 0 6 (dk_at dksX1_takes_2_0 9 rfl rfl)
theorem dX1_takes_2_12 : decode cX1_takes_2 12 = .ok (.bipush (-2), 2) := dk_16 254 (dk_at dksX1_takes_2_0 12 rfl rfl)
theorem dX1_takes_2_14 : decode cX1_takes_2 14 = .ok (.ireturn, 1) := dk_172 (dk_at dksX1_takes_2_0 14 rfl rfl)
theorem dX1_takes_2_15 : decode cX1_takes_2 15 = .ok (.aload_n 0, 1) := dk_42 (dk_at dksX1_takes_2_0 15 rfl rfl)
theorem dX1_takes_2_16 : decode cX1_takes_2 16 = .ok (.iload_n 1, 1) := dk_27 (dk_at dksX1_takes_2_0 16 rfl rfl)
theorem dX1_takes_2_17 : decode cX1_takes_2 17 = .ok (.invokevirtual 415, 3) := dk_182 1 159 (dk_at dksX1_takes_2_0 17 rfl rfl)
theorem dX1_takes_2_20 : decode cX1_takes_2 20 = .ok (.aload_n 0, 1) := dk_42 (dk_at dksX1_takes_2_0 20 rfl rfl)
theorem dX1_takes_2_21 : decode cX1_takes_2 21 = .ok (.aload_n 0, 1) := dk_42 (dk_at dksX1_takes_2_0 21 rfl rfl)
theorem dX1_takes_2_22 : decode cX1_takes_2 22 = .ok (.getfield 12, 3) := dk_180 0 12 (dk_at dksX1_takes_2_1 0 rfl rfl)
theorem dX1_takes_2_25 : decode cX1_takes_2 25 = .ok (.invokevirtual 343, 3) := dk_182 1 87 (dk_at dksX1_takes_2_1 3 rfl rfl)
theorem dX1_takes_2_28 : decode cX1_takes_2 28 = .ok (.iconst 0, 1) := dk_3 (dk_at dksX1_takes_2_1 6 rfl rfl)
theorem dX1_takes_2_29 : decode cX1_takes_2 29 = .ok (.istore_n 2, 1) := dk_61 (dk_at dksX1_takes_2_1 7 rfl rfl)
theorem dX1_takes_2_30 : decode cX1_takes_2 30 = .ok (.iconst 0, 1) := dk_3 (dk_at dksX1_takes_2_1 8 rfl rfl)
theorem dX1_takes_2_31 : decode cX1_takes_2 31 = .ok (.istore_n 3, 1) := dk_62 (dk_at dksX1_takes_2_1 9 rfl rfl)
theorem dX1_takes_2_32 : decode cX1_takes_2 32 = .ok (.iload_n 3, 1) := dk_29 (dk_at dksX1_takes_2_1 10 rfl rfl)
theorem dX1_takes_2_33 : decode cX1_takes_2 33 = .ok (.aload_n 0, 1) := dk_42 (dk_at dksX1_takes_2_1 11 rfl rfl)
theorem dX1_takes_2_34 : decode cX1_takes_2 34 = .ok (.getfield 29, 3) := dk_180 0 29 (dk_at dksX1_takes_2_1 12 rfl rfl)
theorem dX1_takes_2_37 : decode cX1_takes_2 37 = .ok (.if_icmp .ge 50, 3) := dk_162 0 50 (dk_at dksX1_takes_2_1 15 rfl rfl)
theorem dX1_takes_2_40 : decode cX1_takes_2 40 = .ok (.iload_n 2, 1) := dk_28 (dk_at dksX1_takes_2_1 18 rfl rfl)
theorem dX1_takes_2_41 : decode cX1_takes_2 41 = .ok (.aload_n 0, 1) := dk_42 (dk_at dksX1_takes_2_1 19 rfl rfl)
theorem dX1_takes_2_42 : decode cX1_takes_2 42 = .ok (.getfield 12, 3) := dk_180 0 12 (dk_at dksX1_takes_2_1 20 rfl rfl)
theorem dX1_takes_2_45 : decode cX1_takes_2 45 = .ok (.getfield 314, 3) := dk_180 1 58 (dk_at dksX1_takes_2_2 0 rfl rfl)
theorem dX1_takes_2_48 : decode cX1_takes_2 48 = .ok (.iload_n 3, 1) := dk_29 (dk_at dksX1_takes_2_2 3 rfl rfl)
theorem dX1_takes_2_49 : decode cX1_takes_2 49 = .ok (.iaload, 1) := dk_46 (dk_at dksX1_takes_2_2 4 rfl rfl)
theorem dX1_takes_2_50 : decode cX1_takes_2 50 = .ok (.aload_n 0, 1) := dk_42 (dk_at dksX1_takes_2_2 5 rfl rfl)
theorem dX1_takes_2_51 : decode cX1_takes_2 51 = .ok (.getfield 88, 3) := dk_180 0 88 (dk_at dksX1_takes_2_2 6 rfl rfl)
theorem dX1_takes_2_54 : decode cX1_takes_2 54 = .ok (.iload_n 3, 1) := dk_29 (dk_at dksX1_takes_2_2 9 rfl rfl)
theorem dX1_takes_2_55 : decode cX1_takes_2 55 = .ok (.iaload, 1) := dk_46 (dk_at dksX1_takes_2_2 10 rfl rfl)
theorem dX1_takes_2_56 : decode cX1_takes_2 56 = .ok (.if_icmp .ne 7, 3) := dk_160 0 7 (dk_at dksX1_takes_2_2 11 rfl rfl)
theorem dX1_takes_2_59 : decode cX1_takes_2 59 = .ok (.iconst 0, 1) := dk_3 (dk_at dksX1_takes_2_2 14 rfl rfl)
theorem dX1_takes_2_60 : decode cX1_takes_2 60 = .ok (.goto 4, 3) := dk_167 0 4 (dk_at dksX1_takes_2_2 15 rfl rfl)
theorem dX1_takes_2_63 : decode cX1_takes_2 63 = .ok (.iconst 1, 1) := dk_4 (dk_at dksX1_takes_2_2 18 rfl rfl)
theorem dX1_takes_2_64 : decode cX1_takes_2 64 = .ok (.iadd, 1) := dk_96 (dk_at dksX1_takes_2_2 19 rfl rfl)
theorem dX1_takes_2_65 : decode cX1_takes_2 65 = .ok (.istore_n 2, 1) := dk_61 (dk_at dksX1_takes_2_2 20 rfl rfl)
theorem dX1_takes_2_66 : decode cX1_takes_2 66 = .ok (.aload_n 0, 1) := dk_42 (dk_at dksX1_takes_2_2 21 rfl rfl)
theorem dX1_takes_2_67 : decode cX1_takes_2 67 = .ok (.getfield 12, 3) := dk_180 0 12 (dk_at dksX1_takes_2_3 0 rfl rfl)
theorem dX1_takes_2_70 : decode cX1_takes_2 70 = .ok (.getfield 314, 3) := dk_180 1 58 (dk_at dksX1_takes_2_3 3 rfl rfl)
theorem dX1_takes_2_73 : decode cX1_takes_2 73 = .ok (.iload_n 3, 1) := dk_29 (dk_at dksX1_takes_2_3 6 rfl rfl)
theorem dX1_takes_2_74 : decode cX1_takes_2 74 = .ok (.aload_n 0, 1) := dk_42 (dk_at dksX1_takes_2_3 7 rfl rfl)
theorem dX1_takes_2_75 : decode cX1_takes_2 75 = .ok (.getfield 88, 3) := dk_180 0 88 (dk_at dksX1_takes_2_3 8 rfl rfl)
theorem dX1_takes_2_78 : decode cX1_takes_2 78 = .ok (.iload_n 3, 1) := dk_29 (dk_at dksX1_takes_2_3 11 rfl rfl)
theorem dX1_takes_2_79 : decode cX1_takes_2 79 = .ok (.iaload, 1) := dk_46 (dk_at dksX1_takes_2_3 12 rfl rfl)
theorem dX1_takes_2_80 : decode cX1_takes_2 80 = .ok (.iastore, 1) := dk_79 (dk_at dksX1_takes_2_3 13 rfl rfl)
theorem dX1_takes_2_81 : decode cX1_takes_2 81 = .ok (.iinc 3 1, 3) := dk_132 3 1 (dk_at dksX1_takes_2_3 14 rfl rfl)
theorem dX1_takes_2_84 : decode cX1_takes_2 84 = .ok (.goto (-52), 3) := dk_167 255 204 (dk_at dksX1_takes_2_3 17 rfl rfl)
theorem dX1_takes_2_87 : decode cX1_takes_2 87 = .ok (.iload_n 2, 1) := dk_28 (dk_at dksX1_takes_2_3 20 rfl rfl)
theorem dX1_takes_2_88 : decode cX1_takes_2 88 = .ok (.ireturn, 1) := dk_172 (dk_at dksX1_takes_2_3 21 rfl rfl)
abbrev cX1_fewest : ByteArray := prog_1_method_66_code
def yX1_fewest : MethodName := ⟨RX1, "fewest", "()I"⟩
def dkwX1_fewest_3 : List UInt8 := [156, 0, 6, 16, 254, 172, 42, 3, 181, 1, 104, 42, 27, 133, 182, 1, 107, 27, 184, 1, 70, 172]
abbrev dktX1_fewest_3 : List UInt8 := dkwX1_fewest_3 ++ []
def dkwX1_fewest_2 : List UInt8 := [154, 0, 15, 42, 28, 182, 1, 168, 154, 0, 7, 28, 167, 0, 4, 27, 60, 132, 2, 1, 167, 255, 194, 27]
abbrev dktX1_fewest_2 : List UInt8 := dkwX1_fewest_2 ++ dktX1_fewest_3
def dkwX1_fewest_1 : List UInt8 := [162, 0, 7, 4, 167, 0, 4, 3, 62, 29, 153, 0, 27, 28, 42, 180, 0, 12, 180, 0, 200, 126]
abbrev dktX1_fewest_1 : List UInt8 := dkwX1_fewest_1 ++ dktX1_fewest_2
def dkwX1_fewest_0 : List UInt8 := [2, 60, 3, 61, 28, 42, 182, 1, 165, 163, 0, 60, 27, 155, 0, 14, 28, 184, 1, 70, 27, 184, 1, 70]
abbrev dktX1_fewest_0 : List UInt8 := dkwX1_fewest_0 ++ dktX1_fewest_1
theorem dksX1_fewest_0 : cX1_fewest.data.toList.drop 0 = dktX1_fewest_0 := by decide +kernel
theorem dksX1_fewest_1 : cX1_fewest.data.toList.drop 24 = dktX1_fewest_1 := dk_seg dksX1_fewest_0 24 rfl rfl
theorem dksX1_fewest_2 : cX1_fewest.data.toList.drop 46 = dktX1_fewest_2 := dk_seg dksX1_fewest_1 22 rfl rfl
theorem dksX1_fewest_3 : cX1_fewest.data.toList.drop 70 = dktX1_fewest_3 := dk_seg dksX1_fewest_2 24 rfl rfl
theorem dX1_fewest_0 : decode cX1_fewest 0 = .ok (.iconst (-1), 1) := dk_2 (dk_at dksX1_fewest_0 0 rfl rfl)
theorem dX1_fewest_1 : decode cX1_fewest 1 = .ok (.istore_n 1, 1) := dk_60 (dk_at dksX1_fewest_0 1 rfl rfl)
theorem dX1_fewest_2 : decode cX1_fewest 2 = .ok (.iconst 0, 1) := dk_3 (dk_at dksX1_fewest_0 2 rfl rfl)
theorem dX1_fewest_3 : decode cX1_fewest 3 = .ok (.istore_n 2, 1) := dk_61 (dk_at dksX1_fewest_0 3 rfl rfl)
theorem dX1_fewest_4 : decode cX1_fewest 4 = .ok (.iload_n 2, 1) := dk_28 (dk_at dksX1_fewest_0 4 rfl rfl)
theorem dX1_fewest_5 : decode cX1_fewest 5 = .ok (.aload_n 0, 1) := dk_42 (dk_at dksX1_fewest_0 5 rfl rfl)
theorem dX1_fewest_6 : decode cX1_fewest 6 = .ok (.invokevirtual 421, 3) := dk_182 1 165 (dk_at dksX1_fewest_0 6 rfl rfl)
theorem dX1_fewest_9 : decode cX1_fewest 9 = .ok (.if_icmp .gt 60, 3) := dk_163 0 60 (dk_at dksX1_fewest_0 9 rfl rfl)
theorem dX1_fewest_12 : decode cX1_fewest 12 = .ok (.iload_n 1, 1) := dk_27 (dk_at dksX1_fewest_0 12 rfl rfl)
theorem dX1_fewest_13 : decode cX1_fewest 13 = .ok (.ifCond .lt 14, 3) := dk_155 0 14 (dk_at dksX1_fewest_0 13 rfl rfl)
theorem dX1_fewest_16 : decode cX1_fewest 16 = .ok (.iload_n 2, 1) := dk_28 (dk_at dksX1_fewest_0 16 rfl rfl)
theorem dX1_fewest_17 : decode cX1_fewest 17 = .ok (.invokestatic 326, 3) := dk_184 1 70 (dk_at dksX1_fewest_0 17 rfl rfl)
theorem dX1_fewest_20 : decode cX1_fewest 20 = .ok (.iload_n 1, 1) := dk_27 (dk_at dksX1_fewest_0 20 rfl rfl)
theorem dX1_fewest_21 : decode cX1_fewest 21 = .ok (.invokestatic 326, 3) := dk_184 1 70 (dk_at dksX1_fewest_0 21 rfl rfl)
theorem dX1_fewest_24 : decode cX1_fewest 24 = .ok (.if_icmp .ge 7, 3) := dk_162 0 7 (dk_at dksX1_fewest_1 0 rfl rfl)
theorem dX1_fewest_27 : decode cX1_fewest 27 = .ok (.iconst 1, 1) := dk_4 (dk_at dksX1_fewest_1 3 rfl rfl)
theorem dX1_fewest_28 : decode cX1_fewest 28 = .ok (.goto 4, 3) := dk_167 0 4 (dk_at dksX1_fewest_1 4 rfl rfl)
theorem dX1_fewest_31 : decode cX1_fewest 31 = .ok (.iconst 0, 1) := dk_3 (dk_at dksX1_fewest_1 7 rfl rfl)
theorem dX1_fewest_32 : decode cX1_fewest 32 = .ok (.istore_n 3, 1) := dk_62 (dk_at dksX1_fewest_1 8 rfl rfl)
theorem dX1_fewest_33 : decode cX1_fewest 33 = .ok (.iload_n 3, 1) := dk_29 (dk_at dksX1_fewest_1 9 rfl rfl)
theorem dX1_fewest_34 : decode cX1_fewest 34 = .ok (.ifCond .eq 27, 3) := dk_153 0 27 (dk_at dksX1_fewest_1 10 rfl rfl)
theorem dX1_fewest_37 : decode cX1_fewest 37 = .ok (.iload_n 2, 1) := dk_28 (dk_at dksX1_fewest_1 13 rfl rfl)
theorem dX1_fewest_38 : decode cX1_fewest 38 = .ok (.aload_n 0, 1) := dk_42 (dk_at dksX1_fewest_1 14 rfl rfl)
theorem dX1_fewest_39 : decode cX1_fewest 39 = .ok (.getfield 12, 3) := dk_180 0 12 (dk_at dksX1_fewest_1 15 rfl rfl)
theorem dX1_fewest_42 : decode cX1_fewest 42 = .ok (.getfield 200, 3) := dk_180 0 200 (dk_at dksX1_fewest_1 18 rfl rfl)
theorem dX1_fewest_45 : decode cX1_fewest 45 = .ok (.iand, 1) := dk_126 (dk_at dksX1_fewest_1 21 rfl rfl)
theorem dX1_fewest_46 : decode cX1_fewest 46 = .ok (.ifCond .ne 15, 3) := dk_154 0 15 (dk_at dksX1_fewest_2 0 rfl rfl)
theorem dX1_fewest_49 : decode cX1_fewest 49 = .ok (.aload_n 0, 1) := dk_42 (dk_at dksX1_fewest_2 3 rfl rfl)
theorem dX1_fewest_50 : decode cX1_fewest 50 = .ok (.iload_n 2, 1) := dk_28 (dk_at dksX1_fewest_2 4 rfl rfl)
theorem dX1_fewest_51 : decode cX1_fewest 51 = .ok (.invokevirtual 424, 3) := dk_182 1 168 (dk_at dksX1_fewest_2 5 rfl rfl)
theorem dX1_fewest_54 : decode cX1_fewest 54 = .ok (.ifCond .ne 7, 3) := dk_154 0 7 (dk_at dksX1_fewest_2 8 rfl rfl)
theorem dX1_fewest_57 : decode cX1_fewest 57 = .ok (.iload_n 2, 1) := dk_28 (dk_at dksX1_fewest_2 11 rfl rfl)
theorem dX1_fewest_58 : decode cX1_fewest 58 = .ok (.goto 4, 3) := dk_167 0 4 (dk_at dksX1_fewest_2 12 rfl rfl)
theorem dX1_fewest_61 : decode cX1_fewest 61 = .ok (.iload_n 1, 1) := dk_27 (dk_at dksX1_fewest_2 15 rfl rfl)
theorem dX1_fewest_62 : decode cX1_fewest 62 = .ok (.istore_n 1, 1) := dk_60 (dk_at dksX1_fewest_2 16 rfl rfl)
theorem dX1_fewest_63 : decode cX1_fewest 63 = .ok (.iinc 2 1, 3) := dk_132 2 1 (dk_at dksX1_fewest_2 17 rfl rfl)
theorem dX1_fewest_66 : decode cX1_fewest 66 = .ok (.goto (-62), 3) := dk_167 255 194 (dk_at dksX1_fewest_2 20 rfl rfl)
theorem dX1_fewest_69 : decode cX1_fewest 69 = .ok (.iload_n 1, 1) := dk_27 (dk_at dksX1_fewest_2 23 rfl rfl)
theorem dX1_fewest_70 : decode cX1_fewest 70 = .ok (.ifCond .ge 6, 3) := dk_156 0 6 (dk_at dksX1_fewest_3 0 rfl rfl)
theorem dX1_fewest_73 : decode cX1_fewest 73 = .ok (.bipush (-2), 2) := dk_16 254 (dk_at dksX1_fewest_3 3 rfl rfl)
theorem dX1_fewest_75 : decode cX1_fewest 75 = .ok (.ireturn, 1) := dk_172 (dk_at dksX1_fewest_3 5 rfl rfl)
theorem dX1_fewest_76 : decode cX1_fewest 76 = .ok (.aload_n 0, 1) := dk_42 (dk_at dksX1_fewest_3 6 rfl rfl)
theorem dX1_fewest_77 : decode cX1_fewest 77 = .ok (.iconst 0, 1) := dk_3 (dk_at dksX1_fewest_3 7 rfl rfl)
theorem dX1_fewest_78 : decode cX1_fewest 78 = .ok (.putfield 360, 3) := dk_181 1 104 (dk_at dksX1_fewest_3 8 rfl rfl)
theorem dX1_fewest_81 : decode cX1_fewest 81 = .ok (.aload_n 0, 1) := dk_42 (dk_at dksX1_fewest_3 11 rfl rfl)
theorem dX1_fewest_82 : decode cX1_fewest 82 = .ok (.iload_n 1, 1) := dk_27 (dk_at dksX1_fewest_3 12 rfl rfl)
theorem dX1_fewest_83 : decode cX1_fewest 83 = .ok (.i2l, 1) := dk_133 (dk_at dksX1_fewest_3 13 rfl rfl)
theorem dX1_fewest_84 : decode cX1_fewest 84 = .ok (.invokevirtual 363, 3) := dk_182 1 107 (dk_at dksX1_fewest_3 14 rfl rfl)
theorem dX1_fewest_87 : decode cX1_fewest 87 = .ok (.iload_n 1, 1) := dk_27 (dk_at dksX1_fewest_3 17 rfl rfl)
theorem dX1_fewest_88 : decode cX1_fewest 88 = .ok (.invokestatic 326, 3) := dk_184 1 70 (dk_at dksX1_fewest_3 18 rfl rfl)
theorem dX1_fewest_91 : decode cX1_fewest 91 = .ok (.ireturn, 1) := dk_172 (dk_at dksX1_fewest_3 21 rfl rfl)
abbrev cX1_all : ByteArray := prog_1_method_8_code
def yX1_all : MethodName := ⟨RX1, "all", "()I"⟩
def dkwX1_all_0 : List UInt8 := [4, 42, 180, 0, 121, 120, 4, 100, 172]
abbrev dktX1_all_0 : List UInt8 := dkwX1_all_0 ++ []
theorem dksX1_all_0 : cX1_all.data.toList.drop 0 = dktX1_all_0 := by decide +kernel
theorem dX1_all_0 : decode cX1_all 0 = .ok (.iconst 1, 1) := dk_4 (dk_at dksX1_all_0 0 rfl rfl)
theorem dX1_all_1 : decode cX1_all 1 = .ok (.aload_n 0, 1) := dk_42 (dk_at dksX1_all_0 1 rfl rfl)
theorem dX1_all_2 : decode cX1_all 2 = .ok (.getfield 121, 3) := dk_180 0 121 (dk_at dksX1_all_0 2 rfl rfl)
theorem dX1_all_5 : decode cX1_all 5 = .ok (.ishl, 1) := dk_120 (dk_at dksX1_all_0 5 rfl rfl)
theorem dX1_all_6 : decode cX1_all 6 = .ok (.iconst 1, 1) := dk_4 (dk_at dksX1_all_0 6 rfl rfl)
theorem dX1_all_7 : decode cX1_all 7 = .ok (.isub, 1) := dk_100 (dk_at dksX1_all_0 7 rfl rfl)
theorem dX1_all_8 : decode cX1_all 8 = .ok (.ireturn, 1) := dk_172 (dk_at dksX1_all_0 8 rfl rfl)
abbrev cX1_lacking : ByteArray := prog_1_method_64_code
def yX1_lacking : MethodName := ⟨RX1, "lacking", "(I)I"⟩
def dkwX1_lacking_5 : List UInt8 := [28, 172]
abbrev dktX1_lacking_5 : List UInt8 := dkwX1_lacking_5 ++ []
def dkwX1_lacking_4 : List UInt8 := [153, 0, 16, 21, 4, 29, 184, 1, 70, 162, 0, 7, 29, 167, 0, 4, 28, 61, 132, 3, 1, 167, 255, 145]
abbrev dktX1_lacking_4 : List UInt8 := dkwX1_lacking_4 ++ dktX1_lacking_5
def dkwX1_lacking_3 : List UInt8 := [153, 0, 14, 29, 184, 1, 70, 28, 184, 1, 70, 162, 0, 7, 4, 167, 0, 4, 3, 54, 5, 21, 5]
abbrev dktX1_lacking_3 : List UInt8 := dkwX1_lacking_3 ++ dktX1_lacking_4
def dkwX1_lacking_2 : List UInt8 := [153, 0, 13, 42, 180, 0, 19, 21, 5, 46, 167, 0, 4, 3, 96, 54, 4, 132, 5, 1, 167, 255, 207, 28]
abbrev dktX1_lacking_2 : List UInt8 := dkwX1_lacking_2 ++ dktX1_lacking_3
def dkwX1_lacking_1 : List UInt8 := [162, 0, 46, 21, 4, 27, 21, 5, 184, 1, 25, 153, 0, 25, 42, 180, 0, 26, 21, 5, 46, 29, 126]
abbrev dktX1_lacking_1 : List UInt8 := dkwX1_lacking_1 ++ dktX1_lacking_2
def dkwX1_lacking_0 : List UInt8 := [3, 61, 4, 62, 29, 42, 182, 1, 130, 163, 0, 109, 3, 54, 4, 3, 54, 5, 21, 5, 42, 180, 0, 121]
abbrev dktX1_lacking_0 : List UInt8 := dkwX1_lacking_0 ++ dktX1_lacking_1
theorem dksX1_lacking_0 : cX1_lacking.data.toList.drop 0 = dktX1_lacking_0 := by decide +kernel
theorem dksX1_lacking_1 : cX1_lacking.data.toList.drop 24 = dktX1_lacking_1 := dk_seg dksX1_lacking_0 24 rfl rfl
theorem dksX1_lacking_2 : cX1_lacking.data.toList.drop 47 = dktX1_lacking_2 := dk_seg dksX1_lacking_1 23 rfl rfl
theorem dksX1_lacking_3 : cX1_lacking.data.toList.drop 71 = dktX1_lacking_3 := dk_seg dksX1_lacking_2 24 rfl rfl
theorem dksX1_lacking_4 : cX1_lacking.data.toList.drop 94 = dktX1_lacking_4 := dk_seg dksX1_lacking_3 23 rfl rfl
theorem dksX1_lacking_5 : cX1_lacking.data.toList.drop 118 = dktX1_lacking_5 := dk_seg dksX1_lacking_4 24 rfl rfl
theorem dX1_lacking_0 : decode cX1_lacking 0 = .ok (.iconst 0, 1) := dk_3 (dk_at dksX1_lacking_0 0 rfl rfl)
theorem dX1_lacking_1 : decode cX1_lacking 1 = .ok (.istore_n 2, 1) := dk_61 (dk_at dksX1_lacking_0 1 rfl rfl)
theorem dX1_lacking_2 : decode cX1_lacking 2 = .ok (.iconst 1, 1) := dk_4 (dk_at dksX1_lacking_0 2 rfl rfl)
theorem dX1_lacking_3 : decode cX1_lacking 3 = .ok (.istore_n 3, 1) := dk_62 (dk_at dksX1_lacking_0 3 rfl rfl)
theorem dX1_lacking_4 : decode cX1_lacking 4 = .ok (.iload_n 3, 1) := dk_29 (dk_at dksX1_lacking_0 4 rfl rfl)
theorem dX1_lacking_5 : decode cX1_lacking 5 = .ok (.aload_n 0, 1) := dk_42 (dk_at dksX1_lacking_0 5 rfl rfl)
theorem dX1_lacking_6 : decode cX1_lacking 6 = .ok (.invokevirtual 386, 3) := dk_182 1 130 (dk_at dksX1_lacking_0 6 rfl rfl)
theorem dX1_lacking_9 : decode cX1_lacking 9 = .ok (.if_icmp .gt 109, 3) := dk_163 0 109 (dk_at dksX1_lacking_0 9 rfl rfl)
theorem dX1_lacking_12 : decode cX1_lacking 12 = .ok (.iconst 0, 1) := dk_3 (dk_at dksX1_lacking_0 12 rfl rfl)
theorem dX1_lacking_13 : decode cX1_lacking 13 = .ok (.istore 4, 2) := dk_54 4 (dk_at dksX1_lacking_0 13 rfl rfl)
theorem dX1_lacking_15 : decode cX1_lacking 15 = .ok (.iconst 0, 1) := dk_3 (dk_at dksX1_lacking_0 15 rfl rfl)
theorem dX1_lacking_16 : decode cX1_lacking 16 = .ok (.istore 5, 2) := dk_54 5 (dk_at dksX1_lacking_0 16 rfl rfl)
theorem dX1_lacking_18 : decode cX1_lacking 18 = .ok (.iload 5, 2) := dk_21 5 (dk_at dksX1_lacking_0 18 rfl rfl)
theorem dX1_lacking_20 : decode cX1_lacking 20 = .ok (.aload_n 0, 1) := dk_42 (dk_at dksX1_lacking_0 20 rfl rfl)
theorem dX1_lacking_21 : decode cX1_lacking 21 = .ok (.getfield 121, 3) := dk_180 0 121 (dk_at dksX1_lacking_0 21 rfl rfl)
theorem dX1_lacking_24 : decode cX1_lacking 24 = .ok (.if_icmp .ge 46, 3) := dk_162 0 46 (dk_at dksX1_lacking_1 0 rfl rfl)
theorem dX1_lacking_27 : decode cX1_lacking 27 = .ok (.iload 4, 2) := dk_21 4 (dk_at dksX1_lacking_1 3 rfl rfl)
theorem dX1_lacking_29 : decode cX1_lacking 29 = .ok (.iload_n 1, 1) := dk_27 (dk_at dksX1_lacking_1 5 rfl rfl)
theorem dX1_lacking_30 : decode cX1_lacking 30 = .ok (.iload 5, 2) := dk_21 5 (dk_at dksX1_lacking_1 6 rfl rfl)
theorem dX1_lacking_32 : decode cX1_lacking 32 = .ok (.invokestatic 281, 3) := dk_184 1 25 (dk_at dksX1_lacking_1 8 rfl rfl)
theorem dX1_lacking_35 : decode cX1_lacking 35 = .ok (.ifCond .eq 25, 3) := dk_153 0 25 (dk_at dksX1_lacking_1 11 rfl rfl)
theorem dX1_lacking_38 : decode cX1_lacking 38 = .ok (.aload_n 0, 1) := dk_42 (dk_at dksX1_lacking_1 14 rfl rfl)
theorem dX1_lacking_39 : decode cX1_lacking 39 = .ok (.getfield 26, 3) := dk_180 0 26 (dk_at dksX1_lacking_1 15 rfl rfl)
theorem dX1_lacking_42 : decode cX1_lacking 42 = .ok (.iload 5, 2) := dk_21 5 (dk_at dksX1_lacking_1 18 rfl rfl)
theorem dX1_lacking_44 : decode cX1_lacking 44 = .ok (.iaload, 1) := dk_46 (dk_at dksX1_lacking_1 20 rfl rfl)
theorem dX1_lacking_45 : decode cX1_lacking 45 = .ok (.iload_n 3, 1) := dk_29 (dk_at dksX1_lacking_1 21 rfl rfl)
theorem dX1_lacking_46 : decode cX1_lacking 46 = .ok (.iand, 1) := dk_126 (dk_at dksX1_lacking_1 22 rfl rfl)
theorem dX1_lacking_47 : decode cX1_lacking 47 = .ok (.ifCond .eq 13, 3) := dk_153 0 13 (dk_at dksX1_lacking_2 0 rfl rfl)
theorem dX1_lacking_50 : decode cX1_lacking 50 = .ok (.aload_n 0, 1) := dk_42 (dk_at dksX1_lacking_2 3 rfl rfl)
theorem dX1_lacking_51 : decode cX1_lacking 51 = .ok (.getfield 19, 3) := dk_180 0 19 (dk_at dksX1_lacking_2 4 rfl rfl)
theorem dX1_lacking_54 : decode cX1_lacking 54 = .ok (.iload 5, 2) := dk_21 5 (dk_at dksX1_lacking_2 7 rfl rfl)
theorem dX1_lacking_56 : decode cX1_lacking 56 = .ok (.iaload, 1) := dk_46 (dk_at dksX1_lacking_2 9 rfl rfl)
theorem dX1_lacking_57 : decode cX1_lacking 57 = .ok (.goto 4, 3) := dk_167 0 4 (dk_at dksX1_lacking_2 10 rfl rfl)
theorem dX1_lacking_60 : decode cX1_lacking 60 = .ok (.iconst 0, 1) := dk_3 (dk_at dksX1_lacking_2 13 rfl rfl)
theorem dX1_lacking_61 : decode cX1_lacking 61 = .ok (.iadd, 1) := dk_96 (dk_at dksX1_lacking_2 14 rfl rfl)
theorem dX1_lacking_62 : decode cX1_lacking 62 = .ok (.istore 4, 2) := dk_54 4 (dk_at dksX1_lacking_2 15 rfl rfl)
theorem dX1_lacking_64 : decode cX1_lacking 64 = .ok (.iinc 5 1, 3) := dk_132 5 1 (dk_at dksX1_lacking_2 17 rfl rfl)
theorem dX1_lacking_67 : decode cX1_lacking 67 = .ok (.goto (-49), 3) := dk_167 255 207 (dk_at dksX1_lacking_2 20 rfl rfl)
theorem dX1_lacking_70 : decode cX1_lacking 70 = .ok (.iload_n 2, 1) := dk_28 (dk_at dksX1_lacking_2 23 rfl rfl)
theorem dX1_lacking_71 : decode cX1_lacking 71 = .ok (.ifCond .eq 14, 3) := dk_153 0 14 (dk_at dksX1_lacking_3 0 rfl rfl)
theorem dX1_lacking_74 : decode cX1_lacking 74 = .ok (.iload_n 3, 1) := dk_29 (dk_at dksX1_lacking_3 3 rfl rfl)
theorem dX1_lacking_75 : decode cX1_lacking 75 = .ok (.invokestatic 326, 3) := dk_184 1 70 (dk_at dksX1_lacking_3 4 rfl rfl)
theorem dX1_lacking_78 : decode cX1_lacking 78 = .ok (.iload_n 2, 1) := dk_28 (dk_at dksX1_lacking_3 7 rfl rfl)
theorem dX1_lacking_79 : decode cX1_lacking 79 = .ok (.invokestatic 326, 3) := dk_184 1 70 (dk_at dksX1_lacking_3 8 rfl rfl)
theorem dX1_lacking_82 : decode cX1_lacking 82 = .ok (.if_icmp .ge 7, 3) := dk_162 0 7 (dk_at dksX1_lacking_3 11 rfl rfl)
theorem dX1_lacking_85 : decode cX1_lacking 85 = .ok (.iconst 1, 1) := dk_4 (dk_at dksX1_lacking_3 14 rfl rfl)
theorem dX1_lacking_86 : decode cX1_lacking 86 = .ok (.goto 4, 3) := dk_167 0 4 (dk_at dksX1_lacking_3 15 rfl rfl)
theorem dX1_lacking_89 : decode cX1_lacking 89 = .ok (.iconst 0, 1) := dk_3 (dk_at dksX1_lacking_3 18 rfl rfl)
theorem dX1_lacking_90 : decode cX1_lacking 90 = .ok (.istore 5, 2) := dk_54 5 (dk_at dksX1_lacking_3 19 rfl rfl)
theorem dX1_lacking_92 : decode cX1_lacking 92 = .ok (.iload 5, 2) := dk_21 5 (dk_at dksX1_lacking_3 21 rfl rfl)
theorem dX1_lacking_94 : decode cX1_lacking 94 = .ok (.ifCond .eq 16, 3) := dk_153 0 16 (dk_at dksX1_lacking_4 0 rfl rfl)
theorem dX1_lacking_97 : decode cX1_lacking 97 = .ok (.iload 4, 2) := dk_21 4 (dk_at dksX1_lacking_4 3 rfl rfl)
theorem dX1_lacking_99 : decode cX1_lacking 99 = .ok (.iload_n 3, 1) := dk_29 (dk_at dksX1_lacking_4 5 rfl rfl)
theorem dX1_lacking_100 : decode cX1_lacking 100 = .ok (.invokestatic 326, 3) := dk_184 1 70 (dk_at dksX1_lacking_4 6 rfl rfl)
theorem dX1_lacking_103 : decode cX1_lacking 103 = .ok (.if_icmp .ge 7, 3) := dk_162 0 7 (dk_at dksX1_lacking_4 9 rfl rfl)
theorem dX1_lacking_106 : decode cX1_lacking 106 = .ok (.iload_n 3, 1) := dk_29 (dk_at dksX1_lacking_4 12 rfl rfl)
theorem dX1_lacking_107 : decode cX1_lacking 107 = .ok (.goto 4, 3) := dk_167 0 4 (dk_at dksX1_lacking_4 13 rfl rfl)
theorem dX1_lacking_110 : decode cX1_lacking 110 = .ok (.iload_n 2, 1) := dk_28 (dk_at dksX1_lacking_4 16 rfl rfl)
theorem dX1_lacking_111 : decode cX1_lacking 111 = .ok (.istore_n 2, 1) := dk_61 (dk_at dksX1_lacking_4 17 rfl rfl)
theorem dX1_lacking_112 : decode cX1_lacking 112 = .ok (.iinc 3 1, 3) := dk_132 3 1 (dk_at dksX1_lacking_4 18 rfl rfl)
theorem dX1_lacking_115 : decode cX1_lacking 115 = .ok (.goto (-111), 3) := dk_167 255 145 (dk_at dksX1_lacking_4 21 rfl rfl)
theorem dX1_lacking_118 : decode cX1_lacking 118 = .ok (.iload_n 2, 1) := dk_28 (dk_at dksX1_lacking_5 0 rfl rfl)
theorem dX1_lacking_119 : decode cX1_lacking 119 = .ok (.ireturn, 1) := dk_172 (dk_at dksX1_lacking_5 1 rfl rfl)
abbrev cX1_bare : ByteArray := prog_1_method_67_code
def yX1_bare : MethodName := ⟨RX1, "bare", "()I"⟩
def dkwX1_bare_1 : List UInt8 := [182, 1, 107, 27, 184, 1, 70, 172]
abbrev dktX1_bare_1 : List UInt8 := dkwX1_bare_1 ++ []
def dkwX1_bare_0 : List UInt8 := [42, 42, 182, 1, 171, 182, 1, 168, 60, 27, 154, 0, 6, 16, 254, 172, 42, 3, 181, 1, 104, 42, 27, 133]
abbrev dktX1_bare_0 : List UInt8 := dkwX1_bare_0 ++ dktX1_bare_1
theorem dksX1_bare_0 : cX1_bare.data.toList.drop 0 = dktX1_bare_0 := by decide +kernel
theorem dksX1_bare_1 : cX1_bare.data.toList.drop 24 = dktX1_bare_1 := dk_seg dksX1_bare_0 24 rfl rfl
theorem dX1_bare_0 : decode cX1_bare 0 = .ok (.aload_n 0, 1) := dk_42 (dk_at dksX1_bare_0 0 rfl rfl)
theorem dX1_bare_1 : decode cX1_bare 1 = .ok (.aload_n 0, 1) := dk_42 (dk_at dksX1_bare_0 1 rfl rfl)
theorem dX1_bare_2 : decode cX1_bare 2 = .ok (.invokevirtual 427, 3) := dk_182 1 171 (dk_at dksX1_bare_0 2 rfl rfl)
theorem dX1_bare_5 : decode cX1_bare 5 = .ok (.invokevirtual 424, 3) := dk_182 1 168 (dk_at dksX1_bare_0 5 rfl rfl)
theorem dX1_bare_8 : decode cX1_bare 8 = .ok (.istore_n 1, 1) := dk_60 (dk_at dksX1_bare_0 8 rfl rfl)
theorem dX1_bare_9 : decode cX1_bare 9 = .ok (.iload_n 1, 1) := dk_27 (dk_at dksX1_bare_0 9 rfl rfl)
theorem dX1_bare_10 : decode cX1_bare 10 = .ok (.ifCond .ne 6, 3) := dk_154 0 6 (dk_at dksX1_bare_0 10 rfl rfl)
theorem dX1_bare_13 : decode cX1_bare 13 = .ok (.bipush (-2), 2) := dk_16 254 (dk_at dksX1_bare_0 13 rfl rfl)
theorem dX1_bare_15 : decode cX1_bare 15 = .ok (.ireturn, 1) := dk_172 (dk_at dksX1_bare_0 15 rfl rfl)
theorem dX1_bare_16 : decode cX1_bare 16 = .ok (.aload_n 0, 1) := dk_42 (dk_at dksX1_bare_0 16 rfl rfl)
theorem dX1_bare_17 : decode cX1_bare 17 = .ok (.iconst 0, 1) := dk_3 (dk_at dksX1_bare_0 17 rfl rfl)
theorem dX1_bare_18 : decode cX1_bare 18 = .ok (.putfield 360, 3) := dk_181 1 104 (dk_at dksX1_bare_0 18 rfl rfl)
theorem dX1_bare_21 : decode cX1_bare 21 = .ok (.aload_n 0, 1) := dk_42 (dk_at dksX1_bare_0 21 rfl rfl)
theorem dX1_bare_22 : decode cX1_bare 22 = .ok (.iload_n 1, 1) := dk_27 (dk_at dksX1_bare_0 22 rfl rfl)
theorem dX1_bare_23 : decode cX1_bare 23 = .ok (.i2l, 1) := dk_133 (dk_at dksX1_bare_0 23 rfl rfl)
theorem dX1_bare_24 : decode cX1_bare 24 = .ok (.invokevirtual 363, 3) := dk_182 1 107 (dk_at dksX1_bare_1 0 rfl rfl)
theorem dX1_bare_27 : decode cX1_bare 27 = .ok (.iload_n 1, 1) := dk_27 (dk_at dksX1_bare_1 3 rfl rfl)
theorem dX1_bare_28 : decode cX1_bare 28 = .ok (.invokestatic 326, 3) := dk_184 1 70 (dk_at dksX1_bare_1 4 rfl rfl)
theorem dX1_bare_31 : decode cX1_bare 31 = .ok (.ireturn, 1) := dk_172 (dk_at dksX1_bare_1 7 rfl rfl)
abbrev cX1_well : ByteArray := prog_1_method_65_code
def yX1_well : MethodName := ⟨RX1, "well", "()I"⟩
def dkwX1_well_0 : List UInt8 := [42, 182, 1, 165, 42, 180, 0, 12, 180, 0, 200, 2, 130, 126, 172]
abbrev dktX1_well_0 : List UInt8 := dkwX1_well_0 ++ []
theorem dksX1_well_0 : cX1_well.data.toList.drop 0 = dktX1_well_0 := by decide +kernel
theorem dX1_well_0 : decode cX1_well 0 = .ok (.aload_n 0, 1) := dk_42 (dk_at dksX1_well_0 0 rfl rfl)
theorem dX1_well_1 : decode cX1_well 1 = .ok (.invokevirtual 421, 3) := dk_182 1 165 (dk_at dksX1_well_0 1 rfl rfl)
theorem dX1_well_4 : decode cX1_well 4 = .ok (.aload_n 0, 1) := dk_42 (dk_at dksX1_well_0 4 rfl rfl)
theorem dX1_well_5 : decode cX1_well 5 = .ok (.getfield 12, 3) := dk_180 0 12 (dk_at dksX1_well_0 5 rfl rfl)
theorem dX1_well_8 : decode cX1_well 8 = .ok (.getfield 200, 3) := dk_180 0 200 (dk_at dksX1_well_0 8 rfl rfl)
theorem dX1_well_11 : decode cX1_well 11 = .ok (.iconst (-1), 1) := dk_2 (dk_at dksX1_well_0 11 rfl rfl)
theorem dX1_well_12 : decode cX1_well 12 = .ok (.ixor, 1) := dk_130 (dk_at dksX1_well_0 12 rfl rfl)
theorem dX1_well_13 : decode cX1_well 13 = .ok (.iand, 1) := dk_126 (dk_at dksX1_well_0 13 rfl rfl)
theorem dX1_well_14 : decode cX1_well 14 = .ok (.ireturn, 1) := dk_172 (dk_at dksX1_well_0 14 rfl rfl)
abbrev cX1_rotas : ByteArray := prog_1_method_69_code
def yX1_rotas : MethodName := ⟨RX1, "rotas", "()I"⟩
def dkwX1_rotas_0 : List UInt8 := [42, 3, 182, 1, 150, 42, 182, 1, 178, 172]
abbrev dktX1_rotas_0 : List UInt8 := dkwX1_rotas_0 ++ []
theorem dksX1_rotas_0 : cX1_rotas.data.toList.drop 0 = dktX1_rotas_0 := by decide +kernel
theorem dX1_rotas_0 : decode cX1_rotas 0 = .ok (.aload_n 0, 1) := dk_42 (dk_at dksX1_rotas_0 0 rfl rfl)
theorem dX1_rotas_1 : decode cX1_rotas 1 = .ok (.iconst 0, 1) := dk_3 (dk_at dksX1_rotas_0 1 rfl rfl)
theorem dX1_rotas_2 : decode cX1_rotas 2 = .ok (.invokevirtual 406, 3) := dk_182 1 150 (dk_at dksX1_rotas_0 2 rfl rfl)
theorem dX1_rotas_5 : decode cX1_rotas 5 = .ok (.aload_n 0, 1) := dk_42 (dk_at dksX1_rotas_0 5 rfl rfl)
theorem dX1_rotas_6 : decode cX1_rotas 6 = .ok (.invokevirtual 434, 3) := dk_182 1 178 (dk_at dksX1_rotas_0 6 rfl rfl)
theorem dX1_rotas_9 : decode cX1_rotas 9 = .ok (.ireturn, 1) := dk_172 (dk_at dksX1_rotas_0 9 rfl rfl)
abbrev cX1_tellsWays : ByteArray := prog_1_method_68_code
def yX1_tellsWays : MethodName := ⟨RX1, "tellsWays", "()I"⟩
def dkwX1_tellsWays_1 : List UInt8 := [182, 1, 162, 31, 136, 172]
abbrev dktX1_tellsWays_1 : List UInt8 := dkwX1_tellsWays_1 ++ []
def dkwX1_tellsWays_0 : List UInt8 := [42, 182, 1, 174, 64, 42, 3, 181, 1, 104, 31, 9, 148, 154, 0, 5, 3, 172, 42, 3, 182, 1, 159, 42]
abbrev dktX1_tellsWays_0 : List UInt8 := dkwX1_tellsWays_0 ++ dktX1_tellsWays_1
theorem dksX1_tellsWays_0 : cX1_tellsWays.data.toList.drop 0 = dktX1_tellsWays_0 := by decide +kernel
theorem dksX1_tellsWays_1 : cX1_tellsWays.data.toList.drop 24 = dktX1_tellsWays_1 := dk_seg dksX1_tellsWays_0 24 rfl rfl
theorem dX1_tellsWays_0 : decode cX1_tellsWays 0 = .ok (.aload_n 0, 1) := dk_42 (dk_at dksX1_tellsWays_0 0 rfl rfl)
theorem dX1_tellsWays_1 : decode cX1_tellsWays 1 = .ok (.invokevirtual 430, 3) := dk_182 1 174 (dk_at dksX1_tellsWays_0 1 rfl rfl)
theorem dX1_tellsWays_4 : decode cX1_tellsWays 4 = .ok (.lstore_n 1, 1) := dk_64 (dk_at dksX1_tellsWays_0 4 rfl rfl)
theorem dX1_tellsWays_5 : decode cX1_tellsWays 5 = .ok (.aload_n 0, 1) := dk_42 (dk_at dksX1_tellsWays_0 5 rfl rfl)
theorem dX1_tellsWays_6 : decode cX1_tellsWays 6 = .ok (.iconst 0, 1) := dk_3 (dk_at dksX1_tellsWays_0 6 rfl rfl)
theorem dX1_tellsWays_7 : decode cX1_tellsWays 7 = .ok (.putfield 360, 3) := dk_181 1 104 (dk_at dksX1_tellsWays_0 7 rfl rfl)
theorem dX1_tellsWays_10 : decode cX1_tellsWays 10 = .ok (.lload_n 1, 1) := dk_31 (dk_at dksX1_tellsWays_0 10 rfl rfl)
theorem dX1_tellsWays_11 : decode cX1_tellsWays 11 = .ok (.lconst 0, 1) := dk_9 (dk_at dksX1_tellsWays_0 11 rfl rfl)
theorem dX1_tellsWays_12 : decode cX1_tellsWays 12 = .ok (.lcmp, 1) := dk_148 (dk_at dksX1_tellsWays_0 12 rfl rfl)
theorem dX1_tellsWays_13 : decode cX1_tellsWays 13 = .ok (.ifCond .ne 5, 3) := dk_154 0 5 (dk_at dksX1_tellsWays_0 13 rfl rfl)
theorem dX1_tellsWays_16 : decode cX1_tellsWays 16 = .ok (.iconst 0, 1) := dk_3 (dk_at dksX1_tellsWays_0 16 rfl rfl)
theorem dX1_tellsWays_17 : decode cX1_tellsWays 17 = .ok (.ireturn, 1) := dk_172 (dk_at dksX1_tellsWays_0 17 rfl rfl)
theorem dX1_tellsWays_18 : decode cX1_tellsWays 18 = .ok (.aload_n 0, 1) := dk_42 (dk_at dksX1_tellsWays_0 18 rfl rfl)
theorem dX1_tellsWays_19 : decode cX1_tellsWays 19 = .ok (.iconst 0, 1) := dk_3 (dk_at dksX1_tellsWays_0 19 rfl rfl)
theorem dX1_tellsWays_20 : decode cX1_tellsWays 20 = .ok (.invokevirtual 415, 3) := dk_182 1 159 (dk_at dksX1_tellsWays_0 20 rfl rfl)
theorem dX1_tellsWays_23 : decode cX1_tellsWays 23 = .ok (.aload_n 0, 1) := dk_42 (dk_at dksX1_tellsWays_0 23 rfl rfl)
theorem dX1_tellsWays_24 : decode cX1_tellsWays 24 = .ok (.invokevirtual 418, 3) := dk_182 1 162 (dk_at dksX1_tellsWays_1 0 rfl rfl)
theorem dX1_tellsWays_27 : decode cX1_tellsWays 27 = .ok (.lload_n 1, 1) := dk_31 (dk_at dksX1_tellsWays_1 3 rfl rfl)
theorem dX1_tellsWays_28 : decode cX1_tellsWays 28 = .ok (.l2i, 1) := dk_136 (dk_at dksX1_tellsWays_1 4 rfl rfl)
theorem dX1_tellsWays_29 : decode cX1_tellsWays 29 = .ok (.ireturn, 1) := dk_172 (dk_at dksX1_tellsWays_1 5 rfl rfl)
abbrev cX1_laysWays : ByteArray := prog_1_method_57_code
def yX1_laysWays : MethodName := ⟨RX1, "laysWays", "()J"⟩
def dkwX1_laysWays_5 : List UInt8 := [167, 255, 187, 132, 1, 1, 167, 255, 168, 42, 180, 0, 91, 42, 182, 1, 130, 47, 173]
abbrev dktX1_laysWays_5 : List UInt8 := dkwX1_laysWays_5 ++ []
def dkwX1_laysWays_4 : List UInt8 := [21, 4, 2, 130, 126, 47, 97, 80, 21, 4, 4, 100, 29, 126, 54, 4, 167, 255, 209, 132, 2, 255]
abbrev dktX1_laysWays_4 : List UInt8 := dkwX1_laysWays_4 ++ dktX1_laysWays_5
def dkwX1_laysWays_3 : List UInt8 := [184, 1, 70, 42, 180, 0, 19, 27, 46, 163, 0, 23, 42, 180, 0, 91, 28, 92, 47, 42, 180, 0, 91, 28]
abbrev dktX1_laysWays_3 : List UInt8 := dkwX1_laysWays_3 ++ dktX1_laysWays_4
def dkwX1_laysWays_2 : List UInt8 := [158, 0, 71, 28, 42, 180, 0, 73, 27, 46, 126, 62, 29, 54, 4, 21, 4, 158, 0, 48, 21, 4]
abbrev dktX1_laysWays_2 : List UInt8 := dkwX1_laysWays_2 ++ dktX1_laysWays_3
def dkwX1_laysWays_1 : List UInt8 := [132, 1, 1, 167, 255, 231, 3, 60, 27, 42, 180, 0, 121, 162, 0, 86, 42, 182, 1, 130, 61, 28]
abbrev dktX1_laysWays_1 : List UInt8 := dkwX1_laysWays_1 ++ dktX1_laysWays_2
def dkwX1_laysWays_0 : List UInt8 := [3, 60, 27, 17, 1, 0, 162, 0, 24, 42, 180, 0, 91, 27, 27, 154, 0, 7, 10, 167, 0, 4, 9, 80]
abbrev dktX1_laysWays_0 : List UInt8 := dkwX1_laysWays_0 ++ dktX1_laysWays_1
theorem dksX1_laysWays_0 : cX1_laysWays.data.toList.drop 0 = dktX1_laysWays_0 := by decide +kernel
theorem dksX1_laysWays_1 : cX1_laysWays.data.toList.drop 24 = dktX1_laysWays_1 := dk_seg dksX1_laysWays_0 24 rfl rfl
theorem dksX1_laysWays_2 : cX1_laysWays.data.toList.drop 46 = dktX1_laysWays_2 := dk_seg dksX1_laysWays_1 22 rfl rfl
theorem dksX1_laysWays_3 : cX1_laysWays.data.toList.drop 68 = dktX1_laysWays_3 := dk_seg dksX1_laysWays_2 22 rfl rfl
theorem dksX1_laysWays_4 : cX1_laysWays.data.toList.drop 92 = dktX1_laysWays_4 := dk_seg dksX1_laysWays_3 24 rfl rfl
theorem dksX1_laysWays_5 : cX1_laysWays.data.toList.drop 114 = dktX1_laysWays_5 := dk_seg dksX1_laysWays_4 22 rfl rfl
theorem dX1_laysWays_0 : decode cX1_laysWays 0 = .ok (.iconst 0, 1) := dk_3 (dk_at dksX1_laysWays_0 0 rfl rfl)
theorem dX1_laysWays_1 : decode cX1_laysWays 1 = .ok (.istore_n 1, 1) := dk_60 (dk_at dksX1_laysWays_0 1 rfl rfl)
theorem dX1_laysWays_2 : decode cX1_laysWays 2 = .ok (.iload_n 1, 1) := dk_27 (dk_at dksX1_laysWays_0 2 rfl rfl)
theorem dX1_laysWays_3 : decode cX1_laysWays 3 = .ok (.sipush 256, 3) := dk_17 1 0 (dk_at dksX1_laysWays_0 3 rfl rfl)
theorem dX1_laysWays_6 : decode cX1_laysWays 6 = .ok (.if_icmp .ge 24, 3) := dk_162 0 24 (dk_at dksX1_laysWays_0 6 rfl rfl)
theorem dX1_laysWays_9 : decode cX1_laysWays 9 = .ok (.aload_n 0, 1) := dk_42 (dk_at dksX1_laysWays_0 9 rfl rfl)
theorem dX1_laysWays_10 : decode cX1_laysWays 10 = .ok (.getfield 91, 3) := dk_180 0 91 (dk_at dksX1_laysWays_0 10 rfl rfl)
theorem dX1_laysWays_13 : decode cX1_laysWays 13 = .ok (.iload_n 1, 1) := dk_27 (dk_at dksX1_laysWays_0 13 rfl rfl)
theorem dX1_laysWays_14 : decode cX1_laysWays 14 = .ok (.iload_n 1, 1) := dk_27 (dk_at dksX1_laysWays_0 14 rfl rfl)
theorem dX1_laysWays_15 : decode cX1_laysWays 15 = .ok (.ifCond .ne 7, 3) := dk_154 0 7 (dk_at dksX1_laysWays_0 15 rfl rfl)
theorem dX1_laysWays_18 : decode cX1_laysWays 18 = .ok (.lconst 1, 1) := dk_10 (dk_at dksX1_laysWays_0 18 rfl rfl)
theorem dX1_laysWays_19 : decode cX1_laysWays 19 = .ok (.goto 4, 3) := dk_167 0 4 (dk_at dksX1_laysWays_0 19 rfl rfl)
theorem dX1_laysWays_22 : decode cX1_laysWays 22 = .ok (.lconst 0, 1) := dk_9 (dk_at dksX1_laysWays_0 22 rfl rfl)
theorem dX1_laysWays_23 : decode cX1_laysWays 23 = .ok (.lastore, 1) := dk_80 (dk_at dksX1_laysWays_0 23 rfl rfl)
theorem dX1_laysWays_24 : decode cX1_laysWays 24 = .ok (.iinc 1 1, 3) := dk_132 1 1 (dk_at dksX1_laysWays_1 0 rfl rfl)
theorem dX1_laysWays_27 : decode cX1_laysWays 27 = .ok (.goto (-25), 3) := dk_167 255 231 (dk_at dksX1_laysWays_1 3 rfl rfl)
theorem dX1_laysWays_30 : decode cX1_laysWays 30 = .ok (.iconst 0, 1) := dk_3 (dk_at dksX1_laysWays_1 6 rfl rfl)
theorem dX1_laysWays_31 : decode cX1_laysWays 31 = .ok (.istore_n 1, 1) := dk_60 (dk_at dksX1_laysWays_1 7 rfl rfl)
theorem dX1_laysWays_32 : decode cX1_laysWays 32 = .ok (.iload_n 1, 1) := dk_27 (dk_at dksX1_laysWays_1 8 rfl rfl)
theorem dX1_laysWays_33 : decode cX1_laysWays 33 = .ok (.aload_n 0, 1) := dk_42 (dk_at dksX1_laysWays_1 9 rfl rfl)
theorem dX1_laysWays_34 : decode cX1_laysWays 34 = .ok (.getfield 121, 3) := dk_180 0 121 (dk_at dksX1_laysWays_1 10 rfl rfl)
theorem dX1_laysWays_37 : decode cX1_laysWays 37 = .ok (.if_icmp .ge 86, 3) := dk_162 0 86 (dk_at dksX1_laysWays_1 13 rfl rfl)
theorem dX1_laysWays_40 : decode cX1_laysWays 40 = .ok (.aload_n 0, 1) := dk_42 (dk_at dksX1_laysWays_1 16 rfl rfl)
theorem dX1_laysWays_41 : decode cX1_laysWays 41 = .ok (.invokevirtual 386, 3) := dk_182 1 130 (dk_at dksX1_laysWays_1 17 rfl rfl)
theorem dX1_laysWays_44 : decode cX1_laysWays 44 = .ok (.istore_n 2, 1) := dk_61 (dk_at dksX1_laysWays_1 20 rfl rfl)
theorem dX1_laysWays_45 : decode cX1_laysWays 45 = .ok (.iload_n 2, 1) := dk_28 (dk_at dksX1_laysWays_1 21 rfl rfl)
theorem dX1_laysWays_46 : decode cX1_laysWays 46 = .ok (.ifCond .le 71, 3) := dk_158 0 71 (dk_at dksX1_laysWays_2 0 rfl rfl)
theorem dX1_laysWays_49 : decode cX1_laysWays 49 = .ok (.iload_n 2, 1) := dk_28 (dk_at dksX1_laysWays_2 3 rfl rfl)
theorem dX1_laysWays_50 : decode cX1_laysWays 50 = .ok (.aload_n 0, 1) := dk_42 (dk_at dksX1_laysWays_2 4 rfl rfl)
theorem dX1_laysWays_51 : decode cX1_laysWays 51 = .ok (.getfield 73, 3) := dk_180 0 73 (dk_at dksX1_laysWays_2 5 rfl rfl)
theorem dX1_laysWays_54 : decode cX1_laysWays 54 = .ok (.iload_n 1, 1) := dk_27 (dk_at dksX1_laysWays_2 8 rfl rfl)
theorem dX1_laysWays_55 : decode cX1_laysWays 55 = .ok (.iaload, 1) := dk_46 (dk_at dksX1_laysWays_2 9 rfl rfl)
theorem dX1_laysWays_56 : decode cX1_laysWays 56 = .ok (.iand, 1) := dk_126 (dk_at dksX1_laysWays_2 10 rfl rfl)
theorem dX1_laysWays_57 : decode cX1_laysWays 57 = .ok (.istore_n 3, 1) := dk_62 (dk_at dksX1_laysWays_2 11 rfl rfl)
theorem dX1_laysWays_58 : decode cX1_laysWays 58 = .ok (.iload_n 3, 1) := dk_29 (dk_at dksX1_laysWays_2 12 rfl rfl)
theorem dX1_laysWays_59 : decode cX1_laysWays 59 = .ok (.istore 4, 2) := dk_54 4 (dk_at dksX1_laysWays_2 13 rfl rfl)
theorem dX1_laysWays_61 : decode cX1_laysWays 61 = .ok (.iload 4, 2) := dk_21 4 (dk_at dksX1_laysWays_2 15 rfl rfl)
theorem dX1_laysWays_63 : decode cX1_laysWays 63 = .ok (.ifCond .le 48, 3) := dk_158 0 48 (dk_at dksX1_laysWays_2 17 rfl rfl)
theorem dX1_laysWays_66 : decode cX1_laysWays 66 = .ok (.iload 4, 2) := dk_21 4 (dk_at dksX1_laysWays_2 20 rfl rfl)
theorem dX1_laysWays_68 : decode cX1_laysWays 68 = .ok (.invokestatic 326, 3) := dk_184 1 70 (dk_at dksX1_laysWays_3 0 rfl rfl)
theorem dX1_laysWays_71 : decode cX1_laysWays 71 = .ok (.aload_n 0, 1) := dk_42 (dk_at dksX1_laysWays_3 3 rfl rfl)
theorem dX1_laysWays_72 : decode cX1_laysWays 72 = .ok (.getfield 19, 3) := dk_180 0 19 (dk_at dksX1_laysWays_3 4 rfl rfl)
theorem dX1_laysWays_75 : decode cX1_laysWays 75 = .ok (.iload_n 1, 1) := dk_27 (dk_at dksX1_laysWays_3 7 rfl rfl)
theorem dX1_laysWays_76 : decode cX1_laysWays 76 = .ok (.iaload, 1) := dk_46 (dk_at dksX1_laysWays_3 8 rfl rfl)
theorem dX1_laysWays_77 : decode cX1_laysWays 77 = .ok (.if_icmp .gt 23, 3) := dk_163 0 23 (dk_at dksX1_laysWays_3 9 rfl rfl)
theorem dX1_laysWays_80 : decode cX1_laysWays 80 = .ok (.aload_n 0, 1) := dk_42 (dk_at dksX1_laysWays_3 12 rfl rfl)
theorem dX1_laysWays_81 : decode cX1_laysWays 81 = .ok (.getfield 91, 3) := dk_180 0 91 (dk_at dksX1_laysWays_3 13 rfl rfl)
theorem dX1_laysWays_84 : decode cX1_laysWays 84 = .ok (.iload_n 2, 1) := dk_28 (dk_at dksX1_laysWays_3 16 rfl rfl)
theorem dX1_laysWays_85 : decode cX1_laysWays 85 = .ok (.dup2, 1) := dk_92 (dk_at dksX1_laysWays_3 17 rfl rfl)
theorem dX1_laysWays_86 : decode cX1_laysWays 86 = .ok (.laload, 1) := dk_47 (dk_at dksX1_laysWays_3 18 rfl rfl)
theorem dX1_laysWays_87 : decode cX1_laysWays 87 = .ok (.aload_n 0, 1) := dk_42 (dk_at dksX1_laysWays_3 19 rfl rfl)
theorem dX1_laysWays_88 : decode cX1_laysWays 88 = .ok (.getfield 91, 3) := dk_180 0 91 (dk_at dksX1_laysWays_3 20 rfl rfl)
theorem dX1_laysWays_91 : decode cX1_laysWays 91 = .ok (.iload_n 2, 1) := dk_28 (dk_at dksX1_laysWays_3 23 rfl rfl)
theorem dX1_laysWays_92 : decode cX1_laysWays 92 = .ok (.iload 4, 2) := dk_21 4 (dk_at dksX1_laysWays_4 0 rfl rfl)
theorem dX1_laysWays_94 : decode cX1_laysWays 94 = .ok (.iconst (-1), 1) := dk_2 (dk_at dksX1_laysWays_4 2 rfl rfl)
theorem dX1_laysWays_95 : decode cX1_laysWays 95 = .ok (.ixor, 1) := dk_130 (dk_at dksX1_laysWays_4 3 rfl rfl)
theorem dX1_laysWays_96 : decode cX1_laysWays 96 = .ok (.iand, 1) := dk_126 (dk_at dksX1_laysWays_4 4 rfl rfl)
theorem dX1_laysWays_97 : decode cX1_laysWays 97 = .ok (.laload, 1) := dk_47 (dk_at dksX1_laysWays_4 5 rfl rfl)
theorem dX1_laysWays_98 : decode cX1_laysWays 98 = .ok (.ladd, 1) := dk_97 (dk_at dksX1_laysWays_4 6 rfl rfl)
theorem dX1_laysWays_99 : decode cX1_laysWays 99 = .ok (.lastore, 1) := dk_80 (dk_at dksX1_laysWays_4 7 rfl rfl)
theorem dX1_laysWays_100 : decode cX1_laysWays 100 = .ok (.iload 4, 2) := dk_21 4 (dk_at dksX1_laysWays_4 8 rfl rfl)
theorem dX1_laysWays_102 : decode cX1_laysWays 102 = .ok (.iconst 1, 1) := dk_4 (dk_at dksX1_laysWays_4 10 rfl rfl)
theorem dX1_laysWays_103 : decode cX1_laysWays 103 = .ok (.isub, 1) := dk_100 (dk_at dksX1_laysWays_4 11 rfl rfl)
theorem dX1_laysWays_104 : decode cX1_laysWays 104 = .ok (.iload_n 3, 1) := dk_29 (dk_at dksX1_laysWays_4 12 rfl rfl)
theorem dX1_laysWays_105 : decode cX1_laysWays 105 = .ok (.iand, 1) := dk_126 (dk_at dksX1_laysWays_4 13 rfl rfl)
theorem dX1_laysWays_106 : decode cX1_laysWays 106 = .ok (.istore 4, 2) := dk_54 4 (dk_at dksX1_laysWays_4 14 rfl rfl)
theorem dX1_laysWays_108 : decode cX1_laysWays 108 = .ok (.goto (-47), 3) := dk_167 255 209 (dk_at dksX1_laysWays_4 16 rfl rfl)
theorem dX1_laysWays_111 : decode cX1_laysWays 111 = .ok (.iinc 2 (-1), 3) := dk_132 2 255 (dk_at dksX1_laysWays_4 19 rfl rfl)
theorem dX1_laysWays_114 : decode cX1_laysWays 114 = .ok (.goto (-69), 3) := dk_167 255 187 (dk_at dksX1_laysWays_5 0 rfl rfl)
theorem dX1_laysWays_117 : decode cX1_laysWays 117 = .ok (.iinc 1 1, 3) := dk_132 1 1 (dk_at dksX1_laysWays_5 3 rfl rfl)
theorem dX1_laysWays_120 : decode cX1_laysWays 120 = .ok (.goto (-88), 3) := dk_167 255 168 (dk_at dksX1_laysWays_5 6 rfl rfl)
theorem dX1_laysWays_123 : decode cX1_laysWays 123 = .ok (.aload_n 0, 1) := dk_42 (dk_at dksX1_laysWays_5 9 rfl rfl)
theorem dX1_laysWays_124 : decode cX1_laysWays 124 = .ok (.getfield 91, 3) := dk_180 0 91 (dk_at dksX1_laysWays_5 10 rfl rfl)
theorem dX1_laysWays_127 : decode cX1_laysWays 127 = .ok (.aload_n 0, 1) := dk_42 (dk_at dksX1_laysWays_5 13 rfl rfl)
theorem dX1_laysWays_128 : decode cX1_laysWays 128 = .ok (.invokevirtual 386, 3) := dk_182 1 130 (dk_at dksX1_laysWays_5 14 rfl rfl)
theorem dX1_laysWays_131 : decode cX1_laysWays 131 = .ok (.laload, 1) := dk_47 (dk_at dksX1_laysWays_5 17 rfl rfl)
theorem dX1_laysWays_132 : decode cX1_laysWays 132 = .ok (.lreturn, 1) := dk_173 (dk_at dksX1_laysWays_5 18 rfl rfl)
abbrev cX1_mended : ByteArray := prog_1_method_70_code
def yX1_mended : MethodName := ⟨RX1, "mended", "(I)I"⟩
def dkwX1_mended_4 : List UInt8 := [182, 1, 159, 42, 182, 1, 162, 28, 172]
abbrev dktX1_mended_4 : List UInt8 := dkwX1_mended_4 ++ []
def dkwX1_mended_3 : List UInt8 := [132, 2, 1, 167, 255, 200, 42, 182, 1, 147, 61, 28, 18, 95, 160, 0, 6, 16, 254, 172, 42, 28]
abbrev dktX1_mended_3 : List UInt8 := dkwX1_mended_3 ++ dktX1_mended_4
def dkwX1_mended_2 : List UInt8 := [180, 0, 12, 180, 1, 58, 29, 46, 28, 160, 0, 7, 3, 167, 0, 4, 4, 79, 132, 3, 1, 167, 255, 216]
abbrev dktX1_mended_2 : List UInt8 := dkwX1_mended_2 ++ dktX1_mended_3
def dkwX1_mended_1 : List UInt8 := [162, 0, 54, 3, 62, 29, 42, 180, 0, 29, 162, 0, 38, 42, 180, 0, 79, 16, 8, 28, 104, 29, 96, 42]
abbrev dktX1_mended_1 : List UInt8 := dkwX1_mended_1 ++ dktX1_mended_2
def dkwX1_mended_0 : List UInt8 := [42, 27, 182, 0, 128, 154, 0, 5, 2, 172, 42, 4, 27, 120, 182, 1, 150, 3, 61, 28, 42, 180, 0, 121]
abbrev dktX1_mended_0 : List UInt8 := dkwX1_mended_0 ++ dktX1_mended_1
theorem dksX1_mended_0 : cX1_mended.data.toList.drop 0 = dktX1_mended_0 := by decide +kernel
theorem dksX1_mended_1 : cX1_mended.data.toList.drop 24 = dktX1_mended_1 := dk_seg dksX1_mended_0 24 rfl rfl
theorem dksX1_mended_2 : cX1_mended.data.toList.drop 48 = dktX1_mended_2 := dk_seg dksX1_mended_1 24 rfl rfl
theorem dksX1_mended_3 : cX1_mended.data.toList.drop 72 = dktX1_mended_3 := dk_seg dksX1_mended_2 24 rfl rfl
theorem dksX1_mended_4 : cX1_mended.data.toList.drop 94 = dktX1_mended_4 := dk_seg dksX1_mended_3 22 rfl rfl
theorem dX1_mended_0 : decode cX1_mended 0 = .ok (.aload_n 0, 1) := dk_42 (dk_at dksX1_mended_0 0 rfl rfl)
theorem dX1_mended_1 : decode cX1_mended 1 = .ok (.iload_n 1, 1) := dk_27 (dk_at dksX1_mended_0 1 rfl rfl)
theorem dX1_mended_2 : decode cX1_mended 2 = .ok (.invokevirtual 128, 3) := dk_182 0 128 (dk_at dksX1_mended_0 2 rfl rfl)
theorem dX1_mended_5 : decode cX1_mended 5 = .ok (.ifCond .ne 5, 3) := dk_154 0 5 (dk_at dksX1_mended_0 5 rfl rfl)
theorem dX1_mended_8 : decode cX1_mended 8 = .ok (.iconst (-1), 1) := dk_2 (dk_at dksX1_mended_0 8 rfl rfl)
theorem dX1_mended_9 : decode cX1_mended 9 = .ok (.ireturn, 1) := dk_172 (dk_at dksX1_mended_0 9 rfl rfl)
theorem dX1_mended_10 : decode cX1_mended 10 = .ok (.aload_n 0, 1) := dk_42 (dk_at dksX1_mended_0 10 rfl rfl)
theorem dX1_mended_11 : decode cX1_mended 11 = .ok (.iconst 1, 1) := dk_4 (dk_at dksX1_mended_0 11 rfl rfl)
theorem dX1_mended_12 : decode cX1_mended 12 = .ok (.iload_n 1, 1) := dk_27 (dk_at dksX1_mended_0 12 rfl rfl)
theorem dX1_mended_13 : decode cX1_mended 13 = .ok (.ishl, 1) := dk_120 (dk_at dksX1_mended_0 13 rfl rfl)
theorem dX1_mended_14 : decode cX1_mended 14 = .ok (.invokevirtual 406, 3) := dk_182 1 150 (dk_at dksX1_mended_0 14 rfl rfl)
theorem dX1_mended_17 : decode cX1_mended 17 = .ok (.iconst 0, 1) := dk_3 (dk_at dksX1_mended_0 17 rfl rfl)
theorem dX1_mended_18 : decode cX1_mended 18 = .ok (.istore_n 2, 1) := dk_61 (dk_at dksX1_mended_0 18 rfl rfl)
theorem dX1_mended_19 : decode cX1_mended 19 = .ok (.iload_n 2, 1) := dk_28 (dk_at dksX1_mended_0 19 rfl rfl)
theorem dX1_mended_20 : decode cX1_mended 20 = .ok (.aload_n 0, 1) := dk_42 (dk_at dksX1_mended_0 20 rfl rfl)
theorem dX1_mended_21 : decode cX1_mended 21 = .ok (.getfield 121, 3) := dk_180 0 121 (dk_at dksX1_mended_0 21 rfl rfl)
theorem dX1_mended_24 : decode cX1_mended 24 = .ok (.if_icmp .ge 54, 3) := dk_162 0 54 (dk_at dksX1_mended_1 0 rfl rfl)
theorem dX1_mended_27 : decode cX1_mended 27 = .ok (.iconst 0, 1) := dk_3 (dk_at dksX1_mended_1 3 rfl rfl)
theorem dX1_mended_28 : decode cX1_mended 28 = .ok (.istore_n 3, 1) := dk_62 (dk_at dksX1_mended_1 4 rfl rfl)
theorem dX1_mended_29 : decode cX1_mended 29 = .ok (.iload_n 3, 1) := dk_29 (dk_at dksX1_mended_1 5 rfl rfl)
theorem dX1_mended_30 : decode cX1_mended 30 = .ok (.aload_n 0, 1) := dk_42 (dk_at dksX1_mended_1 6 rfl rfl)
theorem dX1_mended_31 : decode cX1_mended 31 = .ok (.getfield 29, 3) := dk_180 0 29 (dk_at dksX1_mended_1 7 rfl rfl)
theorem dX1_mended_34 : decode cX1_mended 34 = .ok (.if_icmp .ge 38, 3) := dk_162 0 38 (dk_at dksX1_mended_1 10 rfl rfl)
theorem dX1_mended_37 : decode cX1_mended 37 = .ok (.aload_n 0, 1) := dk_42 (dk_at dksX1_mended_1 13 rfl rfl)
theorem dX1_mended_38 : decode cX1_mended 38 = .ok (.getfield 79, 3) := dk_180 0 79 (dk_at dksX1_mended_1 14 rfl rfl)
theorem dX1_mended_41 : decode cX1_mended 41 = .ok (.bipush 8, 2) := dk_16 8 (dk_at dksX1_mended_1 17 rfl rfl)
theorem dX1_mended_43 : decode cX1_mended 43 = .ok (.iload_n 2, 1) := dk_28 (dk_at dksX1_mended_1 19 rfl rfl)
theorem dX1_mended_44 : decode cX1_mended 44 = .ok (.imul, 1) := dk_104 (dk_at dksX1_mended_1 20 rfl rfl)
theorem dX1_mended_45 : decode cX1_mended 45 = .ok (.iload_n 3, 1) := dk_29 (dk_at dksX1_mended_1 21 rfl rfl)
theorem dX1_mended_46 : decode cX1_mended 46 = .ok (.iadd, 1) := dk_96 (dk_at dksX1_mended_1 22 rfl rfl)
theorem dX1_mended_47 : decode cX1_mended 47 = .ok (.aload_n 0, 1) := dk_42 (dk_at dksX1_mended_1 23 rfl rfl)
theorem dX1_mended_48 : decode cX1_mended 48 = .ok (.getfield 12, 3) := dk_180 0 12 (dk_at dksX1_mended_2 0 rfl rfl)
theorem dX1_mended_51 : decode cX1_mended 51 = .ok (.getfield 314, 3) := dk_180 1 58 (dk_at dksX1_mended_2 3 rfl rfl)
theorem dX1_mended_54 : decode cX1_mended 54 = .ok (.iload_n 3, 1) := dk_29 (dk_at dksX1_mended_2 6 rfl rfl)
theorem dX1_mended_55 : decode cX1_mended 55 = .ok (.iaload, 1) := dk_46 (dk_at dksX1_mended_2 7 rfl rfl)
theorem dX1_mended_56 : decode cX1_mended 56 = .ok (.iload_n 2, 1) := dk_28 (dk_at dksX1_mended_2 8 rfl rfl)
theorem dX1_mended_57 : decode cX1_mended 57 = .ok (.if_icmp .ne 7, 3) := dk_160 0 7 (dk_at dksX1_mended_2 9 rfl rfl)
theorem dX1_mended_60 : decode cX1_mended 60 = .ok (.iconst 0, 1) := dk_3 (dk_at dksX1_mended_2 12 rfl rfl)
theorem dX1_mended_61 : decode cX1_mended 61 = .ok (.goto 4, 3) := dk_167 0 4 (dk_at dksX1_mended_2 13 rfl rfl)
theorem dX1_mended_64 : decode cX1_mended 64 = .ok (.iconst 1, 1) := dk_4 (dk_at dksX1_mended_2 16 rfl rfl)
theorem dX1_mended_65 : decode cX1_mended 65 = .ok (.iastore, 1) := dk_79 (dk_at dksX1_mended_2 17 rfl rfl)
theorem dX1_mended_66 : decode cX1_mended 66 = .ok (.iinc 3 1, 3) := dk_132 3 1 (dk_at dksX1_mended_2 18 rfl rfl)
theorem dX1_mended_69 : decode cX1_mended 69 = .ok (.goto (-40), 3) := dk_167 255 216 (dk_at dksX1_mended_2 21 rfl rfl)
theorem dX1_mended_72 : decode cX1_mended 72 = .ok (.iinc 2 1, 3) := dk_132 2 1 (dk_at dksX1_mended_3 0 rfl rfl)
theorem dX1_mended_75 : decode cX1_mended 75 = .ok (.goto (-56), 3) := dk_167 255 200 (dk_at dksX1_mended_3 3 rfl rfl)
theorem dX1_mended_78 : decode cX1_mended 78 = .ok (.aload_n 0, 1) := dk_42 (dk_at dksX1_mended_3 6 rfl rfl)
theorem dX1_mended_79 : decode cX1_mended 79 = .ok (.invokevirtual 403, 3) := dk_182 1 147 (dk_at dksX1_mended_3 7 rfl rfl)
theorem dX1_mended_82 : decode cX1_mended 82 = .ok (.istore_n 2, 1) := dk_61 (dk_at dksX1_mended_3 10 rfl rfl)
theorem dX1_mended_83 : decode cX1_mended 83 = .ok (.iload_n 2, 1) := dk_28 (dk_at dksX1_mended_3 11 rfl rfl)
theorem dX1_mended_84 : decode cX1_mended 84 = .ok (.ldc 95, 2) := dk_18 95 (dk_at dksX1_mended_3 12 rfl rfl)
theorem dX1_mended_86 : decode cX1_mended 86 = .ok (.if_icmp .ne 6, 3) := dk_160 0 6 (dk_at dksX1_mended_3 14 rfl rfl)
theorem dX1_mended_89 : decode cX1_mended 89 = .ok (.bipush (-2), 2) := dk_16 254 (dk_at dksX1_mended_3 17 rfl rfl)
theorem dX1_mended_91 : decode cX1_mended 91 = .ok (.ireturn, 1) := dk_172 (dk_at dksX1_mended_3 19 rfl rfl)
theorem dX1_mended_92 : decode cX1_mended 92 = .ok (.aload_n 0, 1) := dk_42 (dk_at dksX1_mended_3 20 rfl rfl)
theorem dX1_mended_93 : decode cX1_mended 93 = .ok (.iload_n 2, 1) := dk_28 (dk_at dksX1_mended_3 21 rfl rfl)
theorem dX1_mended_94 : decode cX1_mended 94 = .ok (.invokevirtual 415, 3) := dk_182 1 159 (dk_at dksX1_mended_4 0 rfl rfl)
theorem dX1_mended_97 : decode cX1_mended 97 = .ok (.aload_n 0, 1) := dk_42 (dk_at dksX1_mended_4 3 rfl rfl)
theorem dX1_mended_98 : decode cX1_mended 98 = .ok (.invokevirtual 418, 3) := dk_182 1 162 (dk_at dksX1_mended_4 4 rfl rfl)
theorem dX1_mended_101 : decode cX1_mended 101 = .ok (.iload_n 2, 1) := dk_28 (dk_at dksX1_mended_4 7 rfl rfl)
theorem dX1_mended_102 : decode cX1_mended 102 = .ok (.ireturn, 1) := dk_172 (dk_at dksX1_mended_4 8 rfl rfl)
abbrev cX1_missed : ByteArray := prog_1_method_71_code
def yX1_missed : MethodName := ⟨RX1, "missed", "(I)I"⟩
def dkwX1_missed_1 : List UInt8 := [29, 18, 95, 160, 0, 8, 16, 254, 167, 0, 6, 29, 28, 100, 172]
abbrev dktX1_missed_1 : List UInt8 := dkwX1_missed_1 ++ []
def dkwX1_missed_0 : List UInt8 := [42, 27, 182, 0, 128, 154, 0, 5, 2, 172, 42, 3, 182, 1, 156, 61, 42, 4, 27, 120, 182, 1, 156, 62]
abbrev dktX1_missed_0 : List UInt8 := dkwX1_missed_0 ++ dktX1_missed_1
theorem dksX1_missed_0 : cX1_missed.data.toList.drop 0 = dktX1_missed_0 := by decide +kernel
theorem dksX1_missed_1 : cX1_missed.data.toList.drop 24 = dktX1_missed_1 := dk_seg dksX1_missed_0 24 rfl rfl
theorem dX1_missed_0 : decode cX1_missed 0 = .ok (.aload_n 0, 1) := dk_42 (dk_at dksX1_missed_0 0 rfl rfl)
theorem dX1_missed_1 : decode cX1_missed 1 = .ok (.iload_n 1, 1) := dk_27 (dk_at dksX1_missed_0 1 rfl rfl)
theorem dX1_missed_2 : decode cX1_missed 2 = .ok (.invokevirtual 128, 3) := dk_182 0 128 (dk_at dksX1_missed_0 2 rfl rfl)
theorem dX1_missed_5 : decode cX1_missed 5 = .ok (.ifCond .ne 5, 3) := dk_154 0 5 (dk_at dksX1_missed_0 5 rfl rfl)
theorem dX1_missed_8 : decode cX1_missed 8 = .ok (.iconst (-1), 1) := dk_2 (dk_at dksX1_missed_0 8 rfl rfl)
theorem dX1_missed_9 : decode cX1_missed 9 = .ok (.ireturn, 1) := dk_172 (dk_at dksX1_missed_0 9 rfl rfl)
theorem dX1_missed_10 : decode cX1_missed 10 = .ok (.aload_n 0, 1) := dk_42 (dk_at dksX1_missed_0 10 rfl rfl)
theorem dX1_missed_11 : decode cX1_missed 11 = .ok (.iconst 0, 1) := dk_3 (dk_at dksX1_missed_0 11 rfl rfl)
theorem dX1_missed_12 : decode cX1_missed 12 = .ok (.invokevirtual 412, 3) := dk_182 1 156 (dk_at dksX1_missed_0 12 rfl rfl)
theorem dX1_missed_15 : decode cX1_missed 15 = .ok (.istore_n 2, 1) := dk_61 (dk_at dksX1_missed_0 15 rfl rfl)
theorem dX1_missed_16 : decode cX1_missed 16 = .ok (.aload_n 0, 1) := dk_42 (dk_at dksX1_missed_0 16 rfl rfl)
theorem dX1_missed_17 : decode cX1_missed 17 = .ok (.iconst 1, 1) := dk_4 (dk_at dksX1_missed_0 17 rfl rfl)
theorem dX1_missed_18 : decode cX1_missed 18 = .ok (.iload_n 1, 1) := dk_27 (dk_at dksX1_missed_0 18 rfl rfl)
theorem dX1_missed_19 : decode cX1_missed 19 = .ok (.ishl, 1) := dk_120 (dk_at dksX1_missed_0 19 rfl rfl)
theorem dX1_missed_20 : decode cX1_missed 20 = .ok (.invokevirtual 412, 3) := dk_182 1 156 (dk_at dksX1_missed_0 20 rfl rfl)
theorem dX1_missed_23 : decode cX1_missed 23 = .ok (.istore_n 3, 1) := dk_62 (dk_at dksX1_missed_0 23 rfl rfl)
theorem dX1_missed_24 : decode cX1_missed 24 = .ok (.iload_n 3, 1) := dk_29 (dk_at dksX1_missed_1 0 rfl rfl)
theorem dX1_missed_25 : decode cX1_missed 25 = .ok (.ldc 95, 2) := dk_18 95 (dk_at dksX1_missed_1 1 rfl rfl)
theorem dX1_missed_27 : decode cX1_missed 27 = .ok (.if_icmp .ne 8, 3) := dk_160 0 8 (dk_at dksX1_missed_1 3 rfl rfl)
theorem dX1_missed_30 : decode cX1_missed 30 = .ok (.bipush (-2), 2) := dk_16 254 (dk_at dksX1_missed_1 6 rfl rfl)
theorem dX1_missed_32 : decode cX1_missed 32 = .ok (.goto 6, 3) := dk_167 0 6 (dk_at dksX1_missed_1 8 rfl rfl)
theorem dX1_missed_35 : decode cX1_missed 35 = .ok (.iload_n 3, 1) := dk_29 (dk_at dksX1_missed_1 11 rfl rfl)
theorem dX1_missed_36 : decode cX1_missed 36 = .ok (.iload_n 2, 1) := dk_28 (dk_at dksX1_missed_1 12 rfl rfl)
theorem dX1_missed_37 : decode cX1_missed 37 = .ok (.isub, 1) := dk_100 (dk_at dksX1_missed_1 13 rfl rfl)
theorem dX1_missed_38 : decode cX1_missed 38 = .ok (.ireturn, 1) := dk_172 (dk_at dksX1_missed_1 14 rfl rfl)
abbrev cX1_paid : ByteArray := prog_1_method_72_code
def yX1_paid : MethodName := ⟨RX1, "paid", "(I)I"⟩
def dkwX1_paid_4 : List UInt8 := [42, 21, 4, 133, 182, 1, 107, 42, 29, 21, 4, 100, 133, 182, 1, 107, 28, 29, 21, 4, 100, 100, 172]
abbrev dktX1_paid_4 : List UInt8 := dkwX1_paid_4 ++ []
def dkwX1_paid_3 : List UInt8 := [27, 21, 5, 182, 1, 34, 167, 0, 4, 3, 96, 54, 4, 132, 5, 1, 167, 255, 213, 42, 3, 181, 1, 104]
abbrev dktX1_paid_3 : List UInt8 := dkwX1_paid_3 ++ dktX1_paid_4
def dkwX1_paid_2 : List UInt8 := [180, 0, 29, 162, 0, 40, 21, 4, 42, 180, 0, 88, 21, 5, 46, 27, 160, 0, 17, 42, 42, 180, 0, 12]
abbrev dktX1_paid_2 : List UInt8 := dkwX1_paid_2 ++ dktX1_paid_3
def dkwX1_paid_1 : List UInt8 := [28, 18, 95, 160, 0, 6, 16, 254, 172, 42, 29, 182, 1, 159, 3, 54, 4, 3, 54, 5, 21, 5, 42]
abbrev dktX1_paid_1 : List UInt8 := dkwX1_paid_1 ++ dktX1_paid_2
def dkwX1_paid_0 : List UInt8 := [42, 27, 182, 0, 128, 154, 0, 5, 2, 172, 42, 4, 27, 120, 182, 1, 156, 61, 42, 3, 182, 1, 156, 62]
abbrev dktX1_paid_0 : List UInt8 := dkwX1_paid_0 ++ dktX1_paid_1
theorem dksX1_paid_0 : cX1_paid.data.toList.drop 0 = dktX1_paid_0 := by decide +kernel
theorem dksX1_paid_1 : cX1_paid.data.toList.drop 24 = dktX1_paid_1 := dk_seg dksX1_paid_0 24 rfl rfl
theorem dksX1_paid_2 : cX1_paid.data.toList.drop 47 = dktX1_paid_2 := dk_seg dksX1_paid_1 23 rfl rfl
theorem dksX1_paid_3 : cX1_paid.data.toList.drop 71 = dktX1_paid_3 := dk_seg dksX1_paid_2 24 rfl rfl
theorem dksX1_paid_4 : cX1_paid.data.toList.drop 95 = dktX1_paid_4 := dk_seg dksX1_paid_3 24 rfl rfl
theorem dX1_paid_0 : decode cX1_paid 0 = .ok (.aload_n 0, 1) := dk_42 (dk_at dksX1_paid_0 0 rfl rfl)
theorem dX1_paid_1 : decode cX1_paid 1 = .ok (.iload_n 1, 1) := dk_27 (dk_at dksX1_paid_0 1 rfl rfl)
theorem dX1_paid_2 : decode cX1_paid 2 = .ok (.invokevirtual 128, 3) := dk_182 0 128 (dk_at dksX1_paid_0 2 rfl rfl)
theorem dX1_paid_5 : decode cX1_paid 5 = .ok (.ifCond .ne 5, 3) := dk_154 0 5 (dk_at dksX1_paid_0 5 rfl rfl)
theorem dX1_paid_8 : decode cX1_paid 8 = .ok (.iconst (-1), 1) := dk_2 (dk_at dksX1_paid_0 8 rfl rfl)
theorem dX1_paid_9 : decode cX1_paid 9 = .ok (.ireturn, 1) := dk_172 (dk_at dksX1_paid_0 9 rfl rfl)
theorem dX1_paid_10 : decode cX1_paid 10 = .ok (.aload_n 0, 1) := dk_42 (dk_at dksX1_paid_0 10 rfl rfl)
theorem dX1_paid_11 : decode cX1_paid 11 = .ok (.iconst 1, 1) := dk_4 (dk_at dksX1_paid_0 11 rfl rfl)
theorem dX1_paid_12 : decode cX1_paid 12 = .ok (.iload_n 1, 1) := dk_27 (dk_at dksX1_paid_0 12 rfl rfl)
theorem dX1_paid_13 : decode cX1_paid 13 = .ok (.ishl, 1) := dk_120 (dk_at dksX1_paid_0 13 rfl rfl)
theorem dX1_paid_14 : decode cX1_paid 14 = .ok (.invokevirtual 412, 3) := dk_182 1 156 (dk_at dksX1_paid_0 14 rfl rfl)
theorem dX1_paid_17 : decode cX1_paid 17 = .ok (.istore_n 2, 1) := dk_61 (dk_at dksX1_paid_0 17 rfl rfl)
theorem dX1_paid_18 : decode cX1_paid 18 = .ok (.aload_n 0, 1) := dk_42 (dk_at dksX1_paid_0 18 rfl rfl)
theorem dX1_paid_19 : decode cX1_paid 19 = .ok (.iconst 0, 1) := dk_3 (dk_at dksX1_paid_0 19 rfl rfl)
theorem dX1_paid_20 : decode cX1_paid 20 = .ok (.invokevirtual 412, 3) := dk_182 1 156 (dk_at dksX1_paid_0 20 rfl rfl)
theorem dX1_paid_23 : decode cX1_paid 23 = .ok (.istore_n 3, 1) := dk_62 (dk_at dksX1_paid_0 23 rfl rfl)
theorem dX1_paid_24 : decode cX1_paid 24 = .ok (.iload_n 2, 1) := dk_28 (dk_at dksX1_paid_1 0 rfl rfl)
theorem dX1_paid_25 : decode cX1_paid 25 = .ok (.ldc 95, 2) := dk_18 95 (dk_at dksX1_paid_1 1 rfl rfl)
theorem dX1_paid_27 : decode cX1_paid 27 = .ok (.if_icmp .ne 6, 3) := dk_160 0 6 (dk_at dksX1_paid_1 3 rfl rfl)
theorem dX1_paid_30 : decode cX1_paid 30 = .ok (.bipush (-2), 2) := dk_16 254 (dk_at dksX1_paid_1 6 rfl rfl)
theorem dX1_paid_32 : decode cX1_paid 32 = .ok (.ireturn, 1) := dk_172 (dk_at dksX1_paid_1 8 rfl rfl)
theorem dX1_paid_33 : decode cX1_paid 33 = .ok (.aload_n 0, 1) := dk_42 (dk_at dksX1_paid_1 9 rfl rfl)
theorem dX1_paid_34 : decode cX1_paid 34 = .ok (.iload_n 3, 1) := dk_29 (dk_at dksX1_paid_1 10 rfl rfl)
theorem dX1_paid_35 : decode cX1_paid 35 = .ok (.invokevirtual 415, 3) := dk_182 1 159 (dk_at dksX1_paid_1 11 rfl rfl)
theorem dX1_paid_38 : decode cX1_paid 38 = .ok (.iconst 0, 1) := dk_3 (dk_at dksX1_paid_1 14 rfl rfl)
theorem dX1_paid_39 : decode cX1_paid 39 = .ok (.istore 4, 2) := dk_54 4 (dk_at dksX1_paid_1 15 rfl rfl)
theorem dX1_paid_41 : decode cX1_paid 41 = .ok (.iconst 0, 1) := dk_3 (dk_at dksX1_paid_1 17 rfl rfl)
theorem dX1_paid_42 : decode cX1_paid 42 = .ok (.istore 5, 2) := dk_54 5 (dk_at dksX1_paid_1 18 rfl rfl)
theorem dX1_paid_44 : decode cX1_paid 44 = .ok (.iload 5, 2) := dk_21 5 (dk_at dksX1_paid_1 20 rfl rfl)
theorem dX1_paid_46 : decode cX1_paid 46 = .ok (.aload_n 0, 1) := dk_42 (dk_at dksX1_paid_1 22 rfl rfl)
theorem dX1_paid_47 : decode cX1_paid 47 = .ok (.getfield 29, 3) := dk_180 0 29 (dk_at dksX1_paid_2 0 rfl rfl)
theorem dX1_paid_50 : decode cX1_paid 50 = .ok (.if_icmp .ge 40, 3) := dk_162 0 40 (dk_at dksX1_paid_2 3 rfl rfl)
theorem dX1_paid_53 : decode cX1_paid 53 = .ok (.iload 4, 2) := dk_21 4 (dk_at dksX1_paid_2 6 rfl rfl)
theorem dX1_paid_55 : decode cX1_paid 55 = .ok (.aload_n 0, 1) := dk_42 (dk_at dksX1_paid_2 8 rfl rfl)
theorem dX1_paid_56 : decode cX1_paid 56 = .ok (.getfield 88, 3) := dk_180 0 88 (dk_at dksX1_paid_2 9 rfl rfl)
theorem dX1_paid_59 : decode cX1_paid 59 = .ok (.iload 5, 2) := dk_21 5 (dk_at dksX1_paid_2 12 rfl rfl)
theorem dX1_paid_61 : decode cX1_paid 61 = .ok (.iaload, 1) := dk_46 (dk_at dksX1_paid_2 14 rfl rfl)
theorem dX1_paid_62 : decode cX1_paid 62 = .ok (.iload_n 1, 1) := dk_27 (dk_at dksX1_paid_2 15 rfl rfl)
theorem dX1_paid_63 : decode cX1_paid 63 = .ok (.if_icmp .ne 17, 3) := dk_160 0 17 (dk_at dksX1_paid_2 16 rfl rfl)
theorem dX1_paid_66 : decode cX1_paid 66 = .ok (.aload_n 0, 1) := dk_42 (dk_at dksX1_paid_2 19 rfl rfl)
theorem dX1_paid_67 : decode cX1_paid 67 = .ok (.aload_n 0, 1) := dk_42 (dk_at dksX1_paid_2 20 rfl rfl)
theorem dX1_paid_68 : decode cX1_paid 68 = .ok (.getfield 12, 3) := dk_180 0 12 (dk_at dksX1_paid_2 21 rfl rfl)
theorem dX1_paid_71 : decode cX1_paid 71 = .ok (.iload_n 1, 1) := dk_27 (dk_at dksX1_paid_3 0 rfl rfl)
theorem dX1_paid_72 : decode cX1_paid 72 = .ok (.iload 5, 2) := dk_21 5 (dk_at dksX1_paid_3 1 rfl rfl)
theorem dX1_paid_74 : decode cX1_paid 74 = .ok (.invokevirtual 290, 3) := dk_182 1 34 (dk_at dksX1_paid_3 3 rfl rfl)
theorem dX1_paid_77 : decode cX1_paid 77 = .ok (.goto 4, 3) := dk_167 0 4 (dk_at dksX1_paid_3 6 rfl rfl)
theorem dX1_paid_80 : decode cX1_paid 80 = .ok (.iconst 0, 1) := dk_3 (dk_at dksX1_paid_3 9 rfl rfl)
theorem dX1_paid_81 : decode cX1_paid 81 = .ok (.iadd, 1) := dk_96 (dk_at dksX1_paid_3 10 rfl rfl)
theorem dX1_paid_82 : decode cX1_paid 82 = .ok (.istore 4, 2) := dk_54 4 (dk_at dksX1_paid_3 11 rfl rfl)
theorem dX1_paid_84 : decode cX1_paid 84 = .ok (.iinc 5 1, 3) := dk_132 5 1 (dk_at dksX1_paid_3 13 rfl rfl)
theorem dX1_paid_87 : decode cX1_paid 87 = .ok (.goto (-43), 3) := dk_167 255 213 (dk_at dksX1_paid_3 16 rfl rfl)
theorem dX1_paid_90 : decode cX1_paid 90 = .ok (.aload_n 0, 1) := dk_42 (dk_at dksX1_paid_3 19 rfl rfl)
theorem dX1_paid_91 : decode cX1_paid 91 = .ok (.iconst 0, 1) := dk_3 (dk_at dksX1_paid_3 20 rfl rfl)
theorem dX1_paid_92 : decode cX1_paid 92 = .ok (.putfield 360, 3) := dk_181 1 104 (dk_at dksX1_paid_3 21 rfl rfl)
theorem dX1_paid_95 : decode cX1_paid 95 = .ok (.aload_n 0, 1) := dk_42 (dk_at dksX1_paid_4 0 rfl rfl)
theorem dX1_paid_96 : decode cX1_paid 96 = .ok (.iload 4, 2) := dk_21 4 (dk_at dksX1_paid_4 1 rfl rfl)
theorem dX1_paid_98 : decode cX1_paid 98 = .ok (.i2l, 1) := dk_133 (dk_at dksX1_paid_4 3 rfl rfl)
theorem dX1_paid_99 : decode cX1_paid 99 = .ok (.invokevirtual 363, 3) := dk_182 1 107 (dk_at dksX1_paid_4 4 rfl rfl)
theorem dX1_paid_102 : decode cX1_paid 102 = .ok (.aload_n 0, 1) := dk_42 (dk_at dksX1_paid_4 7 rfl rfl)
theorem dX1_paid_103 : decode cX1_paid 103 = .ok (.iload_n 3, 1) := dk_29 (dk_at dksX1_paid_4 8 rfl rfl)
theorem dX1_paid_104 : decode cX1_paid 104 = .ok (.iload 4, 2) := dk_21 4 (dk_at dksX1_paid_4 9 rfl rfl)
theorem dX1_paid_106 : decode cX1_paid 106 = .ok (.isub, 1) := dk_100 (dk_at dksX1_paid_4 11 rfl rfl)
theorem dX1_paid_107 : decode cX1_paid 107 = .ok (.i2l, 1) := dk_133 (dk_at dksX1_paid_4 12 rfl rfl)
theorem dX1_paid_108 : decode cX1_paid 108 = .ok (.invokevirtual 363, 3) := dk_182 1 107 (dk_at dksX1_paid_4 13 rfl rfl)
theorem dX1_paid_111 : decode cX1_paid 111 = .ok (.iload_n 2, 1) := dk_28 (dk_at dksX1_paid_4 16 rfl rfl)
theorem dX1_paid_112 : decode cX1_paid 112 = .ok (.iload_n 3, 1) := dk_29 (dk_at dksX1_paid_4 17 rfl rfl)
theorem dX1_paid_113 : decode cX1_paid 113 = .ok (.iload 4, 2) := dk_21 4 (dk_at dksX1_paid_4 18 rfl rfl)
theorem dX1_paid_115 : decode cX1_paid 115 = .ok (.isub, 1) := dk_100 (dk_at dksX1_paid_4 20 rfl rfl)
theorem dX1_paid_116 : decode cX1_paid 116 = .ok (.isub, 1) := dk_100 (dk_at dksX1_paid_4 21 rfl rfl)
theorem dX1_paid_117 : decode cX1_paid 117 = .ok (.ireturn, 1) := dk_172 (dk_at dksX1_paid_4 22 rfl rfl)
abbrev cX1_fairest : ByteArray := prog_1_method_73_code
def yX1_fairest : MethodName := ⟨RX1, "fairest", "()I"⟩
def dkwX1_fairest_3 : List UInt8 := [18, 95, 181, 0, 96, 42, 3, 181, 1, 104, 42, 21, 4, 133, 182, 1, 107, 29, 172]
abbrev dktX1_fairest_3 : List UInt8 := dkwX1_fairest_3 ++ []
def dkwX1_fairest_2 : List UInt8 := [61, 167, 255, 226, 42, 180, 0, 96, 62, 167, 255, 218, 42, 29, 181, 0, 96, 42, 182, 1, 147, 54, 4, 42]
abbrev dktX1_fairest_2 : List UInt8 := dkwX1_fairest_2 ++ dktX1_fairest_3
def dkwX1_fairest_1 : List UInt8 := [42, 28, 29, 96, 5, 108, 181, 0, 96, 42, 182, 1, 147, 18, 95, 160, 0, 13, 42, 180, 0, 96, 4, 96]
abbrev dktX1_fairest_1 : List UInt8 := dkwX1_fairest_1 ++ dktX1_fairest_2
def dkwX1_fairest_0 : List UInt8 := [42, 3, 182, 1, 156, 60, 27, 18, 95, 160, 0, 6, 16, 254, 172, 3, 61, 27, 62, 28, 29, 162, 0, 39]
abbrev dktX1_fairest_0 : List UInt8 := dkwX1_fairest_0 ++ dktX1_fairest_1
theorem dksX1_fairest_0 : cX1_fairest.data.toList.drop 0 = dktX1_fairest_0 := by decide +kernel
theorem dksX1_fairest_1 : cX1_fairest.data.toList.drop 24 = dktX1_fairest_1 := dk_seg dksX1_fairest_0 24 rfl rfl
theorem dksX1_fairest_2 : cX1_fairest.data.toList.drop 48 = dktX1_fairest_2 := dk_seg dksX1_fairest_1 24 rfl rfl
theorem dksX1_fairest_3 : cX1_fairest.data.toList.drop 72 = dktX1_fairest_3 := dk_seg dksX1_fairest_2 24 rfl rfl
theorem dX1_fairest_0 : decode cX1_fairest 0 = .ok (.aload_n 0, 1) := dk_42 (dk_at dksX1_fairest_0 0 rfl rfl)
theorem dX1_fairest_1 : decode cX1_fairest 1 = .ok (.iconst 0, 1) := dk_3 (dk_at dksX1_fairest_0 1 rfl rfl)
theorem dX1_fairest_2 : decode cX1_fairest 2 = .ok (.invokevirtual 412, 3) := dk_182 1 156 (dk_at dksX1_fairest_0 2 rfl rfl)
theorem dX1_fairest_5 : decode cX1_fairest 5 = .ok (.istore_n 1, 1) := dk_60 (dk_at dksX1_fairest_0 5 rfl rfl)
theorem dX1_fairest_6 : decode cX1_fairest 6 = .ok (.iload_n 1, 1) := dk_27 (dk_at dksX1_fairest_0 6 rfl rfl)
theorem dX1_fairest_7 : decode cX1_fairest 7 = .ok (.ldc 95, 2) := dk_18 95 (dk_at dksX1_fairest_0 7 rfl rfl)
theorem dX1_fairest_9 : decode cX1_fairest 9 = .ok (.if_icmp .ne 6, 3) := dk_160 0 6 (dk_at dksX1_fairest_0 9 rfl rfl)
theorem dX1_fairest_12 : decode cX1_fairest 12 = .ok (.bipush (-2), 2) := dk_16 254 (dk_at dksX1_fairest_0 12 rfl rfl)
theorem dX1_fairest_14 : decode cX1_fairest 14 = .ok (.ireturn, 1) := dk_172 (dk_at dksX1_fairest_0 14 rfl rfl)
theorem dX1_fairest_15 : decode cX1_fairest 15 = .ok (.iconst 0, 1) := dk_3 (dk_at dksX1_fairest_0 15 rfl rfl)
theorem dX1_fairest_16 : decode cX1_fairest 16 = .ok (.istore_n 2, 1) := dk_61 (dk_at dksX1_fairest_0 16 rfl rfl)
theorem dX1_fairest_17 : decode cX1_fairest 17 = .ok (.iload_n 1, 1) := dk_27 (dk_at dksX1_fairest_0 17 rfl rfl)
theorem dX1_fairest_18 : decode cX1_fairest 18 = .ok (.istore_n 3, 1) := dk_62 (dk_at dksX1_fairest_0 18 rfl rfl)
theorem dX1_fairest_19 : decode cX1_fairest 19 = .ok (.iload_n 2, 1) := dk_28 (dk_at dksX1_fairest_0 19 rfl rfl)
theorem dX1_fairest_20 : decode cX1_fairest 20 = .ok (.iload_n 3, 1) := dk_29 (dk_at dksX1_fairest_0 20 rfl rfl)
theorem dX1_fairest_21 : decode cX1_fairest 21 = .ok (.if_icmp .ge 39, 3) := dk_162 0 39 (dk_at dksX1_fairest_0 21 rfl rfl)
theorem dX1_fairest_24 : decode cX1_fairest 24 = .ok (.aload_n 0, 1) := dk_42 (dk_at dksX1_fairest_1 0 rfl rfl)
theorem dX1_fairest_25 : decode cX1_fairest 25 = .ok (.iload_n 2, 1) := dk_28 (dk_at dksX1_fairest_1 1 rfl rfl)
theorem dX1_fairest_26 : decode cX1_fairest 26 = .ok (.iload_n 3, 1) := dk_29 (dk_at dksX1_fairest_1 2 rfl rfl)
theorem dX1_fairest_27 : decode cX1_fairest 27 = .ok (.iadd, 1) := dk_96 (dk_at dksX1_fairest_1 3 rfl rfl)
theorem dX1_fairest_28 : decode cX1_fairest 28 = .ok (.iconst 2, 1) := dk_5 (dk_at dksX1_fairest_1 4 rfl rfl)
theorem dX1_fairest_29 : decode cX1_fairest 29 = .ok (.idiv, 1) := dk_108 (dk_at dksX1_fairest_1 5 rfl rfl)
theorem dX1_fairest_30 : decode cX1_fairest 30 = .ok (.putfield 96, 3) := dk_181 0 96 (dk_at dksX1_fairest_1 6 rfl rfl)
theorem dX1_fairest_33 : decode cX1_fairest 33 = .ok (.aload_n 0, 1) := dk_42 (dk_at dksX1_fairest_1 9 rfl rfl)
theorem dX1_fairest_34 : decode cX1_fairest 34 = .ok (.invokevirtual 403, 3) := dk_182 1 147 (dk_at dksX1_fairest_1 10 rfl rfl)
theorem dX1_fairest_37 : decode cX1_fairest 37 = .ok (.ldc 95, 2) := dk_18 95 (dk_at dksX1_fairest_1 13 rfl rfl)
theorem dX1_fairest_39 : decode cX1_fairest 39 = .ok (.if_icmp .ne 13, 3) := dk_160 0 13 (dk_at dksX1_fairest_1 15 rfl rfl)
theorem dX1_fairest_42 : decode cX1_fairest 42 = .ok (.aload_n 0, 1) := dk_42 (dk_at dksX1_fairest_1 18 rfl rfl)
theorem dX1_fairest_43 : decode cX1_fairest 43 = .ok (.getfield 96, 3) := dk_180 0 96 (dk_at dksX1_fairest_1 19 rfl rfl)
theorem dX1_fairest_46 : decode cX1_fairest 46 = .ok (.iconst 1, 1) := dk_4 (dk_at dksX1_fairest_1 22 rfl rfl)
theorem dX1_fairest_47 : decode cX1_fairest 47 = .ok (.iadd, 1) := dk_96 (dk_at dksX1_fairest_1 23 rfl rfl)
theorem dX1_fairest_48 : decode cX1_fairest 48 = .ok (.istore_n 2, 1) := dk_61 (dk_at dksX1_fairest_2 0 rfl rfl)
theorem dX1_fairest_49 : decode cX1_fairest 49 = .ok (.goto (-30), 3) := dk_167 255 226 (dk_at dksX1_fairest_2 1 rfl rfl)
theorem dX1_fairest_52 : decode cX1_fairest 52 = .ok (.aload_n 0, 1) := dk_42 (dk_at dksX1_fairest_2 4 rfl rfl)
theorem dX1_fairest_53 : decode cX1_fairest 53 = .ok (.getfield 96, 3) := dk_180 0 96 (dk_at dksX1_fairest_2 5 rfl rfl)
theorem dX1_fairest_56 : decode cX1_fairest 56 = .ok (.istore_n 3, 1) := dk_62 (dk_at dksX1_fairest_2 8 rfl rfl)
theorem dX1_fairest_57 : decode cX1_fairest 57 = .ok (.goto (-38), 3) := dk_167 255 218 (dk_at dksX1_fairest_2 9 rfl rfl)
theorem dX1_fairest_60 : decode cX1_fairest 60 = .ok (.aload_n 0, 1) := dk_42 (dk_at dksX1_fairest_2 12 rfl rfl)
theorem dX1_fairest_61 : decode cX1_fairest 61 = .ok (.iload_n 3, 1) := dk_29 (dk_at dksX1_fairest_2 13 rfl rfl)
theorem dX1_fairest_62 : decode cX1_fairest 62 = .ok (.putfield 96, 3) := dk_181 0 96 (dk_at dksX1_fairest_2 14 rfl rfl)
theorem dX1_fairest_65 : decode cX1_fairest 65 = .ok (.aload_n 0, 1) := dk_42 (dk_at dksX1_fairest_2 17 rfl rfl)
theorem dX1_fairest_66 : decode cX1_fairest 66 = .ok (.invokevirtual 403, 3) := dk_182 1 147 (dk_at dksX1_fairest_2 18 rfl rfl)
theorem dX1_fairest_69 : decode cX1_fairest 69 = .ok (.istore 4, 2) := dk_54 4 (dk_at dksX1_fairest_2 21 rfl rfl)
theorem dX1_fairest_71 : decode cX1_fairest 71 = .ok (.aload_n 0, 1) := dk_42 (dk_at dksX1_fairest_2 23 rfl rfl)
theorem dX1_fairest_72 : decode cX1_fairest 72 = .ok (.ldc 95, 2) := dk_18 95 (dk_at dksX1_fairest_3 0 rfl rfl)
theorem dX1_fairest_74 : decode cX1_fairest 74 = .ok (.putfield 96, 3) := dk_181 0 96 (dk_at dksX1_fairest_3 2 rfl rfl)
theorem dX1_fairest_77 : decode cX1_fairest 77 = .ok (.aload_n 0, 1) := dk_42 (dk_at dksX1_fairest_3 5 rfl rfl)
theorem dX1_fairest_78 : decode cX1_fairest 78 = .ok (.iconst 0, 1) := dk_3 (dk_at dksX1_fairest_3 6 rfl rfl)
theorem dX1_fairest_79 : decode cX1_fairest 79 = .ok (.putfield 360, 3) := dk_181 1 104 (dk_at dksX1_fairest_3 7 rfl rfl)
theorem dX1_fairest_82 : decode cX1_fairest 82 = .ok (.aload_n 0, 1) := dk_42 (dk_at dksX1_fairest_3 10 rfl rfl)
theorem dX1_fairest_83 : decode cX1_fairest 83 = .ok (.iload 4, 2) := dk_21 4 (dk_at dksX1_fairest_3 11 rfl rfl)
theorem dX1_fairest_85 : decode cX1_fairest 85 = .ok (.i2l, 1) := dk_133 (dk_at dksX1_fairest_3 13 rfl rfl)
theorem dX1_fairest_86 : decode cX1_fairest 86 = .ok (.invokevirtual 363, 3) := dk_182 1 107 (dk_at dksX1_fairest_3 14 rfl rfl)
theorem dX1_fairest_89 : decode cX1_fairest 89 = .ok (.iload_n 3, 1) := dk_29 (dk_at dksX1_fairest_3 17 rfl rfl)
theorem dX1_fairest_90 : decode cX1_fairest 90 = .ok (.ireturn, 1) := dk_172 (dk_at dksX1_fairest_3 18 rfl rfl)
abbrev cX1_away : ByteArray := prog_1_method_74_code
def yX1_away : MethodName := ⟨RX1, "away", "()I"⟩
def dkwX1_away_4 : List UInt8 := [27, 184, 1, 70, 172]
abbrev dktX1_away_4 : List UInt8 := dkwX1_away_4 ++ []
def dkwX1_away_3 : List UInt8 := [132, 2, 1, 167, 255, 187, 27, 156, 0, 6, 16, 254, 172, 42, 3, 181, 1, 104, 42, 27, 133, 182, 1, 107]
abbrev dktX1_away_3 : List UInt8 := dkwX1_away_3 ++ dktX1_away_4
def dkwX1_away_2 : List UInt8 := [154, 0, 22, 42, 42, 182, 1, 171, 28, 2, 130, 126, 182, 1, 168, 154, 0, 7, 28, 167, 0, 4, 27, 60]
abbrev dktX1_away_2 : List UInt8 := dkwX1_away_2 ++ dktX1_away_3
def dkwX1_away_1 : List UInt8 := [164, 0, 7, 4, 167, 0, 4, 3, 62, 29, 153, 0, 34, 28, 42, 180, 0, 12, 180, 0, 200, 126]
abbrev dktX1_away_1 : List UInt8 := dkwX1_away_1 ++ dktX1_away_2
def dkwX1_away_0 : List UInt8 := [2, 60, 3, 61, 28, 42, 182, 1, 165, 163, 0, 67, 27, 155, 0, 14, 28, 184, 1, 70, 27, 184, 1, 70]
abbrev dktX1_away_0 : List UInt8 := dkwX1_away_0 ++ dktX1_away_1
theorem dksX1_away_0 : cX1_away.data.toList.drop 0 = dktX1_away_0 := by decide +kernel
theorem dksX1_away_1 : cX1_away.data.toList.drop 24 = dktX1_away_1 := dk_seg dksX1_away_0 24 rfl rfl
theorem dksX1_away_2 : cX1_away.data.toList.drop 46 = dktX1_away_2 := dk_seg dksX1_away_1 22 rfl rfl
theorem dksX1_away_3 : cX1_away.data.toList.drop 70 = dktX1_away_3 := dk_seg dksX1_away_2 24 rfl rfl
theorem dksX1_away_4 : cX1_away.data.toList.drop 94 = dktX1_away_4 := dk_seg dksX1_away_3 24 rfl rfl
theorem dX1_away_0 : decode cX1_away 0 = .ok (.iconst (-1), 1) := dk_2 (dk_at dksX1_away_0 0 rfl rfl)
theorem dX1_away_1 : decode cX1_away 1 = .ok (.istore_n 1, 1) := dk_60 (dk_at dksX1_away_0 1 rfl rfl)
theorem dX1_away_2 : decode cX1_away 2 = .ok (.iconst 0, 1) := dk_3 (dk_at dksX1_away_0 2 rfl rfl)
theorem dX1_away_3 : decode cX1_away 3 = .ok (.istore_n 2, 1) := dk_61 (dk_at dksX1_away_0 3 rfl rfl)
theorem dX1_away_4 : decode cX1_away 4 = .ok (.iload_n 2, 1) := dk_28 (dk_at dksX1_away_0 4 rfl rfl)
theorem dX1_away_5 : decode cX1_away 5 = .ok (.aload_n 0, 1) := dk_42 (dk_at dksX1_away_0 5 rfl rfl)
theorem dX1_away_6 : decode cX1_away 6 = .ok (.invokevirtual 421, 3) := dk_182 1 165 (dk_at dksX1_away_0 6 rfl rfl)
theorem dX1_away_9 : decode cX1_away 9 = .ok (.if_icmp .gt 67, 3) := dk_163 0 67 (dk_at dksX1_away_0 9 rfl rfl)
theorem dX1_away_12 : decode cX1_away 12 = .ok (.iload_n 1, 1) := dk_27 (dk_at dksX1_away_0 12 rfl rfl)
theorem dX1_away_13 : decode cX1_away 13 = .ok (.ifCond .lt 14, 3) := dk_155 0 14 (dk_at dksX1_away_0 13 rfl rfl)
theorem dX1_away_16 : decode cX1_away 16 = .ok (.iload_n 2, 1) := dk_28 (dk_at dksX1_away_0 16 rfl rfl)
theorem dX1_away_17 : decode cX1_away 17 = .ok (.invokestatic 326, 3) := dk_184 1 70 (dk_at dksX1_away_0 17 rfl rfl)
theorem dX1_away_20 : decode cX1_away 20 = .ok (.iload_n 1, 1) := dk_27 (dk_at dksX1_away_0 20 rfl rfl)
theorem dX1_away_21 : decode cX1_away 21 = .ok (.invokestatic 326, 3) := dk_184 1 70 (dk_at dksX1_away_0 21 rfl rfl)
theorem dX1_away_24 : decode cX1_away 24 = .ok (.if_icmp .le 7, 3) := dk_164 0 7 (dk_at dksX1_away_1 0 rfl rfl)
theorem dX1_away_27 : decode cX1_away 27 = .ok (.iconst 1, 1) := dk_4 (dk_at dksX1_away_1 3 rfl rfl)
theorem dX1_away_28 : decode cX1_away 28 = .ok (.goto 4, 3) := dk_167 0 4 (dk_at dksX1_away_1 4 rfl rfl)
theorem dX1_away_31 : decode cX1_away 31 = .ok (.iconst 0, 1) := dk_3 (dk_at dksX1_away_1 7 rfl rfl)
theorem dX1_away_32 : decode cX1_away 32 = .ok (.istore_n 3, 1) := dk_62 (dk_at dksX1_away_1 8 rfl rfl)
theorem dX1_away_33 : decode cX1_away 33 = .ok (.iload_n 3, 1) := dk_29 (dk_at dksX1_away_1 9 rfl rfl)
theorem dX1_away_34 : decode cX1_away 34 = .ok (.ifCond .eq 34, 3) := dk_153 0 34 (dk_at dksX1_away_1 10 rfl rfl)
theorem dX1_away_37 : decode cX1_away 37 = .ok (.iload_n 2, 1) := dk_28 (dk_at dksX1_away_1 13 rfl rfl)
theorem dX1_away_38 : decode cX1_away 38 = .ok (.aload_n 0, 1) := dk_42 (dk_at dksX1_away_1 14 rfl rfl)
theorem dX1_away_39 : decode cX1_away 39 = .ok (.getfield 12, 3) := dk_180 0 12 (dk_at dksX1_away_1 15 rfl rfl)
theorem dX1_away_42 : decode cX1_away 42 = .ok (.getfield 200, 3) := dk_180 0 200 (dk_at dksX1_away_1 18 rfl rfl)
theorem dX1_away_45 : decode cX1_away 45 = .ok (.iand, 1) := dk_126 (dk_at dksX1_away_1 21 rfl rfl)
theorem dX1_away_46 : decode cX1_away 46 = .ok (.ifCond .ne 22, 3) := dk_154 0 22 (dk_at dksX1_away_2 0 rfl rfl)
theorem dX1_away_49 : decode cX1_away 49 = .ok (.aload_n 0, 1) := dk_42 (dk_at dksX1_away_2 3 rfl rfl)
theorem dX1_away_50 : decode cX1_away 50 = .ok (.aload_n 0, 1) := dk_42 (dk_at dksX1_away_2 4 rfl rfl)
theorem dX1_away_51 : decode cX1_away 51 = .ok (.invokevirtual 427, 3) := dk_182 1 171 (dk_at dksX1_away_2 5 rfl rfl)
theorem dX1_away_54 : decode cX1_away 54 = .ok (.iload_n 2, 1) := dk_28 (dk_at dksX1_away_2 8 rfl rfl)
theorem dX1_away_55 : decode cX1_away 55 = .ok (.iconst (-1), 1) := dk_2 (dk_at dksX1_away_2 9 rfl rfl)
theorem dX1_away_56 : decode cX1_away 56 = .ok (.ixor, 1) := dk_130 (dk_at dksX1_away_2 10 rfl rfl)
theorem dX1_away_57 : decode cX1_away 57 = .ok (.iand, 1) := dk_126 (dk_at dksX1_away_2 11 rfl rfl)
theorem dX1_away_58 : decode cX1_away 58 = .ok (.invokevirtual 424, 3) := dk_182 1 168 (dk_at dksX1_away_2 12 rfl rfl)
theorem dX1_away_61 : decode cX1_away 61 = .ok (.ifCond .ne 7, 3) := dk_154 0 7 (dk_at dksX1_away_2 15 rfl rfl)
theorem dX1_away_64 : decode cX1_away 64 = .ok (.iload_n 2, 1) := dk_28 (dk_at dksX1_away_2 18 rfl rfl)
theorem dX1_away_65 : decode cX1_away 65 = .ok (.goto 4, 3) := dk_167 0 4 (dk_at dksX1_away_2 19 rfl rfl)
theorem dX1_away_68 : decode cX1_away 68 = .ok (.iload_n 1, 1) := dk_27 (dk_at dksX1_away_2 22 rfl rfl)
theorem dX1_away_69 : decode cX1_away 69 = .ok (.istore_n 1, 1) := dk_60 (dk_at dksX1_away_2 23 rfl rfl)
theorem dX1_away_70 : decode cX1_away 70 = .ok (.iinc 2 1, 3) := dk_132 2 1 (dk_at dksX1_away_3 0 rfl rfl)
theorem dX1_away_73 : decode cX1_away 73 = .ok (.goto (-69), 3) := dk_167 255 187 (dk_at dksX1_away_3 3 rfl rfl)
theorem dX1_away_76 : decode cX1_away 76 = .ok (.iload_n 1, 1) := dk_27 (dk_at dksX1_away_3 6 rfl rfl)
theorem dX1_away_77 : decode cX1_away 77 = .ok (.ifCond .ge 6, 3) := dk_156 0 6 (dk_at dksX1_away_3 7 rfl rfl)
theorem dX1_away_80 : decode cX1_away 80 = .ok (.bipush (-2), 2) := dk_16 254 (dk_at dksX1_away_3 10 rfl rfl)
theorem dX1_away_82 : decode cX1_away 82 = .ok (.ireturn, 1) := dk_172 (dk_at dksX1_away_3 12 rfl rfl)
theorem dX1_away_83 : decode cX1_away 83 = .ok (.aload_n 0, 1) := dk_42 (dk_at dksX1_away_3 13 rfl rfl)
theorem dX1_away_84 : decode cX1_away 84 = .ok (.iconst 0, 1) := dk_3 (dk_at dksX1_away_3 14 rfl rfl)
theorem dX1_away_85 : decode cX1_away 85 = .ok (.putfield 360, 3) := dk_181 1 104 (dk_at dksX1_away_3 15 rfl rfl)
theorem dX1_away_88 : decode cX1_away 88 = .ok (.aload_n 0, 1) := dk_42 (dk_at dksX1_away_3 18 rfl rfl)
theorem dX1_away_89 : decode cX1_away 89 = .ok (.iload_n 1, 1) := dk_27 (dk_at dksX1_away_3 19 rfl rfl)
theorem dX1_away_90 : decode cX1_away 90 = .ok (.i2l, 1) := dk_133 (dk_at dksX1_away_3 20 rfl rfl)
theorem dX1_away_91 : decode cX1_away 91 = .ok (.invokevirtual 363, 3) := dk_182 1 107 (dk_at dksX1_away_3 21 rfl rfl)
theorem dX1_away_94 : decode cX1_away 94 = .ok (.iload_n 1, 1) := dk_27 (dk_at dksX1_away_4 0 rfl rfl)
theorem dX1_away_95 : decode cX1_away 95 = .ok (.invokestatic 326, 3) := dk_184 1 70 (dk_at dksX1_away_4 1 rfl rfl)
theorem dX1_away_98 : decode cX1_away 98 = .ok (.ireturn, 1) := dk_172 (dk_at dksX1_away_4 4 rfl rfl)
abbrev cX1_able : ByteArray := prog_1_method_75_code
def yX1_able : MethodName := ⟨RX1, "able", "(I)I"⟩
def dkwX1_able_7 : List UInt8 := [167, 255, 237, 28, 172]
abbrev dktX1_able_7 : List UInt8 := dkwX1_able_7 ++ []
def dkwX1_able_6 : List UInt8 := [181, 1, 104, 3, 62, 29, 28, 162, 0, 20, 42, 42, 180, 0, 55, 29, 46, 133, 182, 1, 107, 132, 3, 1]
abbrev dktX1_able_6 : List UInt8 := dkwX1_able_6 ++ dktX1_able_7
def dkwX1_able_5 : List UInt8 := [167, 255, 201, 42, 180, 0, 55, 21, 4, 29, 79, 132, 2, 1, 132, 3, 1, 167, 255, 143, 42, 3]
abbrev dktX1_able_5 : List UInt8 := dkwX1_able_5 ++ dktX1_able_6
def dkwX1_able_4 : List UInt8 := [164, 0, 25, 42, 180, 0, 55, 21, 4, 42, 180, 0, 55, 21, 4, 4, 100, 46, 79, 132, 4, 255]
abbrev dktX1_able_4 : List UInt8 := dkwX1_able_4 ++ dktX1_able_5
def dkwX1_able_3 : List UInt8 := [180, 0, 55, 21, 4, 4, 100, 46, 27, 182, 1, 34, 42, 42, 180, 0, 12, 29, 27, 182, 1, 34]
abbrev dktX1_able_3 : List UInt8 := dkwX1_able_3 ++ dktX1_able_4
def dkwX1_able_2 : List UInt8 := [184, 1, 25, 153, 0, 6, 167, 0, 75, 28, 54, 4, 21, 4, 158, 0, 56, 42, 42, 180, 0, 12, 42]
abbrev dktX1_able_2 : List UInt8 := dkwX1_able_2 ++ dktX1_able_3
def dkwX1_able_1 : List UInt8 := [162, 0, 111, 42, 180, 0, 26, 29, 46, 27, 184, 1, 25, 153, 0, 92, 42, 180, 0, 12, 180, 0, 200, 29]
abbrev dktX1_able_1 : List UInt8 := dkwX1_able_1 ++ dktX1_able_2
def dkwX1_able_0 : List UInt8 := [27, 133, 9, 20, 1, 32, 184, 0, 124, 154, 0, 5, 2, 172, 3, 61, 3, 62, 29, 42, 180, 0, 121]
abbrev dktX1_able_0 : List UInt8 := dkwX1_able_0 ++ dktX1_able_1
theorem dksX1_able_0 : cX1_able.data.toList.drop 0 = dktX1_able_0 := by decide +kernel
theorem dksX1_able_1 : cX1_able.data.toList.drop 23 = dktX1_able_1 := dk_seg dksX1_able_0 23 rfl rfl
theorem dksX1_able_2 : cX1_able.data.toList.drop 47 = dktX1_able_2 := dk_seg dksX1_able_1 24 rfl rfl
theorem dksX1_able_3 : cX1_able.data.toList.drop 70 = dktX1_able_3 := dk_seg dksX1_able_2 23 rfl rfl
theorem dksX1_able_4 : cX1_able.data.toList.drop 92 = dktX1_able_4 := dk_seg dksX1_able_3 22 rfl rfl
theorem dksX1_able_5 : cX1_able.data.toList.drop 114 = dktX1_able_5 := dk_seg dksX1_able_4 22 rfl rfl
theorem dksX1_able_6 : cX1_able.data.toList.drop 136 = dktX1_able_6 := dk_seg dksX1_able_5 22 rfl rfl
theorem dksX1_able_7 : cX1_able.data.toList.drop 160 = dktX1_able_7 := dk_seg dksX1_able_6 24 rfl rfl
theorem dX1_able_0 : decode cX1_able 0 = .ok (.iload_n 1, 1) := dk_27 (dk_at dksX1_able_0 0 rfl rfl)
theorem dX1_able_1 : decode cX1_able 1 = .ok (.i2l, 1) := dk_133 (dk_at dksX1_able_0 1 rfl rfl)
theorem dX1_able_2 : decode cX1_able 2 = .ok (.lconst 0, 1) := dk_9 (dk_at dksX1_able_0 2 rfl rfl)
theorem dX1_able_3 : decode cX1_able 3 = .ok (.ldc2_w 288, 3) := dk_20 1 32 (dk_at dksX1_able_0 3 rfl rfl)
theorem dX1_able_6 : decode cX1_able 6 = .ok (.invokestatic 124, 3) := dk_184 0 124 (dk_at dksX1_able_0 6 rfl rfl)
theorem dX1_able_9 : decode cX1_able 9 = .ok (.ifCond .ne 5, 3) := dk_154 0 5 (dk_at dksX1_able_0 9 rfl rfl)
theorem dX1_able_12 : decode cX1_able 12 = .ok (.iconst (-1), 1) := dk_2 (dk_at dksX1_able_0 12 rfl rfl)
theorem dX1_able_13 : decode cX1_able 13 = .ok (.ireturn, 1) := dk_172 (dk_at dksX1_able_0 13 rfl rfl)
theorem dX1_able_14 : decode cX1_able 14 = .ok (.iconst 0, 1) := dk_3 (dk_at dksX1_able_0 14 rfl rfl)
theorem dX1_able_15 : decode cX1_able 15 = .ok (.istore_n 2, 1) := dk_61 (dk_at dksX1_able_0 15 rfl rfl)
theorem dX1_able_16 : decode cX1_able 16 = .ok (.iconst 0, 1) := dk_3 (dk_at dksX1_able_0 16 rfl rfl)
theorem dX1_able_17 : decode cX1_able 17 = .ok (.istore_n 3, 1) := dk_62 (dk_at dksX1_able_0 17 rfl rfl)
theorem dX1_able_18 : decode cX1_able 18 = .ok (.iload_n 3, 1) := dk_29 (dk_at dksX1_able_0 18 rfl rfl)
theorem dX1_able_19 : decode cX1_able 19 = .ok (.aload_n 0, 1) := dk_42 (dk_at dksX1_able_0 19 rfl rfl)
theorem dX1_able_20 : decode cX1_able 20 = .ok (.getfield 121, 3) := dk_180 0 121 (dk_at dksX1_able_0 20 rfl rfl)
theorem dX1_able_23 : decode cX1_able 23 = .ok (.if_icmp .ge 111, 3) := dk_162 0 111 (dk_at dksX1_able_1 0 rfl rfl)
theorem dX1_able_26 : decode cX1_able 26 = .ok (.aload_n 0, 1) := dk_42 (dk_at dksX1_able_1 3 rfl rfl)
theorem dX1_able_27 : decode cX1_able 27 = .ok (.getfield 26, 3) := dk_180 0 26 (dk_at dksX1_able_1 4 rfl rfl)
theorem dX1_able_30 : decode cX1_able 30 = .ok (.iload_n 3, 1) := dk_29 (dk_at dksX1_able_1 7 rfl rfl)
theorem dX1_able_31 : decode cX1_able 31 = .ok (.iaload, 1) := dk_46 (dk_at dksX1_able_1 8 rfl rfl)
theorem dX1_able_32 : decode cX1_able 32 = .ok (.iload_n 1, 1) := dk_27 (dk_at dksX1_able_1 9 rfl rfl)
theorem dX1_able_33 : decode cX1_able 33 = .ok (.invokestatic 281, 3) := dk_184 1 25 (dk_at dksX1_able_1 10 rfl rfl)
theorem dX1_able_36 : decode cX1_able 36 = .ok (.ifCond .eq 92, 3) := dk_153 0 92 (dk_at dksX1_able_1 13 rfl rfl)
theorem dX1_able_39 : decode cX1_able 39 = .ok (.aload_n 0, 1) := dk_42 (dk_at dksX1_able_1 16 rfl rfl)
theorem dX1_able_40 : decode cX1_able 40 = .ok (.getfield 12, 3) := dk_180 0 12 (dk_at dksX1_able_1 17 rfl rfl)
theorem dX1_able_43 : decode cX1_able 43 = .ok (.getfield 200, 3) := dk_180 0 200 (dk_at dksX1_able_1 20 rfl rfl)
theorem dX1_able_46 : decode cX1_able 46 = .ok (.iload_n 3, 1) := dk_29 (dk_at dksX1_able_1 23 rfl rfl)
theorem dX1_able_47 : decode cX1_able 47 = .ok (.invokestatic 281, 3) := dk_184 1 25 (dk_at dksX1_able_2 0 rfl rfl)
theorem dX1_able_50 : decode cX1_able 50 = .ok (.ifCond .eq 6, 3) := dk_153 0 6 (dk_at dksX1_able_2 3 rfl rfl)
theorem dX1_able_53 : decode cX1_able 53 = .ok (.goto 75, 3) := dk_167 0 75 (dk_at dksX1_able_2 6 rfl rfl)
theorem dX1_able_56 : decode cX1_able 56 = .ok (.iload_n 2, 1) := dk_28 (dk_at dksX1_able_2 9 rfl rfl)
theorem dX1_able_57 : decode cX1_able 57 = .ok (.istore 4, 2) := dk_54 4 (dk_at dksX1_able_2 10 rfl rfl)
theorem dX1_able_59 : decode cX1_able 59 = .ok (.iload 4, 2) := dk_21 4 (dk_at dksX1_able_2 12 rfl rfl)
theorem dX1_able_61 : decode cX1_able 61 = .ok (.ifCond .le 56, 3) := dk_158 0 56 (dk_at dksX1_able_2 14 rfl rfl)
theorem dX1_able_64 : decode cX1_able 64 = .ok (.aload_n 0, 1) := dk_42 (dk_at dksX1_able_2 17 rfl rfl)
theorem dX1_able_65 : decode cX1_able 65 = .ok (.aload_n 0, 1) := dk_42 (dk_at dksX1_able_2 18 rfl rfl)
theorem dX1_able_66 : decode cX1_able 66 = .ok (.getfield 12, 3) := dk_180 0 12 (dk_at dksX1_able_2 19 rfl rfl)
theorem dX1_able_69 : decode cX1_able 69 = .ok (.aload_n 0, 1) := dk_42 (dk_at dksX1_able_2 22 rfl rfl)
theorem dX1_able_70 : decode cX1_able 70 = .ok (.getfield 55, 3) := dk_180 0 55 (dk_at dksX1_able_3 0 rfl rfl)
theorem dX1_able_73 : decode cX1_able 73 = .ok (.iload 4, 2) := dk_21 4 (dk_at dksX1_able_3 3 rfl rfl)
theorem dX1_able_75 : decode cX1_able 75 = .ok (.iconst 1, 1) := dk_4 (dk_at dksX1_able_3 5 rfl rfl)
theorem dX1_able_76 : decode cX1_able 76 = .ok (.isub, 1) := dk_100 (dk_at dksX1_able_3 6 rfl rfl)
theorem dX1_able_77 : decode cX1_able 77 = .ok (.iaload, 1) := dk_46 (dk_at dksX1_able_3 7 rfl rfl)
theorem dX1_able_78 : decode cX1_able 78 = .ok (.iload_n 1, 1) := dk_27 (dk_at dksX1_able_3 8 rfl rfl)
theorem dX1_able_79 : decode cX1_able 79 = .ok (.invokevirtual 290, 3) := dk_182 1 34 (dk_at dksX1_able_3 9 rfl rfl)
theorem dX1_able_82 : decode cX1_able 82 = .ok (.aload_n 0, 1) := dk_42 (dk_at dksX1_able_3 12 rfl rfl)
theorem dX1_able_83 : decode cX1_able 83 = .ok (.aload_n 0, 1) := dk_42 (dk_at dksX1_able_3 13 rfl rfl)
theorem dX1_able_84 : decode cX1_able 84 = .ok (.getfield 12, 3) := dk_180 0 12 (dk_at dksX1_able_3 14 rfl rfl)
theorem dX1_able_87 : decode cX1_able 87 = .ok (.iload_n 3, 1) := dk_29 (dk_at dksX1_able_3 17 rfl rfl)
theorem dX1_able_88 : decode cX1_able 88 = .ok (.iload_n 1, 1) := dk_27 (dk_at dksX1_able_3 18 rfl rfl)
theorem dX1_able_89 : decode cX1_able 89 = .ok (.invokevirtual 290, 3) := dk_182 1 34 (dk_at dksX1_able_3 19 rfl rfl)
theorem dX1_able_92 : decode cX1_able 92 = .ok (.if_icmp .le 25, 3) := dk_164 0 25 (dk_at dksX1_able_4 0 rfl rfl)
theorem dX1_able_95 : decode cX1_able 95 = .ok (.aload_n 0, 1) := dk_42 (dk_at dksX1_able_4 3 rfl rfl)
theorem dX1_able_96 : decode cX1_able 96 = .ok (.getfield 55, 3) := dk_180 0 55 (dk_at dksX1_able_4 4 rfl rfl)
theorem dX1_able_99 : decode cX1_able 99 = .ok (.iload 4, 2) := dk_21 4 (dk_at dksX1_able_4 7 rfl rfl)
theorem dX1_able_101 : decode cX1_able 101 = .ok (.aload_n 0, 1) := dk_42 (dk_at dksX1_able_4 9 rfl rfl)
theorem dX1_able_102 : decode cX1_able 102 = .ok (.getfield 55, 3) := dk_180 0 55 (dk_at dksX1_able_4 10 rfl rfl)
theorem dX1_able_105 : decode cX1_able 105 = .ok (.iload 4, 2) := dk_21 4 (dk_at dksX1_able_4 13 rfl rfl)
theorem dX1_able_107 : decode cX1_able 107 = .ok (.iconst 1, 1) := dk_4 (dk_at dksX1_able_4 15 rfl rfl)
theorem dX1_able_108 : decode cX1_able 108 = .ok (.isub, 1) := dk_100 (dk_at dksX1_able_4 16 rfl rfl)
theorem dX1_able_109 : decode cX1_able 109 = .ok (.iaload, 1) := dk_46 (dk_at dksX1_able_4 17 rfl rfl)
theorem dX1_able_110 : decode cX1_able 110 = .ok (.iastore, 1) := dk_79 (dk_at dksX1_able_4 18 rfl rfl)
theorem dX1_able_111 : decode cX1_able 111 = .ok (.iinc 4 (-1), 3) := dk_132 4 255 (dk_at dksX1_able_4 19 rfl rfl)
theorem dX1_able_114 : decode cX1_able 114 = .ok (.goto (-55), 3) := dk_167 255 201 (dk_at dksX1_able_5 0 rfl rfl)
theorem dX1_able_117 : decode cX1_able 117 = .ok (.aload_n 0, 1) := dk_42 (dk_at dksX1_able_5 3 rfl rfl)
theorem dX1_able_118 : decode cX1_able 118 = .ok (.getfield 55, 3) := dk_180 0 55 (dk_at dksX1_able_5 4 rfl rfl)
theorem dX1_able_121 : decode cX1_able 121 = .ok (.iload 4, 2) := dk_21 4 (dk_at dksX1_able_5 7 rfl rfl)
theorem dX1_able_123 : decode cX1_able 123 = .ok (.iload_n 3, 1) := dk_29 (dk_at dksX1_able_5 9 rfl rfl)
theorem dX1_able_124 : decode cX1_able 124 = .ok (.iastore, 1) := dk_79 (dk_at dksX1_able_5 10 rfl rfl)
theorem dX1_able_125 : decode cX1_able 125 = .ok (.iinc 2 1, 3) := dk_132 2 1 (dk_at dksX1_able_5 11 rfl rfl)
theorem dX1_able_128 : decode cX1_able 128 = .ok (.iinc 3 1, 3) := dk_132 3 1 (dk_at dksX1_able_5 14 rfl rfl)
theorem dX1_able_131 : decode cX1_able 131 = .ok (.goto (-113), 3) := dk_167 255 143 (dk_at dksX1_able_5 17 rfl rfl)
theorem dX1_able_134 : decode cX1_able 134 = .ok (.aload_n 0, 1) := dk_42 (dk_at dksX1_able_5 20 rfl rfl)
theorem dX1_able_135 : decode cX1_able 135 = .ok (.iconst 0, 1) := dk_3 (dk_at dksX1_able_5 21 rfl rfl)
theorem dX1_able_136 : decode cX1_able 136 = .ok (.putfield 360, 3) := dk_181 1 104 (dk_at dksX1_able_6 0 rfl rfl)
theorem dX1_able_139 : decode cX1_able 139 = .ok (.iconst 0, 1) := dk_3 (dk_at dksX1_able_6 3 rfl rfl)
theorem dX1_able_140 : decode cX1_able 140 = .ok (.istore_n 3, 1) := dk_62 (dk_at dksX1_able_6 4 rfl rfl)
theorem dX1_able_141 : decode cX1_able 141 = .ok (.iload_n 3, 1) := dk_29 (dk_at dksX1_able_6 5 rfl rfl)
theorem dX1_able_142 : decode cX1_able 142 = .ok (.iload_n 2, 1) := dk_28 (dk_at dksX1_able_6 6 rfl rfl)
theorem dX1_able_143 : decode cX1_able 143 = .ok (.if_icmp .ge 20, 3) := dk_162 0 20 (dk_at dksX1_able_6 7 rfl rfl)
theorem dX1_able_146 : decode cX1_able 146 = .ok (.aload_n 0, 1) := dk_42 (dk_at dksX1_able_6 10 rfl rfl)
theorem dX1_able_147 : decode cX1_able 147 = .ok (.aload_n 0, 1) := dk_42 (dk_at dksX1_able_6 11 rfl rfl)
theorem dX1_able_148 : decode cX1_able 148 = .ok (.getfield 55, 3) := dk_180 0 55 (dk_at dksX1_able_6 12 rfl rfl)
theorem dX1_able_151 : decode cX1_able 151 = .ok (.iload_n 3, 1) := dk_29 (dk_at dksX1_able_6 15 rfl rfl)
theorem dX1_able_152 : decode cX1_able 152 = .ok (.iaload, 1) := dk_46 (dk_at dksX1_able_6 16 rfl rfl)
theorem dX1_able_153 : decode cX1_able 153 = .ok (.i2l, 1) := dk_133 (dk_at dksX1_able_6 17 rfl rfl)
theorem dX1_able_154 : decode cX1_able 154 = .ok (.invokevirtual 363, 3) := dk_182 1 107 (dk_at dksX1_able_6 18 rfl rfl)
theorem dX1_able_157 : decode cX1_able 157 = .ok (.iinc 3 1, 3) := dk_132 3 1 (dk_at dksX1_able_6 21 rfl rfl)
theorem dX1_able_160 : decode cX1_able 160 = .ok (.goto (-19), 3) := dk_167 255 237 (dk_at dksX1_able_7 0 rfl rfl)
theorem dX1_able_163 : decode cX1_able 163 = .ok (.iload_n 2, 1) := dk_28 (dk_at dksX1_able_7 3 rfl rfl)
theorem dX1_able_164 : decode cX1_able 164 = .ok (.ireturn, 1) := dk_172 (dk_at dksX1_able_7 4 rfl rfl)
abbrev cX1_spent : ByteArray := prog_1_method_76_code
def yX1_spent : MethodName := ⟨RX1, "spent", "(I)I"⟩
def dkwX1_spent_5 : List UInt8 := [182, 1, 107, 42, 29, 133, 182, 1, 107, 28, 172]
abbrev dktX1_spent_5 : List UInt8 := dkwX1_spent_5 ++ []
def dkwX1_spent_4 : List UInt8 := [62, 132, 5, 1, 167, 255, 190, 132, 4, 1, 167, 255, 172, 42, 3, 181, 1, 104, 42, 28, 184, 1, 70, 133]
abbrev dktX1_spent_4 : List UInt8 := dkwX1_spent_4 ++ dktX1_spent_5
def dkwX1_spent_3 : List UInt8 := [54, 6, 21, 6, 27, 163, 0, 6, 167, 0, 17, 28, 4, 21, 4, 120, 128, 61, 29, 21, 6, 184, 1, 19]
abbrev dktX1_spent_3 : List UInt8 := dkwX1_spent_3 ++ dktX1_spent_4
def dkwX1_spent_2 : List UInt8 := [21, 5, 184, 1, 25, 153, 0, 18, 42, 42, 180, 0, 12, 21, 4, 21, 5, 182, 1, 34, 167, 0, 4, 3]
abbrev dktX1_spent_2 : List UInt8 := dkwX1_spent_2 ++ dktX1_spent_3
def dkwX1_spent_1 : List UInt8 := [180, 0, 121, 162, 0, 81, 3, 54, 5, 21, 5, 16, 8, 162, 0, 65, 42, 180, 0, 26, 21, 4, 46]
abbrev dktX1_spent_1 : List UInt8 := dkwX1_spent_1 ++ dktX1_spent_2
def dkwX1_spent_0 : List UInt8 := [27, 133, 9, 20, 1, 181, 184, 0, 124, 154, 0, 5, 2, 172, 3, 61, 3, 62, 3, 54, 4, 21, 4, 42]
abbrev dktX1_spent_0 : List UInt8 := dkwX1_spent_0 ++ dktX1_spent_1
theorem dksX1_spent_0 : cX1_spent.data.toList.drop 0 = dktX1_spent_0 := by decide +kernel
theorem dksX1_spent_1 : cX1_spent.data.toList.drop 24 = dktX1_spent_1 := dk_seg dksX1_spent_0 24 rfl rfl
theorem dksX1_spent_2 : cX1_spent.data.toList.drop 47 = dktX1_spent_2 := dk_seg dksX1_spent_1 23 rfl rfl
theorem dksX1_spent_3 : cX1_spent.data.toList.drop 71 = dktX1_spent_3 := dk_seg dksX1_spent_2 24 rfl rfl
theorem dksX1_spent_4 : cX1_spent.data.toList.drop 95 = dktX1_spent_4 := dk_seg dksX1_spent_3 24 rfl rfl
theorem dksX1_spent_5 : cX1_spent.data.toList.drop 119 = dktX1_spent_5 := dk_seg dksX1_spent_4 24 rfl rfl
theorem dX1_spent_0 : decode cX1_spent 0 = .ok (.iload_n 1, 1) := dk_27 (dk_at dksX1_spent_0 0 rfl rfl)
theorem dX1_spent_1 : decode cX1_spent 1 = .ok (.i2l, 1) := dk_133 (dk_at dksX1_spent_0 1 rfl rfl)
theorem dX1_spent_2 : decode cX1_spent 2 = .ok (.lconst 0, 1) := dk_9 (dk_at dksX1_spent_0 2 rfl rfl)
theorem dX1_spent_3 : decode cX1_spent 3 = .ok (.ldc2_w 437, 3) := dk_20 1 181 (dk_at dksX1_spent_0 3 rfl rfl)
theorem dX1_spent_6 : decode cX1_spent 6 = .ok (.invokestatic 124, 3) := dk_184 0 124 (dk_at dksX1_spent_0 6 rfl rfl)
theorem dX1_spent_9 : decode cX1_spent 9 = .ok (.ifCond .ne 5, 3) := dk_154 0 5 (dk_at dksX1_spent_0 9 rfl rfl)
theorem dX1_spent_12 : decode cX1_spent 12 = .ok (.iconst (-1), 1) := dk_2 (dk_at dksX1_spent_0 12 rfl rfl)
theorem dX1_spent_13 : decode cX1_spent 13 = .ok (.ireturn, 1) := dk_172 (dk_at dksX1_spent_0 13 rfl rfl)
theorem dX1_spent_14 : decode cX1_spent 14 = .ok (.iconst 0, 1) := dk_3 (dk_at dksX1_spent_0 14 rfl rfl)
theorem dX1_spent_15 : decode cX1_spent 15 = .ok (.istore_n 2, 1) := dk_61 (dk_at dksX1_spent_0 15 rfl rfl)
theorem dX1_spent_16 : decode cX1_spent 16 = .ok (.iconst 0, 1) := dk_3 (dk_at dksX1_spent_0 16 rfl rfl)
theorem dX1_spent_17 : decode cX1_spent 17 = .ok (.istore_n 3, 1) := dk_62 (dk_at dksX1_spent_0 17 rfl rfl)
theorem dX1_spent_18 : decode cX1_spent 18 = .ok (.iconst 0, 1) := dk_3 (dk_at dksX1_spent_0 18 rfl rfl)
theorem dX1_spent_19 : decode cX1_spent 19 = .ok (.istore 4, 2) := dk_54 4 (dk_at dksX1_spent_0 19 rfl rfl)
theorem dX1_spent_21 : decode cX1_spent 21 = .ok (.iload 4, 2) := dk_21 4 (dk_at dksX1_spent_0 21 rfl rfl)
theorem dX1_spent_23 : decode cX1_spent 23 = .ok (.aload_n 0, 1) := dk_42 (dk_at dksX1_spent_0 23 rfl rfl)
theorem dX1_spent_24 : decode cX1_spent 24 = .ok (.getfield 121, 3) := dk_180 0 121 (dk_at dksX1_spent_1 0 rfl rfl)
theorem dX1_spent_27 : decode cX1_spent 27 = .ok (.if_icmp .ge 81, 3) := dk_162 0 81 (dk_at dksX1_spent_1 3 rfl rfl)
theorem dX1_spent_30 : decode cX1_spent 30 = .ok (.iconst 0, 1) := dk_3 (dk_at dksX1_spent_1 6 rfl rfl)
theorem dX1_spent_31 : decode cX1_spent 31 = .ok (.istore 5, 2) := dk_54 5 (dk_at dksX1_spent_1 7 rfl rfl)
theorem dX1_spent_33 : decode cX1_spent 33 = .ok (.iload 5, 2) := dk_21 5 (dk_at dksX1_spent_1 9 rfl rfl)
theorem dX1_spent_35 : decode cX1_spent 35 = .ok (.bipush 8, 2) := dk_16 8 (dk_at dksX1_spent_1 11 rfl rfl)
theorem dX1_spent_37 : decode cX1_spent 37 = .ok (.if_icmp .ge 65, 3) := dk_162 0 65 (dk_at dksX1_spent_1 13 rfl rfl)
theorem dX1_spent_40 : decode cX1_spent 40 = .ok (.aload_n 0, 1) := dk_42 (dk_at dksX1_spent_1 16 rfl rfl)
theorem dX1_spent_41 : decode cX1_spent 41 = .ok (.getfield 26, 3) := dk_180 0 26 (dk_at dksX1_spent_1 17 rfl rfl)
theorem dX1_spent_44 : decode cX1_spent 44 = .ok (.iload 4, 2) := dk_21 4 (dk_at dksX1_spent_1 20 rfl rfl)
theorem dX1_spent_46 : decode cX1_spent 46 = .ok (.iaload, 1) := dk_46 (dk_at dksX1_spent_1 22 rfl rfl)
theorem dX1_spent_47 : decode cX1_spent 47 = .ok (.iload 5, 2) := dk_21 5 (dk_at dksX1_spent_2 0 rfl rfl)
theorem dX1_spent_49 : decode cX1_spent 49 = .ok (.invokestatic 281, 3) := dk_184 1 25 (dk_at dksX1_spent_2 2 rfl rfl)
theorem dX1_spent_52 : decode cX1_spent 52 = .ok (.ifCond .eq 18, 3) := dk_153 0 18 (dk_at dksX1_spent_2 5 rfl rfl)
theorem dX1_spent_55 : decode cX1_spent 55 = .ok (.aload_n 0, 1) := dk_42 (dk_at dksX1_spent_2 8 rfl rfl)
theorem dX1_spent_56 : decode cX1_spent 56 = .ok (.aload_n 0, 1) := dk_42 (dk_at dksX1_spent_2 9 rfl rfl)
theorem dX1_spent_57 : decode cX1_spent 57 = .ok (.getfield 12, 3) := dk_180 0 12 (dk_at dksX1_spent_2 10 rfl rfl)
theorem dX1_spent_60 : decode cX1_spent 60 = .ok (.iload 4, 2) := dk_21 4 (dk_at dksX1_spent_2 13 rfl rfl)
theorem dX1_spent_62 : decode cX1_spent 62 = .ok (.iload 5, 2) := dk_21 5 (dk_at dksX1_spent_2 15 rfl rfl)
theorem dX1_spent_64 : decode cX1_spent 64 = .ok (.invokevirtual 290, 3) := dk_182 1 34 (dk_at dksX1_spent_2 17 rfl rfl)
theorem dX1_spent_67 : decode cX1_spent 67 = .ok (.goto 4, 3) := dk_167 0 4 (dk_at dksX1_spent_2 20 rfl rfl)
theorem dX1_spent_70 : decode cX1_spent 70 = .ok (.iconst 0, 1) := dk_3 (dk_at dksX1_spent_2 23 rfl rfl)
theorem dX1_spent_71 : decode cX1_spent 71 = .ok (.istore 6, 2) := dk_54 6 (dk_at dksX1_spent_3 0 rfl rfl)
theorem dX1_spent_73 : decode cX1_spent 73 = .ok (.iload 6, 2) := dk_21 6 (dk_at dksX1_spent_3 2 rfl rfl)
theorem dX1_spent_75 : decode cX1_spent 75 = .ok (.iload_n 1, 1) := dk_27 (dk_at dksX1_spent_3 4 rfl rfl)
theorem dX1_spent_76 : decode cX1_spent 76 = .ok (.if_icmp .gt 6, 3) := dk_163 0 6 (dk_at dksX1_spent_3 5 rfl rfl)
theorem dX1_spent_79 : decode cX1_spent 79 = .ok (.goto 17, 3) := dk_167 0 17 (dk_at dksX1_spent_3 8 rfl rfl)
theorem dX1_spent_82 : decode cX1_spent 82 = .ok (.iload_n 2, 1) := dk_28 (dk_at dksX1_spent_3 11 rfl rfl)
theorem dX1_spent_83 : decode cX1_spent 83 = .ok (.iconst 1, 1) := dk_4 (dk_at dksX1_spent_3 12 rfl rfl)
theorem dX1_spent_84 : decode cX1_spent 84 = .ok (.iload 4, 2) := dk_21 4 (dk_at dksX1_spent_3 13 rfl rfl)
theorem dX1_spent_86 : decode cX1_spent 86 = .ok (.ishl, 1) := dk_120 (dk_at dksX1_spent_3 15 rfl rfl)
theorem dX1_spent_87 : decode cX1_spent 87 = .ok (.ior, 1) := dk_128 (dk_at dksX1_spent_3 16 rfl rfl)
theorem dX1_spent_88 : decode cX1_spent 88 = .ok (.istore_n 2, 1) := dk_61 (dk_at dksX1_spent_3 17 rfl rfl)
theorem dX1_spent_89 : decode cX1_spent 89 = .ok (.iload_n 3, 1) := dk_29 (dk_at dksX1_spent_3 18 rfl rfl)
theorem dX1_spent_90 : decode cX1_spent 90 = .ok (.iload 6, 2) := dk_21 6 (dk_at dksX1_spent_3 19 rfl rfl)
theorem dX1_spent_92 : decode cX1_spent 92 = .ok (.invokestatic 275, 3) := dk_184 1 19 (dk_at dksX1_spent_3 21 rfl rfl)
theorem dX1_spent_95 : decode cX1_spent 95 = .ok (.istore_n 3, 1) := dk_62 (dk_at dksX1_spent_4 0 rfl rfl)
theorem dX1_spent_96 : decode cX1_spent 96 = .ok (.iinc 5 1, 3) := dk_132 5 1 (dk_at dksX1_spent_4 1 rfl rfl)
theorem dX1_spent_99 : decode cX1_spent 99 = .ok (.goto (-66), 3) := dk_167 255 190 (dk_at dksX1_spent_4 4 rfl rfl)
theorem dX1_spent_102 : decode cX1_spent 102 = .ok (.iinc 4 1, 3) := dk_132 4 1 (dk_at dksX1_spent_4 7 rfl rfl)
theorem dX1_spent_105 : decode cX1_spent 105 = .ok (.goto (-84), 3) := dk_167 255 172 (dk_at dksX1_spent_4 10 rfl rfl)
theorem dX1_spent_108 : decode cX1_spent 108 = .ok (.aload_n 0, 1) := dk_42 (dk_at dksX1_spent_4 13 rfl rfl)
theorem dX1_spent_109 : decode cX1_spent 109 = .ok (.iconst 0, 1) := dk_3 (dk_at dksX1_spent_4 14 rfl rfl)
theorem dX1_spent_110 : decode cX1_spent 110 = .ok (.putfield 360, 3) := dk_181 1 104 (dk_at dksX1_spent_4 15 rfl rfl)
theorem dX1_spent_113 : decode cX1_spent 113 = .ok (.aload_n 0, 1) := dk_42 (dk_at dksX1_spent_4 18 rfl rfl)
theorem dX1_spent_114 : decode cX1_spent 114 = .ok (.iload_n 2, 1) := dk_28 (dk_at dksX1_spent_4 19 rfl rfl)
theorem dX1_spent_115 : decode cX1_spent 115 = .ok (.invokestatic 326, 3) := dk_184 1 70 (dk_at dksX1_spent_4 20 rfl rfl)
theorem dX1_spent_118 : decode cX1_spent 118 = .ok (.i2l, 1) := dk_133 (dk_at dksX1_spent_4 23 rfl rfl)
theorem dX1_spent_119 : decode cX1_spent 119 = .ok (.invokevirtual 363, 3) := dk_182 1 107 (dk_at dksX1_spent_5 0 rfl rfl)
theorem dX1_spent_122 : decode cX1_spent 122 = .ok (.aload_n 0, 1) := dk_42 (dk_at dksX1_spent_5 3 rfl rfl)
theorem dX1_spent_123 : decode cX1_spent 123 = .ok (.iload_n 3, 1) := dk_29 (dk_at dksX1_spent_5 4 rfl rfl)
theorem dX1_spent_124 : decode cX1_spent 124 = .ok (.i2l, 1) := dk_133 (dk_at dksX1_spent_5 5 rfl rfl)
theorem dX1_spent_125 : decode cX1_spent 125 = .ok (.invokevirtual 363, 3) := dk_182 1 107 (dk_at dksX1_spent_5 6 rfl rfl)
theorem dX1_spent_128 : decode cX1_spent 128 = .ok (.iload_n 2, 1) := dk_28 (dk_at dksX1_spent_5 9 rfl rfl)
theorem dX1_spent_129 : decode cX1_spent 129 = .ok (.ireturn, 1) := dk_172 (dk_at dksX1_spent_5 10 rfl rfl)
abbrev cX1_shared : ByteArray := prog_1_method_77_code
def yX1_shared : MethodName := ⟨RX1, "shared", "(II)I"⟩
def dkwX1_shared_2 : List UInt8 := [180, 0, 26, 28, 46, 126, 172]
abbrev dktX1_shared_2 : List UInt8 := dkwX1_shared_2 ++ []
def dkwX1_shared_1 : List UInt8 := [27, 46, 42, 180, 0, 26, 28, 46, 128, 2, 130, 126, 133, 182, 1, 107, 42, 180, 0, 26, 27, 46, 42]
abbrev dktX1_shared_1 : List UInt8 := dkwX1_shared_1 ++ dktX1_shared_2
def dkwX1_shared_0 : List UInt8 := [42, 27, 28, 182, 1, 84, 154, 0, 5, 2, 172, 42, 3, 181, 1, 104, 42, 17, 0, 255, 42, 180, 0, 26]
abbrev dktX1_shared_0 : List UInt8 := dkwX1_shared_0 ++ dktX1_shared_1
theorem dksX1_shared_0 : cX1_shared.data.toList.drop 0 = dktX1_shared_0 := by decide +kernel
theorem dksX1_shared_1 : cX1_shared.data.toList.drop 24 = dktX1_shared_1 := dk_seg dksX1_shared_0 24 rfl rfl
theorem dksX1_shared_2 : cX1_shared.data.toList.drop 47 = dktX1_shared_2 := dk_seg dksX1_shared_1 23 rfl rfl
theorem dX1_shared_0 : decode cX1_shared 0 = .ok (.aload_n 0, 1) := dk_42 (dk_at dksX1_shared_0 0 rfl rfl)
theorem dX1_shared_1 : decode cX1_shared 1 = .ok (.iload_n 1, 1) := dk_27 (dk_at dksX1_shared_0 1 rfl rfl)
theorem dX1_shared_2 : decode cX1_shared 2 = .ok (.iload_n 2, 1) := dk_28 (dk_at dksX1_shared_0 2 rfl rfl)
theorem dX1_shared_3 : decode cX1_shared 3 = .ok (.invokevirtual 340, 3) := dk_182 1 84 (dk_at dksX1_shared_0 3 rfl rfl)
theorem dX1_shared_6 : decode cX1_shared 6 = .ok (.ifCond .ne 5, 3) := dk_154 0 5 (dk_at dksX1_shared_0 6 rfl rfl)
theorem dX1_shared_9 : decode cX1_shared 9 = .ok (.iconst (-1), 1) := dk_2 (dk_at dksX1_shared_0 9 rfl rfl)
theorem dX1_shared_10 : decode cX1_shared 10 = .ok (.ireturn, 1) := dk_172 (dk_at dksX1_shared_0 10 rfl rfl)
theorem dX1_shared_11 : decode cX1_shared 11 = .ok (.aload_n 0, 1) := dk_42 (dk_at dksX1_shared_0 11 rfl rfl)
theorem dX1_shared_12 : decode cX1_shared 12 = .ok (.iconst 0, 1) := dk_3 (dk_at dksX1_shared_0 12 rfl rfl)
theorem dX1_shared_13 : decode cX1_shared 13 = .ok (.putfield 360, 3) := dk_181 1 104 (dk_at dksX1_shared_0 13 rfl rfl)
theorem dX1_shared_16 : decode cX1_shared 16 = .ok (.aload_n 0, 1) := dk_42 (dk_at dksX1_shared_0 16 rfl rfl)
theorem dX1_shared_17 : decode cX1_shared 17 = .ok (.sipush 255, 3) := dk_17 0 255 (dk_at dksX1_shared_0 17 rfl rfl)
theorem dX1_shared_20 : decode cX1_shared 20 = .ok (.aload_n 0, 1) := dk_42 (dk_at dksX1_shared_0 20 rfl rfl)
theorem dX1_shared_21 : decode cX1_shared 21 = .ok (.getfield 26, 3) := dk_180 0 26 (dk_at dksX1_shared_0 21 rfl rfl)
theorem dX1_shared_24 : decode cX1_shared 24 = .ok (.iload_n 1, 1) := dk_27 (dk_at dksX1_shared_1 0 rfl rfl)
theorem dX1_shared_25 : decode cX1_shared 25 = .ok (.iaload, 1) := dk_46 (dk_at dksX1_shared_1 1 rfl rfl)
theorem dX1_shared_26 : decode cX1_shared 26 = .ok (.aload_n 0, 1) := dk_42 (dk_at dksX1_shared_1 2 rfl rfl)
theorem dX1_shared_27 : decode cX1_shared 27 = .ok (.getfield 26, 3) := dk_180 0 26 (dk_at dksX1_shared_1 3 rfl rfl)
theorem dX1_shared_30 : decode cX1_shared 30 = .ok (.iload_n 2, 1) := dk_28 (dk_at dksX1_shared_1 6 rfl rfl)
theorem dX1_shared_31 : decode cX1_shared 31 = .ok (.iaload, 1) := dk_46 (dk_at dksX1_shared_1 7 rfl rfl)
theorem dX1_shared_32 : decode cX1_shared 32 = .ok (.ior, 1) := dk_128 (dk_at dksX1_shared_1 8 rfl rfl)
theorem dX1_shared_33 : decode cX1_shared 33 = .ok (.iconst (-1), 1) := dk_2 (dk_at dksX1_shared_1 9 rfl rfl)
theorem dX1_shared_34 : decode cX1_shared 34 = .ok (.ixor, 1) := dk_130 (dk_at dksX1_shared_1 10 rfl rfl)
theorem dX1_shared_35 : decode cX1_shared 35 = .ok (.iand, 1) := dk_126 (dk_at dksX1_shared_1 11 rfl rfl)
theorem dX1_shared_36 : decode cX1_shared 36 = .ok (.i2l, 1) := dk_133 (dk_at dksX1_shared_1 12 rfl rfl)
theorem dX1_shared_37 : decode cX1_shared 37 = .ok (.invokevirtual 363, 3) := dk_182 1 107 (dk_at dksX1_shared_1 13 rfl rfl)
theorem dX1_shared_40 : decode cX1_shared 40 = .ok (.aload_n 0, 1) := dk_42 (dk_at dksX1_shared_1 16 rfl rfl)
theorem dX1_shared_41 : decode cX1_shared 41 = .ok (.getfield 26, 3) := dk_180 0 26 (dk_at dksX1_shared_1 17 rfl rfl)
theorem dX1_shared_44 : decode cX1_shared 44 = .ok (.iload_n 1, 1) := dk_27 (dk_at dksX1_shared_1 20 rfl rfl)
theorem dX1_shared_45 : decode cX1_shared 45 = .ok (.iaload, 1) := dk_46 (dk_at dksX1_shared_1 21 rfl rfl)
theorem dX1_shared_46 : decode cX1_shared 46 = .ok (.aload_n 0, 1) := dk_42 (dk_at dksX1_shared_1 22 rfl rfl)
theorem dX1_shared_47 : decode cX1_shared 47 = .ok (.getfield 26, 3) := dk_180 0 26 (dk_at dksX1_shared_2 0 rfl rfl)
theorem dX1_shared_50 : decode cX1_shared 50 = .ok (.iload_n 2, 1) := dk_28 (dk_at dksX1_shared_2 3 rfl rfl)
theorem dX1_shared_51 : decode cX1_shared 51 = .ok (.iaload, 1) := dk_46 (dk_at dksX1_shared_2 4 rfl rfl)
theorem dX1_shared_52 : decode cX1_shared 52 = .ok (.iand, 1) := dk_126 (dk_at dksX1_shared_2 5 rfl rfl)
theorem dX1_shared_53 : decode cX1_shared 53 = .ok (.ireturn, 1) := dk_172 (dk_at dksX1_shared_2 6 rfl rfl)
abbrev cX1_thin : ByteArray := prog_1_method_79_code
def yX1_thin : MethodName := ⟨RX1, "thin", "()I"⟩
def dkwX1_thin_2 : List UInt8 := [182, 1, 183, 133, 182, 1, 107, 27, 172]
abbrev dktX1_thin_2 : List UInt8 := dkwX1_thin_2 ++ []
def dkwX1_thin_1 : List UInt8 := [162, 0, 7, 28, 167, 0, 4, 27, 60, 132, 2, 1, 167, 255, 226, 42, 3, 181, 1, 104, 42, 42, 27]
abbrev dktX1_thin_1 : List UInt8 := dkwX1_thin_1 ++ dktX1_thin_2
def dkwX1_thin_0 : List UInt8 := [3, 60, 4, 61, 28, 42, 180, 0, 29, 162, 0, 28, 42, 28, 182, 1, 183, 42, 27, 182, 1, 183]
abbrev dktX1_thin_0 : List UInt8 := dkwX1_thin_0 ++ dktX1_thin_1
theorem dksX1_thin_0 : cX1_thin.data.toList.drop 0 = dktX1_thin_0 := by decide +kernel
theorem dksX1_thin_1 : cX1_thin.data.toList.drop 22 = dktX1_thin_1 := dk_seg dksX1_thin_0 22 rfl rfl
theorem dksX1_thin_2 : cX1_thin.data.toList.drop 45 = dktX1_thin_2 := dk_seg dksX1_thin_1 23 rfl rfl
theorem dX1_thin_0 : decode cX1_thin 0 = .ok (.iconst 0, 1) := dk_3 (dk_at dksX1_thin_0 0 rfl rfl)
theorem dX1_thin_1 : decode cX1_thin 1 = .ok (.istore_n 1, 1) := dk_60 (dk_at dksX1_thin_0 1 rfl rfl)
theorem dX1_thin_2 : decode cX1_thin 2 = .ok (.iconst 1, 1) := dk_4 (dk_at dksX1_thin_0 2 rfl rfl)
theorem dX1_thin_3 : decode cX1_thin 3 = .ok (.istore_n 2, 1) := dk_61 (dk_at dksX1_thin_0 3 rfl rfl)
theorem dX1_thin_4 : decode cX1_thin 4 = .ok (.iload_n 2, 1) := dk_28 (dk_at dksX1_thin_0 4 rfl rfl)
theorem dX1_thin_5 : decode cX1_thin 5 = .ok (.aload_n 0, 1) := dk_42 (dk_at dksX1_thin_0 5 rfl rfl)
theorem dX1_thin_6 : decode cX1_thin 6 = .ok (.getfield 29, 3) := dk_180 0 29 (dk_at dksX1_thin_0 6 rfl rfl)
theorem dX1_thin_9 : decode cX1_thin 9 = .ok (.if_icmp .ge 28, 3) := dk_162 0 28 (dk_at dksX1_thin_0 9 rfl rfl)
theorem dX1_thin_12 : decode cX1_thin 12 = .ok (.aload_n 0, 1) := dk_42 (dk_at dksX1_thin_0 12 rfl rfl)
theorem dX1_thin_13 : decode cX1_thin 13 = .ok (.iload_n 2, 1) := dk_28 (dk_at dksX1_thin_0 13 rfl rfl)
theorem dX1_thin_14 : decode cX1_thin 14 = .ok (.invokevirtual 439, 3) := dk_182 1 183 (dk_at dksX1_thin_0 14 rfl rfl)
theorem dX1_thin_17 : decode cX1_thin 17 = .ok (.aload_n 0, 1) := dk_42 (dk_at dksX1_thin_0 17 rfl rfl)
theorem dX1_thin_18 : decode cX1_thin 18 = .ok (.iload_n 1, 1) := dk_27 (dk_at dksX1_thin_0 18 rfl rfl)
theorem dX1_thin_19 : decode cX1_thin 19 = .ok (.invokevirtual 439, 3) := dk_182 1 183 (dk_at dksX1_thin_0 19 rfl rfl)
theorem dX1_thin_22 : decode cX1_thin 22 = .ok (.if_icmp .ge 7, 3) := dk_162 0 7 (dk_at dksX1_thin_1 0 rfl rfl)
theorem dX1_thin_25 : decode cX1_thin 25 = .ok (.iload_n 2, 1) := dk_28 (dk_at dksX1_thin_1 3 rfl rfl)
theorem dX1_thin_26 : decode cX1_thin 26 = .ok (.goto 4, 3) := dk_167 0 4 (dk_at dksX1_thin_1 4 rfl rfl)
theorem dX1_thin_29 : decode cX1_thin 29 = .ok (.iload_n 1, 1) := dk_27 (dk_at dksX1_thin_1 7 rfl rfl)
theorem dX1_thin_30 : decode cX1_thin 30 = .ok (.istore_n 1, 1) := dk_60 (dk_at dksX1_thin_1 8 rfl rfl)
theorem dX1_thin_31 : decode cX1_thin 31 = .ok (.iinc 2 1, 3) := dk_132 2 1 (dk_at dksX1_thin_1 9 rfl rfl)
theorem dX1_thin_34 : decode cX1_thin 34 = .ok (.goto (-30), 3) := dk_167 255 226 (dk_at dksX1_thin_1 12 rfl rfl)
theorem dX1_thin_37 : decode cX1_thin 37 = .ok (.aload_n 0, 1) := dk_42 (dk_at dksX1_thin_1 15 rfl rfl)
theorem dX1_thin_38 : decode cX1_thin 38 = .ok (.iconst 0, 1) := dk_3 (dk_at dksX1_thin_1 16 rfl rfl)
theorem dX1_thin_39 : decode cX1_thin 39 = .ok (.putfield 360, 3) := dk_181 1 104 (dk_at dksX1_thin_1 17 rfl rfl)
theorem dX1_thin_42 : decode cX1_thin 42 = .ok (.aload_n 0, 1) := dk_42 (dk_at dksX1_thin_1 20 rfl rfl)
theorem dX1_thin_43 : decode cX1_thin 43 = .ok (.aload_n 0, 1) := dk_42 (dk_at dksX1_thin_1 21 rfl rfl)
theorem dX1_thin_44 : decode cX1_thin 44 = .ok (.iload_n 1, 1) := dk_27 (dk_at dksX1_thin_1 22 rfl rfl)
theorem dX1_thin_45 : decode cX1_thin 45 = .ok (.invokevirtual 439, 3) := dk_182 1 183 (dk_at dksX1_thin_2 0 rfl rfl)
theorem dX1_thin_48 : decode cX1_thin 48 = .ok (.i2l, 1) := dk_133 (dk_at dksX1_thin_2 3 rfl rfl)
theorem dX1_thin_49 : decode cX1_thin 49 = .ok (.invokevirtual 363, 3) := dk_182 1 107 (dk_at dksX1_thin_2 4 rfl rfl)
theorem dX1_thin_52 : decode cX1_thin 52 = .ok (.iload_n 1, 1) := dk_27 (dk_at dksX1_thin_2 7 rfl rfl)
theorem dX1_thin_53 : decode cX1_thin 53 = .ok (.ireturn, 1) := dk_172 (dk_at dksX1_thin_2 8 rfl rfl)
abbrev cX1_manyWho : ByteArray := prog_1_method_78_code
def yX1_manyWho : MethodName := ⟨RX1, "manyWho", "(I)I"⟩
def dkwX1_manyWho_2 : List UInt8 := [132, 3, 1, 167, 255, 210, 28, 172]
abbrev dktX1_manyWho_2 : List UInt8 := dkwX1_manyWho_2 ++ []
def dkwX1_manyWho_1 : List UInt8 := [153, 0, 21, 42, 180, 0, 12, 180, 0, 200, 29, 184, 1, 25, 154, 0, 7, 4, 167, 0, 4, 3, 96, 61]
abbrev dktX1_manyWho_1 : List UInt8 := dkwX1_manyWho_1 ++ dktX1_manyWho_2
def dkwX1_manyWho_0 : List UInt8 := [3, 61, 3, 62, 29, 42, 180, 0, 121, 162, 0, 44, 28, 42, 180, 0, 26, 29, 46, 27, 184, 1, 25]
abbrev dktX1_manyWho_0 : List UInt8 := dkwX1_manyWho_0 ++ dktX1_manyWho_1
theorem dksX1_manyWho_0 : cX1_manyWho.data.toList.drop 0 = dktX1_manyWho_0 := by decide +kernel
theorem dksX1_manyWho_1 : cX1_manyWho.data.toList.drop 23 = dktX1_manyWho_1 := dk_seg dksX1_manyWho_0 23 rfl rfl
theorem dksX1_manyWho_2 : cX1_manyWho.data.toList.drop 47 = dktX1_manyWho_2 := dk_seg dksX1_manyWho_1 24 rfl rfl
theorem dX1_manyWho_0 : decode cX1_manyWho 0 = .ok (.iconst 0, 1) := dk_3 (dk_at dksX1_manyWho_0 0 rfl rfl)
theorem dX1_manyWho_1 : decode cX1_manyWho 1 = .ok (.istore_n 2, 1) := dk_61 (dk_at dksX1_manyWho_0 1 rfl rfl)
theorem dX1_manyWho_2 : decode cX1_manyWho 2 = .ok (.iconst 0, 1) := dk_3 (dk_at dksX1_manyWho_0 2 rfl rfl)
theorem dX1_manyWho_3 : decode cX1_manyWho 3 = .ok (.istore_n 3, 1) := dk_62 (dk_at dksX1_manyWho_0 3 rfl rfl)
theorem dX1_manyWho_4 : decode cX1_manyWho 4 = .ok (.iload_n 3, 1) := dk_29 (dk_at dksX1_manyWho_0 4 rfl rfl)
theorem dX1_manyWho_5 : decode cX1_manyWho 5 = .ok (.aload_n 0, 1) := dk_42 (dk_at dksX1_manyWho_0 5 rfl rfl)
theorem dX1_manyWho_6 : decode cX1_manyWho 6 = .ok (.getfield 121, 3) := dk_180 0 121 (dk_at dksX1_manyWho_0 6 rfl rfl)
theorem dX1_manyWho_9 : decode cX1_manyWho 9 = .ok (.if_icmp .ge 44, 3) := dk_162 0 44 (dk_at dksX1_manyWho_0 9 rfl rfl)
theorem dX1_manyWho_12 : decode cX1_manyWho 12 = .ok (.iload_n 2, 1) := dk_28 (dk_at dksX1_manyWho_0 12 rfl rfl)
theorem dX1_manyWho_13 : decode cX1_manyWho 13 = .ok (.aload_n 0, 1) := dk_42 (dk_at dksX1_manyWho_0 13 rfl rfl)
theorem dX1_manyWho_14 : decode cX1_manyWho 14 = .ok (.getfield 26, 3) := dk_180 0 26 (dk_at dksX1_manyWho_0 14 rfl rfl)
theorem dX1_manyWho_17 : decode cX1_manyWho 17 = .ok (.iload_n 3, 1) := dk_29 (dk_at dksX1_manyWho_0 17 rfl rfl)
theorem dX1_manyWho_18 : decode cX1_manyWho 18 = .ok (.iaload, 1) := dk_46 (dk_at dksX1_manyWho_0 18 rfl rfl)
theorem dX1_manyWho_19 : decode cX1_manyWho 19 = .ok (.iload_n 1, 1) := dk_27 (dk_at dksX1_manyWho_0 19 rfl rfl)
theorem dX1_manyWho_20 : decode cX1_manyWho 20 = .ok (.invokestatic 281, 3) := dk_184 1 25 (dk_at dksX1_manyWho_0 20 rfl rfl)
theorem dX1_manyWho_23 : decode cX1_manyWho 23 = .ok (.ifCond .eq 21, 3) := dk_153 0 21 (dk_at dksX1_manyWho_1 0 rfl rfl)
theorem dX1_manyWho_26 : decode cX1_manyWho 26 = .ok (.aload_n 0, 1) := dk_42 (dk_at dksX1_manyWho_1 3 rfl rfl)
theorem dX1_manyWho_27 : decode cX1_manyWho 27 = .ok (.getfield 12, 3) := dk_180 0 12 (dk_at dksX1_manyWho_1 4 rfl rfl)
theorem dX1_manyWho_30 : decode cX1_manyWho 30 = .ok (.getfield 200, 3) := dk_180 0 200 (dk_at dksX1_manyWho_1 7 rfl rfl)
theorem dX1_manyWho_33 : decode cX1_manyWho 33 = .ok (.iload_n 3, 1) := dk_29 (dk_at dksX1_manyWho_1 10 rfl rfl)
theorem dX1_manyWho_34 : decode cX1_manyWho 34 = .ok (.invokestatic 281, 3) := dk_184 1 25 (dk_at dksX1_manyWho_1 11 rfl rfl)
theorem dX1_manyWho_37 : decode cX1_manyWho 37 = .ok (.ifCond .ne 7, 3) := dk_154 0 7 (dk_at dksX1_manyWho_1 14 rfl rfl)
theorem dX1_manyWho_40 : decode cX1_manyWho 40 = .ok (.iconst 1, 1) := dk_4 (dk_at dksX1_manyWho_1 17 rfl rfl)
theorem dX1_manyWho_41 : decode cX1_manyWho 41 = .ok (.goto 4, 3) := dk_167 0 4 (dk_at dksX1_manyWho_1 18 rfl rfl)
theorem dX1_manyWho_44 : decode cX1_manyWho 44 = .ok (.iconst 0, 1) := dk_3 (dk_at dksX1_manyWho_1 21 rfl rfl)
theorem dX1_manyWho_45 : decode cX1_manyWho 45 = .ok (.iadd, 1) := dk_96 (dk_at dksX1_manyWho_1 22 rfl rfl)
theorem dX1_manyWho_46 : decode cX1_manyWho 46 = .ok (.istore_n 2, 1) := dk_61 (dk_at dksX1_manyWho_1 23 rfl rfl)
theorem dX1_manyWho_47 : decode cX1_manyWho 47 = .ok (.iinc 3 1, 3) := dk_132 3 1 (dk_at dksX1_manyWho_2 0 rfl rfl)
theorem dX1_manyWho_50 : decode cX1_manyWho 50 = .ok (.goto (-46), 3) := dk_167 255 210 (dk_at dksX1_manyWho_2 3 rfl rfl)
theorem dX1_manyWho_53 : decode cX1_manyWho 53 = .ok (.iload_n 2, 1) := dk_28 (dk_at dksX1_manyWho_2 6 rfl rfl)
theorem dX1_manyWho_54 : decode cX1_manyWho 54 = .ok (.ireturn, 1) := dk_172 (dk_at dksX1_manyWho_2 7 rfl rfl)
abbrev cX1_changes : ByteArray := prog_1_method_80_code
def yX1_changes : MethodName := ⟨RX1, "changes", "()I"⟩
def dkwX1_changes_5 : List UInt8 := [181, 1, 104, 42, 28, 133, 182, 1, 107, 42, 29, 133, 182, 1, 107, 27, 172]
abbrev dktX1_changes_5 : List UInt8 := dkwX1_changes_5 ++ []
def dkwX1_changes_4 : List UInt8 := [164, 0, 7, 4, 167, 0, 4, 3, 96, 61, 29, 21, 7, 96, 62, 132, 4, 1, 167, 255, 153, 42, 3]
abbrev dktX1_changes_4 : List UInt8 := dkwX1_changes_4 ++ dktX1_changes_5
def dkwX1_changes_3 : List UInt8 := [46, 42, 180, 0, 23, 21, 6, 46, 100, 184, 1, 61, 54, 7, 132, 1, 1, 28, 21, 7, 42, 180, 0, 33]
abbrev dktX1_changes_3 : List UInt8 := dkwX1_changes_3 ++ dktX1_changes_4
def dkwX1_changes_2 : List UInt8 := [155, 0, 63, 21, 6, 155, 0, 58, 21, 5, 21, 6, 160, 0, 6, 167, 0, 48, 42, 180, 0, 23, 21, 5]
abbrev dktX1_changes_2 : List UInt8 := dkwX1_changes_2 ++ dktX1_changes_3
def dkwX1_changes_1 : List UInt8 := [180, 1, 58, 21, 4, 4, 100, 46, 54, 5, 42, 180, 0, 12, 180, 1, 58, 21, 4, 46, 54, 6, 21, 5]
abbrev dktX1_changes_1 : List UInt8 := dkwX1_changes_1 ++ dktX1_changes_2
def dkwX1_changes_0 : List UInt8 := [3, 60, 3, 61, 3, 62, 4, 54, 4, 21, 4, 42, 180, 0, 29, 162, 0, 100, 42, 180, 0, 12]
abbrev dktX1_changes_0 : List UInt8 := dkwX1_changes_0 ++ dktX1_changes_1
theorem dksX1_changes_0 : cX1_changes.data.toList.drop 0 = dktX1_changes_0 := by decide +kernel
theorem dksX1_changes_1 : cX1_changes.data.toList.drop 22 = dktX1_changes_1 := dk_seg dksX1_changes_0 22 rfl rfl
theorem dksX1_changes_2 : cX1_changes.data.toList.drop 46 = dktX1_changes_2 := dk_seg dksX1_changes_1 24 rfl rfl
theorem dksX1_changes_3 : cX1_changes.data.toList.drop 70 = dktX1_changes_3 := dk_seg dksX1_changes_2 24 rfl rfl
theorem dksX1_changes_4 : cX1_changes.data.toList.drop 94 = dktX1_changes_4 := dk_seg dksX1_changes_3 24 rfl rfl
theorem dksX1_changes_5 : cX1_changes.data.toList.drop 117 = dktX1_changes_5 := dk_seg dksX1_changes_4 23 rfl rfl
theorem dX1_changes_0 : decode cX1_changes 0 = .ok (.iconst 0, 1) := dk_3 (dk_at dksX1_changes_0 0 rfl rfl)
theorem dX1_changes_1 : decode cX1_changes 1 = .ok (.istore_n 1, 1) := dk_60 (dk_at dksX1_changes_0 1 rfl rfl)
theorem dX1_changes_2 : decode cX1_changes 2 = .ok (.iconst 0, 1) := dk_3 (dk_at dksX1_changes_0 2 rfl rfl)
theorem dX1_changes_3 : decode cX1_changes 3 = .ok (.istore_n 2, 1) := dk_61 (dk_at dksX1_changes_0 3 rfl rfl)
theorem dX1_changes_4 : decode cX1_changes 4 = .ok (.iconst 0, 1) := dk_3 (dk_at dksX1_changes_0 4 rfl rfl)
theorem dX1_changes_5 : decode cX1_changes 5 = .ok (.istore_n 3, 1) := dk_62 (dk_at dksX1_changes_0 5 rfl rfl)
theorem dX1_changes_6 : decode cX1_changes 6 = .ok (.iconst 1, 1) := dk_4 (dk_at dksX1_changes_0 6 rfl rfl)
theorem dX1_changes_7 : decode cX1_changes 7 = .ok (.istore 4, 2) := dk_54 4 (dk_at dksX1_changes_0 7 rfl rfl)
theorem dX1_changes_9 : decode cX1_changes 9 = .ok (.iload 4, 2) := dk_21 4 (dk_at dksX1_changes_0 9 rfl rfl)
theorem dX1_changes_11 : decode cX1_changes 11 = .ok (.aload_n 0, 1) := dk_42 (dk_at dksX1_changes_0 11 rfl rfl)
theorem dX1_changes_12 : decode cX1_changes 12 = .ok (.getfield 29, 3) := dk_180 0 29 (dk_at dksX1_changes_0 12 rfl rfl)
theorem dX1_changes_15 : decode cX1_changes 15 = .ok (.if_icmp .ge 100, 3) := dk_162 0 100 (dk_at dksX1_changes_0 15 rfl rfl)
theorem dX1_changes_18 : decode cX1_changes 18 = .ok (.aload_n 0, 1) := dk_42 (dk_at dksX1_changes_0 18 rfl rfl)
theorem dX1_changes_19 : decode cX1_changes 19 = .ok (.getfield 12, 3) := dk_180 0 12 (dk_at dksX1_changes_0 19 rfl rfl)
theorem dX1_changes_22 : decode cX1_changes 22 = .ok (.getfield 314, 3) := dk_180 1 58 (dk_at dksX1_changes_1 0 rfl rfl)
theorem dX1_changes_25 : decode cX1_changes 25 = .ok (.iload 4, 2) := dk_21 4 (dk_at dksX1_changes_1 3 rfl rfl)
theorem dX1_changes_27 : decode cX1_changes 27 = .ok (.iconst 1, 1) := dk_4 (dk_at dksX1_changes_1 5 rfl rfl)
theorem dX1_changes_28 : decode cX1_changes 28 = .ok (.isub, 1) := dk_100 (dk_at dksX1_changes_1 6 rfl rfl)
theorem dX1_changes_29 : decode cX1_changes 29 = .ok (.iaload, 1) := dk_46 (dk_at dksX1_changes_1 7 rfl rfl)
theorem dX1_changes_30 : decode cX1_changes 30 = .ok (.istore 5, 2) := dk_54 5 (dk_at dksX1_changes_1 8 rfl rfl)
theorem dX1_changes_32 : decode cX1_changes 32 = .ok (.aload_n 0, 1) := dk_42 (dk_at dksX1_changes_1 10 rfl rfl)
theorem dX1_changes_33 : decode cX1_changes 33 = .ok (.getfield 12, 3) := dk_180 0 12 (dk_at dksX1_changes_1 11 rfl rfl)
theorem dX1_changes_36 : decode cX1_changes 36 = .ok (.getfield 314, 3) := dk_180 1 58 (dk_at dksX1_changes_1 14 rfl rfl)
theorem dX1_changes_39 : decode cX1_changes 39 = .ok (.iload 4, 2) := dk_21 4 (dk_at dksX1_changes_1 17 rfl rfl)
theorem dX1_changes_41 : decode cX1_changes 41 = .ok (.iaload, 1) := dk_46 (dk_at dksX1_changes_1 19 rfl rfl)
theorem dX1_changes_42 : decode cX1_changes 42 = .ok (.istore 6, 2) := dk_54 6 (dk_at dksX1_changes_1 20 rfl rfl)
theorem dX1_changes_44 : decode cX1_changes 44 = .ok (.iload 5, 2) := dk_21 5 (dk_at dksX1_changes_1 22 rfl rfl)
theorem dX1_changes_46 : decode cX1_changes 46 = .ok (.ifCond .lt 63, 3) := dk_155 0 63 (dk_at dksX1_changes_2 0 rfl rfl)
theorem dX1_changes_49 : decode cX1_changes 49 = .ok (.iload 6, 2) := dk_21 6 (dk_at dksX1_changes_2 3 rfl rfl)
theorem dX1_changes_51 : decode cX1_changes 51 = .ok (.ifCond .lt 58, 3) := dk_155 0 58 (dk_at dksX1_changes_2 5 rfl rfl)
theorem dX1_changes_54 : decode cX1_changes 54 = .ok (.iload 5, 2) := dk_21 5 (dk_at dksX1_changes_2 8 rfl rfl)
theorem dX1_changes_56 : decode cX1_changes 56 = .ok (.iload 6, 2) := dk_21 6 (dk_at dksX1_changes_2 10 rfl rfl)
theorem dX1_changes_58 : decode cX1_changes 58 = .ok (.if_icmp .ne 6, 3) := dk_160 0 6 (dk_at dksX1_changes_2 12 rfl rfl)
theorem dX1_changes_61 : decode cX1_changes 61 = .ok (.goto 48, 3) := dk_167 0 48 (dk_at dksX1_changes_2 15 rfl rfl)
theorem dX1_changes_64 : decode cX1_changes 64 = .ok (.aload_n 0, 1) := dk_42 (dk_at dksX1_changes_2 18 rfl rfl)
theorem dX1_changes_65 : decode cX1_changes 65 = .ok (.getfield 23, 3) := dk_180 0 23 (dk_at dksX1_changes_2 19 rfl rfl)
theorem dX1_changes_68 : decode cX1_changes 68 = .ok (.iload 5, 2) := dk_21 5 (dk_at dksX1_changes_2 22 rfl rfl)
theorem dX1_changes_70 : decode cX1_changes 70 = .ok (.iaload, 1) := dk_46 (dk_at dksX1_changes_3 0 rfl rfl)
theorem dX1_changes_71 : decode cX1_changes 71 = .ok (.aload_n 0, 1) := dk_42 (dk_at dksX1_changes_3 1 rfl rfl)
theorem dX1_changes_72 : decode cX1_changes 72 = .ok (.getfield 23, 3) := dk_180 0 23 (dk_at dksX1_changes_3 2 rfl rfl)
theorem dX1_changes_75 : decode cX1_changes 75 = .ok (.iload 6, 2) := dk_21 6 (dk_at dksX1_changes_3 5 rfl rfl)
theorem dX1_changes_77 : decode cX1_changes 77 = .ok (.iaload, 1) := dk_46 (dk_at dksX1_changes_3 7 rfl rfl)
theorem dX1_changes_78 : decode cX1_changes 78 = .ok (.isub, 1) := dk_100 (dk_at dksX1_changes_3 8 rfl rfl)
theorem dX1_changes_79 : decode cX1_changes 79 = .ok (.invokestatic 317, 3) := dk_184 1 61 (dk_at dksX1_changes_3 9 rfl rfl)
theorem dX1_changes_82 : decode cX1_changes 82 = .ok (.istore 7, 2) := dk_54 7 (dk_at dksX1_changes_3 12 rfl rfl)
theorem dX1_changes_84 : decode cX1_changes 84 = .ok (.iinc 1 1, 3) := dk_132 1 1 (dk_at dksX1_changes_3 14 rfl rfl)
theorem dX1_changes_87 : decode cX1_changes 87 = .ok (.iload_n 2, 1) := dk_28 (dk_at dksX1_changes_3 17 rfl rfl)
theorem dX1_changes_88 : decode cX1_changes 88 = .ok (.iload 7, 2) := dk_21 7 (dk_at dksX1_changes_3 18 rfl rfl)
theorem dX1_changes_90 : decode cX1_changes 90 = .ok (.aload_n 0, 1) := dk_42 (dk_at dksX1_changes_3 20 rfl rfl)
theorem dX1_changes_91 : decode cX1_changes 91 = .ok (.getfield 33, 3) := dk_180 0 33 (dk_at dksX1_changes_3 21 rfl rfl)
theorem dX1_changes_94 : decode cX1_changes 94 = .ok (.if_icmp .le 7, 3) := dk_164 0 7 (dk_at dksX1_changes_4 0 rfl rfl)
theorem dX1_changes_97 : decode cX1_changes 97 = .ok (.iconst 1, 1) := dk_4 (dk_at dksX1_changes_4 3 rfl rfl)
theorem dX1_changes_98 : decode cX1_changes 98 = .ok (.goto 4, 3) := dk_167 0 4 (dk_at dksX1_changes_4 4 rfl rfl)
theorem dX1_changes_101 : decode cX1_changes 101 = .ok (.iconst 0, 1) := dk_3 (dk_at dksX1_changes_4 7 rfl rfl)
theorem dX1_changes_102 : decode cX1_changes 102 = .ok (.iadd, 1) := dk_96 (dk_at dksX1_changes_4 8 rfl rfl)
theorem dX1_changes_103 : decode cX1_changes 103 = .ok (.istore_n 2, 1) := dk_61 (dk_at dksX1_changes_4 9 rfl rfl)
theorem dX1_changes_104 : decode cX1_changes 104 = .ok (.iload_n 3, 1) := dk_29 (dk_at dksX1_changes_4 10 rfl rfl)
theorem dX1_changes_105 : decode cX1_changes 105 = .ok (.iload 7, 2) := dk_21 7 (dk_at dksX1_changes_4 11 rfl rfl)
theorem dX1_changes_107 : decode cX1_changes 107 = .ok (.iadd, 1) := dk_96 (dk_at dksX1_changes_4 13 rfl rfl)
theorem dX1_changes_108 : decode cX1_changes 108 = .ok (.istore_n 3, 1) := dk_62 (dk_at dksX1_changes_4 14 rfl rfl)
theorem dX1_changes_109 : decode cX1_changes 109 = .ok (.iinc 4 1, 3) := dk_132 4 1 (dk_at dksX1_changes_4 15 rfl rfl)
theorem dX1_changes_112 : decode cX1_changes 112 = .ok (.goto (-103), 3) := dk_167 255 153 (dk_at dksX1_changes_4 18 rfl rfl)
theorem dX1_changes_115 : decode cX1_changes 115 = .ok (.aload_n 0, 1) := dk_42 (dk_at dksX1_changes_4 21 rfl rfl)
theorem dX1_changes_116 : decode cX1_changes 116 = .ok (.iconst 0, 1) := dk_3 (dk_at dksX1_changes_4 22 rfl rfl)
theorem dX1_changes_117 : decode cX1_changes 117 = .ok (.putfield 360, 3) := dk_181 1 104 (dk_at dksX1_changes_5 0 rfl rfl)
theorem dX1_changes_120 : decode cX1_changes 120 = .ok (.aload_n 0, 1) := dk_42 (dk_at dksX1_changes_5 3 rfl rfl)
theorem dX1_changes_121 : decode cX1_changes 121 = .ok (.iload_n 2, 1) := dk_28 (dk_at dksX1_changes_5 4 rfl rfl)
theorem dX1_changes_122 : decode cX1_changes 122 = .ok (.i2l, 1) := dk_133 (dk_at dksX1_changes_5 5 rfl rfl)
theorem dX1_changes_123 : decode cX1_changes 123 = .ok (.invokevirtual 363, 3) := dk_182 1 107 (dk_at dksX1_changes_5 6 rfl rfl)
theorem dX1_changes_126 : decode cX1_changes 126 = .ok (.aload_n 0, 1) := dk_42 (dk_at dksX1_changes_5 9 rfl rfl)
theorem dX1_changes_127 : decode cX1_changes 127 = .ok (.iload_n 3, 1) := dk_29 (dk_at dksX1_changes_5 10 rfl rfl)
theorem dX1_changes_128 : decode cX1_changes 128 = .ok (.i2l, 1) := dk_133 (dk_at dksX1_changes_5 11 rfl rfl)
theorem dX1_changes_129 : decode cX1_changes 129 = .ok (.invokevirtual 363, 3) := dk_182 1 107 (dk_at dksX1_changes_5 12 rfl rfl)
theorem dX1_changes_132 : decode cX1_changes 132 = .ok (.iload_n 1, 1) := dk_27 (dk_at dksX1_changes_5 15 rfl rfl)
theorem dX1_changes_133 : decode cX1_changes 133 = .ok (.ireturn, 1) := dk_172 (dk_at dksX1_changes_5 16 rfl rfl)
abbrev cX1_smoothest : ByteArray := prog_1_method_82_code
def yX1_smoothest : MethodName := ⟨RX1, "smoothest", "()I"⟩
def dkwX1_smoothest_2 : List UInt8 := [16, 254, 172, 42, 182, 1, 162, 42, 180, 1, 186, 172]
abbrev dktX1_smoothest_2 : List UInt8 := dkwX1_smoothest_2 ++ []
def dkwX1_smoothest_1 : List UInt8 := [167, 255, 240, 42, 18, 95, 181, 1, 186, 42, 3, 3, 182, 1, 189, 42, 180, 1, 186, 18, 95, 160, 0, 6]
abbrev dktX1_smoothest_1 : List UInt8 := dkwX1_smoothest_1 ++ dktX1_smoothest_2
def dkwX1_smoothest_0 : List UInt8 := [42, 3, 182, 1, 150, 3, 60, 27, 16, 8, 162, 0, 16, 42, 180, 0, 55, 27, 3, 79, 132, 1, 1]
abbrev dktX1_smoothest_0 : List UInt8 := dkwX1_smoothest_0 ++ dktX1_smoothest_1
theorem dksX1_smoothest_0 : cX1_smoothest.data.toList.drop 0 = dktX1_smoothest_0 := by decide +kernel
theorem dksX1_smoothest_1 : cX1_smoothest.data.toList.drop 23 = dktX1_smoothest_1 := dk_seg dksX1_smoothest_0 23 rfl rfl
theorem dksX1_smoothest_2 : cX1_smoothest.data.toList.drop 47 = dktX1_smoothest_2 := dk_seg dksX1_smoothest_1 24 rfl rfl
theorem dX1_smoothest_0 : decode cX1_smoothest 0 = .ok (.aload_n 0, 1) := dk_42 (dk_at dksX1_smoothest_0 0 rfl rfl)
theorem dX1_smoothest_1 : decode cX1_smoothest 1 = .ok (.iconst 0, 1) := dk_3 (dk_at dksX1_smoothest_0 1 rfl rfl)
theorem dX1_smoothest_2 : decode cX1_smoothest 2 = .ok (.invokevirtual 406, 3) := dk_182 1 150 (dk_at dksX1_smoothest_0 2 rfl rfl)
theorem dX1_smoothest_5 : decode cX1_smoothest 5 = .ok (.iconst 0, 1) := dk_3 (dk_at dksX1_smoothest_0 5 rfl rfl)
theorem dX1_smoothest_6 : decode cX1_smoothest 6 = .ok (.istore_n 1, 1) := dk_60 (dk_at dksX1_smoothest_0 6 rfl rfl)
theorem dX1_smoothest_7 : decode cX1_smoothest 7 = .ok (.iload_n 1, 1) := dk_27 (dk_at dksX1_smoothest_0 7 rfl rfl)
theorem dX1_smoothest_8 : decode cX1_smoothest 8 = .ok (.bipush 8, 2) := dk_16 8 (dk_at dksX1_smoothest_0 8 rfl rfl)
theorem dX1_smoothest_10 : decode cX1_smoothest 10 = .ok (.if_icmp .ge 16, 3) := dk_162 0 16 (dk_at dksX1_smoothest_0 10 rfl rfl)
theorem dX1_smoothest_13 : decode cX1_smoothest 13 = .ok (.aload_n 0, 1) := dk_42 (dk_at dksX1_smoothest_0 13 rfl rfl)
theorem dX1_smoothest_14 : decode cX1_smoothest 14 = .ok (.getfield 55, 3) := dk_180 0 55 (dk_at dksX1_smoothest_0 14 rfl rfl)
theorem dX1_smoothest_17 : decode cX1_smoothest 17 = .ok (.iload_n 1, 1) := dk_27 (dk_at dksX1_smoothest_0 17 rfl rfl)
theorem dX1_smoothest_18 : decode cX1_smoothest 18 = .ok (.iconst 0, 1) := dk_3 (dk_at dksX1_smoothest_0 18 rfl rfl)
theorem dX1_smoothest_19 : decode cX1_smoothest 19 = .ok (.iastore, 1) := dk_79 (dk_at dksX1_smoothest_0 19 rfl rfl)
theorem dX1_smoothest_20 : decode cX1_smoothest 20 = .ok (.iinc 1 1, 3) := dk_132 1 1 (dk_at dksX1_smoothest_0 20 rfl rfl)
theorem dX1_smoothest_23 : decode cX1_smoothest 23 = .ok (.goto (-16), 3) := dk_167 255 240 (dk_at dksX1_smoothest_1 0 rfl rfl)
theorem dX1_smoothest_26 : decode cX1_smoothest 26 = .ok (.aload_n 0, 1) := dk_42 (dk_at dksX1_smoothest_1 3 rfl rfl)
theorem dX1_smoothest_27 : decode cX1_smoothest 27 = .ok (.ldc 95, 2) := dk_18 95 (dk_at dksX1_smoothest_1 4 rfl rfl)
theorem dX1_smoothest_29 : decode cX1_smoothest 29 = .ok (.putfield 442, 3) := dk_181 1 186 (dk_at dksX1_smoothest_1 6 rfl rfl)
theorem dX1_smoothest_32 : decode cX1_smoothest 32 = .ok (.aload_n 0, 1) := dk_42 (dk_at dksX1_smoothest_1 9 rfl rfl)
theorem dX1_smoothest_33 : decode cX1_smoothest 33 = .ok (.iconst 0, 1) := dk_3 (dk_at dksX1_smoothest_1 10 rfl rfl)
theorem dX1_smoothest_34 : decode cX1_smoothest 34 = .ok (.iconst 0, 1) := dk_3 (dk_at dksX1_smoothest_1 11 rfl rfl)
theorem dX1_smoothest_35 : decode cX1_smoothest 35 = .ok (.invokevirtual 445, 3) := dk_182 1 189 (dk_at dksX1_smoothest_1 12 rfl rfl)
theorem dX1_smoothest_38 : decode cX1_smoothest 38 = .ok (.aload_n 0, 1) := dk_42 (dk_at dksX1_smoothest_1 15 rfl rfl)
theorem dX1_smoothest_39 : decode cX1_smoothest 39 = .ok (.getfield 442, 3) := dk_180 1 186 (dk_at dksX1_smoothest_1 16 rfl rfl)
theorem dX1_smoothest_42 : decode cX1_smoothest 42 = .ok (.ldc 95, 2) := dk_18 95 (dk_at dksX1_smoothest_1 19 rfl rfl)
theorem dX1_smoothest_44 : decode cX1_smoothest 44 = .ok (.if_icmp .ne 6, 3) := dk_160 0 6 (dk_at dksX1_smoothest_1 21 rfl rfl)
theorem dX1_smoothest_47 : decode cX1_smoothest 47 = .ok (.bipush (-2), 2) := dk_16 254 (dk_at dksX1_smoothest_2 0 rfl rfl)
theorem dX1_smoothest_49 : decode cX1_smoothest 49 = .ok (.ireturn, 1) := dk_172 (dk_at dksX1_smoothest_2 2 rfl rfl)
theorem dX1_smoothest_50 : decode cX1_smoothest 50 = .ok (.aload_n 0, 1) := dk_42 (dk_at dksX1_smoothest_2 3 rfl rfl)
theorem dX1_smoothest_51 : decode cX1_smoothest 51 = .ok (.invokevirtual 418, 3) := dk_182 1 162 (dk_at dksX1_smoothest_2 4 rfl rfl)
theorem dX1_smoothest_54 : decode cX1_smoothest 54 = .ok (.aload_n 0, 1) := dk_42 (dk_at dksX1_smoothest_2 7 rfl rfl)
theorem dX1_smoothest_55 : decode cX1_smoothest 55 = .ok (.getfield 442, 3) := dk_180 1 186 (dk_at dksX1_smoothest_2 8 rfl rfl)
theorem dX1_smoothest_58 : decode cX1_smoothest 58 = .ok (.ireturn, 1) := dk_172 (dk_at dksX1_smoothest_2 11 rfl rfl)
abbrev cX1_smoothsFrom : ByteArray := prog_1_method_81_code
def yX1_smoothsFrom : MethodName := ⟨RX1, "smoothsFrom", "(II)V"⟩
def dkwX1_smoothsFrom_6 : List UInt8 := [180, 0, 55, 29, 92, 46, 4, 100, 79, 132, 3, 1, 167, 255, 147, 177]
abbrev dktX1_smoothsFrom_6 : List UInt8 := dkwX1_smoothsFrom_6 ++ []
def dkwX1_smoothsFrom_5 : List UInt8 := [46, 42, 180, 0, 23, 42, 180, 0, 61, 27, 4, 100, 46, 46, 100, 184, 1, 61, 96, 182, 1, 189, 42]
abbrev dktX1_smoothsFrom_5 : List UInt8 := dkwX1_smoothsFrom_5 ++ dktX1_smoothsFrom_6
def dkwX1_smoothsFrom_4 : List UInt8 := [180, 0, 61, 27, 29, 79, 42, 27, 4, 96, 28, 27, 154, 0, 7, 3, 167, 0, 26, 42, 180, 0, 23, 29]
abbrev dktX1_smoothsFrom_4 : List UInt8 := dkwX1_smoothsFrom_4 ++ dktX1_smoothsFrom_5
def dkwX1_smoothsFrom_3 : List UInt8 := [180, 0, 19, 29, 46, 160, 0, 6, 167, 0, 70, 42, 180, 0, 55, 29, 92, 46, 4, 96, 79, 42]
abbrev dktX1_smoothsFrom_3 : List UInt8 := dkwX1_smoothsFrom_3 ++ dktX1_smoothsFrom_4
def dkwX1_smoothsFrom_2 : List UInt8 := [162, 0, 107, 42, 180, 0, 73, 29, 46, 27, 184, 1, 25, 153, 0, 88, 42, 180, 0, 55, 29, 46, 42]
abbrev dktX1_smoothsFrom_2 : List UInt8 := dkwX1_smoothsFrom_2 ++ dktX1_smoothsFrom_3
def dkwX1_smoothsFrom_1 : List UInt8 := [180, 0, 61, 3, 42, 180, 0, 88, 3, 16, 8, 184, 1, 137, 177, 3, 62, 29, 42, 180, 0, 121]
abbrev dktX1_smoothsFrom_1 : List UInt8 := dkwX1_smoothsFrom_1 ++ dktX1_smoothsFrom_2
def dkwX1_smoothsFrom_0 : List UInt8 := [28, 42, 180, 1, 186, 161, 0, 4, 177, 27, 42, 180, 0, 29, 160, 0, 24, 42, 28, 181, 1, 186, 42]
abbrev dktX1_smoothsFrom_0 : List UInt8 := dkwX1_smoothsFrom_0 ++ dktX1_smoothsFrom_1
theorem dksX1_smoothsFrom_0 : cX1_smoothsFrom.data.toList.drop 0 = dktX1_smoothsFrom_0 := by decide +kernel
theorem dksX1_smoothsFrom_1 : cX1_smoothsFrom.data.toList.drop 23 = dktX1_smoothsFrom_1 := dk_seg dksX1_smoothsFrom_0 23 rfl rfl
theorem dksX1_smoothsFrom_2 : cX1_smoothsFrom.data.toList.drop 45 = dktX1_smoothsFrom_2 := dk_seg dksX1_smoothsFrom_1 22 rfl rfl
theorem dksX1_smoothsFrom_3 : cX1_smoothsFrom.data.toList.drop 68 = dktX1_smoothsFrom_3 := dk_seg dksX1_smoothsFrom_2 23 rfl rfl
theorem dksX1_smoothsFrom_4 : cX1_smoothsFrom.data.toList.drop 90 = dktX1_smoothsFrom_4 := dk_seg dksX1_smoothsFrom_3 22 rfl rfl
theorem dksX1_smoothsFrom_5 : cX1_smoothsFrom.data.toList.drop 114 = dktX1_smoothsFrom_5 := dk_seg dksX1_smoothsFrom_4 24 rfl rfl
theorem dksX1_smoothsFrom_6 : cX1_smoothsFrom.data.toList.drop 137 = dktX1_smoothsFrom_6 := dk_seg dksX1_smoothsFrom_5 23 rfl rfl
theorem dX1_smoothsFrom_0 : decode cX1_smoothsFrom 0 = .ok (.iload_n 2, 1) := dk_28 (dk_at dksX1_smoothsFrom_0 0 rfl rfl)
theorem dX1_smoothsFrom_1 : decode cX1_smoothsFrom 1 = .ok (.aload_n 0, 1) := dk_42 (dk_at dksX1_smoothsFrom_0 1 rfl rfl)
theorem dX1_smoothsFrom_2 : decode cX1_smoothsFrom 2 = .ok (.getfield 442, 3) := dk_180 1 186 (dk_at dksX1_smoothsFrom_0 2 rfl rfl)
theorem dX1_smoothsFrom_5 : decode cX1_smoothsFrom 5 = .ok (.if_icmp .lt 4, 3) := dk_161 0 4 (dk_at dksX1_smoothsFrom_0 5 rfl rfl)
theorem dX1_smoothsFrom_8 : decode cX1_smoothsFrom 8 = .ok (.return_, 1) := dk_177 (dk_at dksX1_smoothsFrom_0 8 rfl rfl)
theorem dX1_smoothsFrom_9 : decode cX1_smoothsFrom 9 = .ok (.iload_n 1, 1) := dk_27 (dk_at dksX1_smoothsFrom_0 9 rfl rfl)
theorem dX1_smoothsFrom_10 : decode cX1_smoothsFrom 10 = .ok (.aload_n 0, 1) := dk_42 (dk_at dksX1_smoothsFrom_0 10 rfl rfl)
theorem dX1_smoothsFrom_11 : decode cX1_smoothsFrom 11 = .ok (.getfield 29, 3) := dk_180 0 29 (dk_at dksX1_smoothsFrom_0 11 rfl rfl)
theorem dX1_smoothsFrom_14 : decode cX1_smoothsFrom 14 = .ok (.if_icmp .ne 24, 3) := dk_160 0 24 (dk_at dksX1_smoothsFrom_0 14 rfl rfl)
theorem dX1_smoothsFrom_17 : decode cX1_smoothsFrom 17 = .ok (.aload_n 0, 1) := dk_42 (dk_at dksX1_smoothsFrom_0 17 rfl rfl)
theorem dX1_smoothsFrom_18 : decode cX1_smoothsFrom 18 = .ok (.iload_n 2, 1) := dk_28 (dk_at dksX1_smoothsFrom_0 18 rfl rfl)
theorem dX1_smoothsFrom_19 : decode cX1_smoothsFrom 19 = .ok (.putfield 442, 3) := dk_181 1 186 (dk_at dksX1_smoothsFrom_0 19 rfl rfl)
theorem dX1_smoothsFrom_22 : decode cX1_smoothsFrom 22 = .ok (.aload_n 0, 1) := dk_42 (dk_at dksX1_smoothsFrom_0 22 rfl rfl)
theorem dX1_smoothsFrom_23 : decode cX1_smoothsFrom 23 = .ok (.getfield 61, 3) := dk_180 0 61 (dk_at dksX1_smoothsFrom_1 0 rfl rfl)
theorem dX1_smoothsFrom_26 : decode cX1_smoothsFrom 26 = .ok (.iconst 0, 1) := dk_3 (dk_at dksX1_smoothsFrom_1 3 rfl rfl)
theorem dX1_smoothsFrom_27 : decode cX1_smoothsFrom 27 = .ok (.aload_n 0, 1) := dk_42 (dk_at dksX1_smoothsFrom_1 4 rfl rfl)
theorem dX1_smoothsFrom_28 : decode cX1_smoothsFrom 28 = .ok (.getfield 88, 3) := dk_180 0 88 (dk_at dksX1_smoothsFrom_1 5 rfl rfl)
theorem dX1_smoothsFrom_31 : decode cX1_smoothsFrom 31 = .ok (.iconst 0, 1) := dk_3 (dk_at dksX1_smoothsFrom_1 8 rfl rfl)
theorem dX1_smoothsFrom_32 : decode cX1_smoothsFrom 32 = .ok (.bipush 8, 2) := dk_16 8 (dk_at dksX1_smoothsFrom_1 9 rfl rfl)
theorem dX1_smoothsFrom_34 : decode cX1_smoothsFrom 34 = .ok (.invokestatic 393, 3) := dk_184 1 137 (dk_at dksX1_smoothsFrom_1 11 rfl rfl)
theorem dX1_smoothsFrom_37 : decode cX1_smoothsFrom 37 = .ok (.return_, 1) := dk_177 (dk_at dksX1_smoothsFrom_1 14 rfl rfl)
theorem dX1_smoothsFrom_38 : decode cX1_smoothsFrom 38 = .ok (.iconst 0, 1) := dk_3 (dk_at dksX1_smoothsFrom_1 15 rfl rfl)
theorem dX1_smoothsFrom_39 : decode cX1_smoothsFrom 39 = .ok (.istore_n 3, 1) := dk_62 (dk_at dksX1_smoothsFrom_1 16 rfl rfl)
theorem dX1_smoothsFrom_40 : decode cX1_smoothsFrom 40 = .ok (.iload_n 3, 1) := dk_29 (dk_at dksX1_smoothsFrom_1 17 rfl rfl)
theorem dX1_smoothsFrom_41 : decode cX1_smoothsFrom 41 = .ok (.aload_n 0, 1) := dk_42 (dk_at dksX1_smoothsFrom_1 18 rfl rfl)
theorem dX1_smoothsFrom_42 : decode cX1_smoothsFrom 42 = .ok (.getfield 121, 3) := dk_180 0 121 (dk_at dksX1_smoothsFrom_1 19 rfl rfl)
theorem dX1_smoothsFrom_45 : decode cX1_smoothsFrom 45 = .ok (.if_icmp .ge 107, 3) := dk_162 0 107 (dk_at dksX1_smoothsFrom_2 0 rfl rfl)
theorem dX1_smoothsFrom_48 : decode cX1_smoothsFrom 48 = .ok (.aload_n 0, 1) := dk_42 (dk_at dksX1_smoothsFrom_2 3 rfl rfl)
theorem dX1_smoothsFrom_49 : decode cX1_smoothsFrom 49 = .ok (.getfield 73, 3) := dk_180 0 73 (dk_at dksX1_smoothsFrom_2 4 rfl rfl)
theorem dX1_smoothsFrom_52 : decode cX1_smoothsFrom 52 = .ok (.iload_n 3, 1) := dk_29 (dk_at dksX1_smoothsFrom_2 7 rfl rfl)
theorem dX1_smoothsFrom_53 : decode cX1_smoothsFrom 53 = .ok (.iaload, 1) := dk_46 (dk_at dksX1_smoothsFrom_2 8 rfl rfl)
theorem dX1_smoothsFrom_54 : decode cX1_smoothsFrom 54 = .ok (.iload_n 1, 1) := dk_27 (dk_at dksX1_smoothsFrom_2 9 rfl rfl)
theorem dX1_smoothsFrom_55 : decode cX1_smoothsFrom 55 = .ok (.invokestatic 281, 3) := dk_184 1 25 (dk_at dksX1_smoothsFrom_2 10 rfl rfl)
theorem dX1_smoothsFrom_58 : decode cX1_smoothsFrom 58 = .ok (.ifCond .eq 88, 3) := dk_153 0 88 (dk_at dksX1_smoothsFrom_2 13 rfl rfl)
theorem dX1_smoothsFrom_61 : decode cX1_smoothsFrom 61 = .ok (.aload_n 0, 1) := dk_42 (dk_at dksX1_smoothsFrom_2 16 rfl rfl)
theorem dX1_smoothsFrom_62 : decode cX1_smoothsFrom 62 = .ok (.getfield 55, 3) := dk_180 0 55 (dk_at dksX1_smoothsFrom_2 17 rfl rfl)
theorem dX1_smoothsFrom_65 : decode cX1_smoothsFrom 65 = .ok (.iload_n 3, 1) := dk_29 (dk_at dksX1_smoothsFrom_2 20 rfl rfl)
theorem dX1_smoothsFrom_66 : decode cX1_smoothsFrom 66 = .ok (.iaload, 1) := dk_46 (dk_at dksX1_smoothsFrom_2 21 rfl rfl)
theorem dX1_smoothsFrom_67 : decode cX1_smoothsFrom 67 = .ok (.aload_n 0, 1) := dk_42 (dk_at dksX1_smoothsFrom_2 22 rfl rfl)
theorem dX1_smoothsFrom_68 : decode cX1_smoothsFrom 68 = .ok (.getfield 19, 3) := dk_180 0 19 (dk_at dksX1_smoothsFrom_3 0 rfl rfl)
theorem dX1_smoothsFrom_71 : decode cX1_smoothsFrom 71 = .ok (.iload_n 3, 1) := dk_29 (dk_at dksX1_smoothsFrom_3 3 rfl rfl)
theorem dX1_smoothsFrom_72 : decode cX1_smoothsFrom 72 = .ok (.iaload, 1) := dk_46 (dk_at dksX1_smoothsFrom_3 4 rfl rfl)
theorem dX1_smoothsFrom_73 : decode cX1_smoothsFrom 73 = .ok (.if_icmp .ne 6, 3) := dk_160 0 6 (dk_at dksX1_smoothsFrom_3 5 rfl rfl)
theorem dX1_smoothsFrom_76 : decode cX1_smoothsFrom 76 = .ok (.goto 70, 3) := dk_167 0 70 (dk_at dksX1_smoothsFrom_3 8 rfl rfl)
theorem dX1_smoothsFrom_79 : decode cX1_smoothsFrom 79 = .ok (.aload_n 0, 1) := dk_42 (dk_at dksX1_smoothsFrom_3 11 rfl rfl)
theorem dX1_smoothsFrom_80 : decode cX1_smoothsFrom 80 = .ok (.getfield 55, 3) := dk_180 0 55 (dk_at dksX1_smoothsFrom_3 12 rfl rfl)
theorem dX1_smoothsFrom_83 : decode cX1_smoothsFrom 83 = .ok (.iload_n 3, 1) := dk_29 (dk_at dksX1_smoothsFrom_3 15 rfl rfl)
theorem dX1_smoothsFrom_84 : decode cX1_smoothsFrom 84 = .ok (.dup2, 1) := dk_92 (dk_at dksX1_smoothsFrom_3 16 rfl rfl)
theorem dX1_smoothsFrom_85 : decode cX1_smoothsFrom 85 = .ok (.iaload, 1) := dk_46 (dk_at dksX1_smoothsFrom_3 17 rfl rfl)
theorem dX1_smoothsFrom_86 : decode cX1_smoothsFrom 86 = .ok (.iconst 1, 1) := dk_4 (dk_at dksX1_smoothsFrom_3 18 rfl rfl)
theorem dX1_smoothsFrom_87 : decode cX1_smoothsFrom 87 = .ok (.iadd, 1) := dk_96 (dk_at dksX1_smoothsFrom_3 19 rfl rfl)
theorem dX1_smoothsFrom_88 : decode cX1_smoothsFrom 88 = .ok (.iastore, 1) := dk_79 (dk_at dksX1_smoothsFrom_3 20 rfl rfl)
theorem dX1_smoothsFrom_89 : decode cX1_smoothsFrom 89 = .ok (.aload_n 0, 1) := dk_42 (dk_at dksX1_smoothsFrom_3 21 rfl rfl)
theorem dX1_smoothsFrom_90 : decode cX1_smoothsFrom 90 = .ok (.getfield 61, 3) := dk_180 0 61 (dk_at dksX1_smoothsFrom_4 0 rfl rfl)
theorem dX1_smoothsFrom_93 : decode cX1_smoothsFrom 93 = .ok (.iload_n 1, 1) := dk_27 (dk_at dksX1_smoothsFrom_4 3 rfl rfl)
theorem dX1_smoothsFrom_94 : decode cX1_smoothsFrom 94 = .ok (.iload_n 3, 1) := dk_29 (dk_at dksX1_smoothsFrom_4 4 rfl rfl)
theorem dX1_smoothsFrom_95 : decode cX1_smoothsFrom 95 = .ok (.iastore, 1) := dk_79 (dk_at dksX1_smoothsFrom_4 5 rfl rfl)
theorem dX1_smoothsFrom_96 : decode cX1_smoothsFrom 96 = .ok (.aload_n 0, 1) := dk_42 (dk_at dksX1_smoothsFrom_4 6 rfl rfl)
theorem dX1_smoothsFrom_97 : decode cX1_smoothsFrom 97 = .ok (.iload_n 1, 1) := dk_27 (dk_at dksX1_smoothsFrom_4 7 rfl rfl)
theorem dX1_smoothsFrom_98 : decode cX1_smoothsFrom 98 = .ok (.iconst 1, 1) := dk_4 (dk_at dksX1_smoothsFrom_4 8 rfl rfl)
theorem dX1_smoothsFrom_99 : decode cX1_smoothsFrom 99 = .ok (.iadd, 1) := dk_96 (dk_at dksX1_smoothsFrom_4 9 rfl rfl)
theorem dX1_smoothsFrom_100 : decode cX1_smoothsFrom 100 = .ok (.iload_n 2, 1) := dk_28 (dk_at dksX1_smoothsFrom_4 10 rfl rfl)
theorem dX1_smoothsFrom_101 : decode cX1_smoothsFrom 101 = .ok (.iload_n 1, 1) := dk_27 (dk_at dksX1_smoothsFrom_4 11 rfl rfl)
theorem dX1_smoothsFrom_102 : decode cX1_smoothsFrom 102 = .ok (.ifCond .ne 7, 3) := dk_154 0 7 (dk_at dksX1_smoothsFrom_4 12 rfl rfl)
theorem dX1_smoothsFrom_105 : decode cX1_smoothsFrom 105 = .ok (.iconst 0, 1) := dk_3 (dk_at dksX1_smoothsFrom_4 15 rfl rfl)
theorem dX1_smoothsFrom_106 : decode cX1_smoothsFrom 106 = .ok (.goto 26, 3) := dk_167 0 26 (dk_at dksX1_smoothsFrom_4 16 rfl rfl)
theorem dX1_smoothsFrom_109 : decode cX1_smoothsFrom 109 = .ok (.aload_n 0, 1) := dk_42 (dk_at dksX1_smoothsFrom_4 19 rfl rfl)
theorem dX1_smoothsFrom_110 : decode cX1_smoothsFrom 110 = .ok (.getfield 23, 3) := dk_180 0 23 (dk_at dksX1_smoothsFrom_4 20 rfl rfl)
theorem dX1_smoothsFrom_113 : decode cX1_smoothsFrom 113 = .ok (.iload_n 3, 1) := dk_29 (dk_at dksX1_smoothsFrom_4 23 rfl rfl)
theorem dX1_smoothsFrom_114 : decode cX1_smoothsFrom 114 = .ok (.iaload, 1) := dk_46 (dk_at dksX1_smoothsFrom_5 0 rfl rfl)
theorem dX1_smoothsFrom_115 : decode cX1_smoothsFrom 115 = .ok (.aload_n 0, 1) := dk_42 (dk_at dksX1_smoothsFrom_5 1 rfl rfl)
theorem dX1_smoothsFrom_116 : decode cX1_smoothsFrom 116 = .ok (.getfield 23, 3) := dk_180 0 23 (dk_at dksX1_smoothsFrom_5 2 rfl rfl)
theorem dX1_smoothsFrom_119 : decode cX1_smoothsFrom 119 = .ok (.aload_n 0, 1) := dk_42 (dk_at dksX1_smoothsFrom_5 5 rfl rfl)
theorem dX1_smoothsFrom_120 : decode cX1_smoothsFrom 120 = .ok (.getfield 61, 3) := dk_180 0 61 (dk_at dksX1_smoothsFrom_5 6 rfl rfl)
theorem dX1_smoothsFrom_123 : decode cX1_smoothsFrom 123 = .ok (.iload_n 1, 1) := dk_27 (dk_at dksX1_smoothsFrom_5 9 rfl rfl)
theorem dX1_smoothsFrom_124 : decode cX1_smoothsFrom 124 = .ok (.iconst 1, 1) := dk_4 (dk_at dksX1_smoothsFrom_5 10 rfl rfl)
theorem dX1_smoothsFrom_125 : decode cX1_smoothsFrom 125 = .ok (.isub, 1) := dk_100 (dk_at dksX1_smoothsFrom_5 11 rfl rfl)
theorem dX1_smoothsFrom_126 : decode cX1_smoothsFrom 126 = .ok (.iaload, 1) := dk_46 (dk_at dksX1_smoothsFrom_5 12 rfl rfl)
theorem dX1_smoothsFrom_127 : decode cX1_smoothsFrom 127 = .ok (.iaload, 1) := dk_46 (dk_at dksX1_smoothsFrom_5 13 rfl rfl)
theorem dX1_smoothsFrom_128 : decode cX1_smoothsFrom 128 = .ok (.isub, 1) := dk_100 (dk_at dksX1_smoothsFrom_5 14 rfl rfl)
theorem dX1_smoothsFrom_129 : decode cX1_smoothsFrom 129 = .ok (.invokestatic 317, 3) := dk_184 1 61 (dk_at dksX1_smoothsFrom_5 15 rfl rfl)
theorem dX1_smoothsFrom_132 : decode cX1_smoothsFrom 132 = .ok (.iadd, 1) := dk_96 (dk_at dksX1_smoothsFrom_5 18 rfl rfl)
theorem dX1_smoothsFrom_133 : decode cX1_smoothsFrom 133 = .ok (.invokevirtual 445, 3) := dk_182 1 189 (dk_at dksX1_smoothsFrom_5 19 rfl rfl)
theorem dX1_smoothsFrom_136 : decode cX1_smoothsFrom 136 = .ok (.aload_n 0, 1) := dk_42 (dk_at dksX1_smoothsFrom_5 22 rfl rfl)
theorem dX1_smoothsFrom_137 : decode cX1_smoothsFrom 137 = .ok (.getfield 55, 3) := dk_180 0 55 (dk_at dksX1_smoothsFrom_6 0 rfl rfl)
theorem dX1_smoothsFrom_140 : decode cX1_smoothsFrom 140 = .ok (.iload_n 3, 1) := dk_29 (dk_at dksX1_smoothsFrom_6 3 rfl rfl)
theorem dX1_smoothsFrom_141 : decode cX1_smoothsFrom 141 = .ok (.dup2, 1) := dk_92 (dk_at dksX1_smoothsFrom_6 4 rfl rfl)
theorem dX1_smoothsFrom_142 : decode cX1_smoothsFrom 142 = .ok (.iaload, 1) := dk_46 (dk_at dksX1_smoothsFrom_6 5 rfl rfl)
theorem dX1_smoothsFrom_143 : decode cX1_smoothsFrom 143 = .ok (.iconst 1, 1) := dk_4 (dk_at dksX1_smoothsFrom_6 6 rfl rfl)
theorem dX1_smoothsFrom_144 : decode cX1_smoothsFrom 144 = .ok (.isub, 1) := dk_100 (dk_at dksX1_smoothsFrom_6 7 rfl rfl)
theorem dX1_smoothsFrom_145 : decode cX1_smoothsFrom 145 = .ok (.iastore, 1) := dk_79 (dk_at dksX1_smoothsFrom_6 8 rfl rfl)
theorem dX1_smoothsFrom_146 : decode cX1_smoothsFrom 146 = .ok (.iinc 3 1, 3) := dk_132 3 1 (dk_at dksX1_smoothsFrom_6 9 rfl rfl)
theorem dX1_smoothsFrom_149 : decode cX1_smoothsFrom 149 = .ok (.goto (-109), 3) := dk_167 255 147 (dk_at dksX1_smoothsFrom_6 12 rfl rfl)
theorem dX1_smoothsFrom_152 : decode cX1_smoothsFrom 152 = .ok (.return_, 1) := dk_177 (dk_at dksX1_smoothsFrom_6 15 rfl rfl)
abbrev cX1_meets : ByteArray := prog_1_method_83_code
def yX1_meets : MethodName := ⟨RX1, "meets", "(III)I"⟩
def dkwX1_meets_5 : List UInt8 := [21, 5, 133, 182, 1, 107, 21, 4, 172]
abbrev dktX1_meets_5 : List UInt8 := dkwX1_meets_5 ++ []
def dkwX1_meets_4 : List UInt8 := [42, 3, 181, 1, 104, 42, 42, 180, 0, 23, 27, 46, 21, 4, 104, 27, 96, 29, 112, 133, 182, 1, 107, 42]
abbrev dktX1_meets_4 : List UInt8 := dkwX1_meets_4 ++ dktX1_meets_5
def dkwX1_meets_3 : List UInt8 := [167, 0, 10, 21, 6, 54, 4, 132, 5, 1, 132, 6, 255, 167, 255, 209, 21, 4, 156, 0, 6, 16, 254, 172]
abbrev dktX1_meets_3 : List UInt8 := dkwX1_meets_3 ++ dktX1_meets_4
def dkwX1_meets_2 : List UInt8 := [21, 6, 104, 27, 96, 29, 112, 42, 180, 0, 23, 28, 46, 21, 6, 104, 28, 96, 29, 112, 159, 0, 6]
abbrev dktX1_meets_2 : List UInt8 := dkwX1_meets_2 ++ dktX1_meets_3
def dkwX1_meets_1 : List UInt8 := [172, 16, 254, 54, 4, 3, 54, 5, 17, 3, 231, 54, 6, 21, 6, 158, 0, 48, 42, 180, 0, 23, 27, 46]
abbrev dktX1_meets_1 : List UInt8 := dkwX1_meets_1 ++ dktX1_meets_2
def dkwX1_meets_0 : List UInt8 := [42, 27, 28, 182, 1, 84, 153, 0, 17, 29, 133, 20, 1, 192, 20, 1, 194, 184, 0, 124, 154, 0, 5, 2]
abbrev dktX1_meets_0 : List UInt8 := dkwX1_meets_0 ++ dktX1_meets_1
theorem dksX1_meets_0 : cX1_meets.data.toList.drop 0 = dktX1_meets_0 := by decide +kernel
theorem dksX1_meets_1 : cX1_meets.data.toList.drop 24 = dktX1_meets_1 := dk_seg dksX1_meets_0 24 rfl rfl
theorem dksX1_meets_2 : cX1_meets.data.toList.drop 48 = dktX1_meets_2 := dk_seg dksX1_meets_1 24 rfl rfl
theorem dksX1_meets_3 : cX1_meets.data.toList.drop 71 = dktX1_meets_3 := dk_seg dksX1_meets_2 23 rfl rfl
theorem dksX1_meets_4 : cX1_meets.data.toList.drop 95 = dktX1_meets_4 := dk_seg dksX1_meets_3 24 rfl rfl
theorem dksX1_meets_5 : cX1_meets.data.toList.drop 119 = dktX1_meets_5 := dk_seg dksX1_meets_4 24 rfl rfl
theorem dX1_meets_0 : decode cX1_meets 0 = .ok (.aload_n 0, 1) := dk_42 (dk_at dksX1_meets_0 0 rfl rfl)
theorem dX1_meets_1 : decode cX1_meets 1 = .ok (.iload_n 1, 1) := dk_27 (dk_at dksX1_meets_0 1 rfl rfl)
theorem dX1_meets_2 : decode cX1_meets 2 = .ok (.iload_n 2, 1) := dk_28 (dk_at dksX1_meets_0 2 rfl rfl)
theorem dX1_meets_3 : decode cX1_meets 3 = .ok (.invokevirtual 340, 3) := dk_182 1 84 (dk_at dksX1_meets_0 3 rfl rfl)
theorem dX1_meets_6 : decode cX1_meets 6 = .ok (.ifCond .eq 17, 3) := dk_153 0 17 (dk_at dksX1_meets_0 6 rfl rfl)
theorem dX1_meets_9 : decode cX1_meets 9 = .ok (.iload_n 3, 1) := dk_29 (dk_at dksX1_meets_0 9 rfl rfl)
theorem dX1_meets_10 : decode cX1_meets 10 = .ok (.i2l, 1) := dk_133 (dk_at dksX1_meets_0 10 rfl rfl)
theorem dX1_meets_11 : decode cX1_meets 11 = .ok (.ldc2_w 448, 3) := dk_20 1 192 (dk_at dksX1_meets_0 11 rfl rfl)
theorem dX1_meets_14 : decode cX1_meets 14 = .ok (.ldc2_w 450, 3) := dk_20 1 194 (dk_at dksX1_meets_0 14 rfl rfl)
theorem dX1_meets_17 : decode cX1_meets 17 = .ok (.invokestatic 124, 3) := dk_184 0 124 (dk_at dksX1_meets_0 17 rfl rfl)
theorem dX1_meets_20 : decode cX1_meets 20 = .ok (.ifCond .ne 5, 3) := dk_154 0 5 (dk_at dksX1_meets_0 20 rfl rfl)
theorem dX1_meets_23 : decode cX1_meets 23 = .ok (.iconst (-1), 1) := dk_2 (dk_at dksX1_meets_0 23 rfl rfl)
theorem dX1_meets_24 : decode cX1_meets 24 = .ok (.ireturn, 1) := dk_172 (dk_at dksX1_meets_1 0 rfl rfl)
theorem dX1_meets_25 : decode cX1_meets 25 = .ok (.bipush (-2), 2) := dk_16 254 (dk_at dksX1_meets_1 1 rfl rfl)
theorem dX1_meets_27 : decode cX1_meets 27 = .ok (.istore 4, 2) := dk_54 4 (dk_at dksX1_meets_1 3 rfl rfl)
theorem dX1_meets_29 : decode cX1_meets 29 = .ok (.iconst 0, 1) := dk_3 (dk_at dksX1_meets_1 5 rfl rfl)
theorem dX1_meets_30 : decode cX1_meets 30 = .ok (.istore 5, 2) := dk_54 5 (dk_at dksX1_meets_1 6 rfl rfl)
theorem dX1_meets_32 : decode cX1_meets 32 = .ok (.sipush 999, 3) := dk_17 3 231 (dk_at dksX1_meets_1 8 rfl rfl)
theorem dX1_meets_35 : decode cX1_meets 35 = .ok (.istore 6, 2) := dk_54 6 (dk_at dksX1_meets_1 11 rfl rfl)
theorem dX1_meets_37 : decode cX1_meets 37 = .ok (.iload 6, 2) := dk_21 6 (dk_at dksX1_meets_1 13 rfl rfl)
theorem dX1_meets_39 : decode cX1_meets 39 = .ok (.ifCond .le 48, 3) := dk_158 0 48 (dk_at dksX1_meets_1 15 rfl rfl)
theorem dX1_meets_42 : decode cX1_meets 42 = .ok (.aload_n 0, 1) := dk_42 (dk_at dksX1_meets_1 18 rfl rfl)
theorem dX1_meets_43 : decode cX1_meets 43 = .ok (.getfield 23, 3) := dk_180 0 23 (dk_at dksX1_meets_1 19 rfl rfl)
theorem dX1_meets_46 : decode cX1_meets 46 = .ok (.iload_n 1, 1) := dk_27 (dk_at dksX1_meets_1 22 rfl rfl)
theorem dX1_meets_47 : decode cX1_meets 47 = .ok (.iaload, 1) := dk_46 (dk_at dksX1_meets_1 23 rfl rfl)
theorem dX1_meets_48 : decode cX1_meets 48 = .ok (.iload 6, 2) := dk_21 6 (dk_at dksX1_meets_2 0 rfl rfl)
theorem dX1_meets_50 : decode cX1_meets 50 = .ok (.imul, 1) := dk_104 (dk_at dksX1_meets_2 2 rfl rfl)
theorem dX1_meets_51 : decode cX1_meets 51 = .ok (.iload_n 1, 1) := dk_27 (dk_at dksX1_meets_2 3 rfl rfl)
theorem dX1_meets_52 : decode cX1_meets 52 = .ok (.iadd, 1) := dk_96 (dk_at dksX1_meets_2 4 rfl rfl)
theorem dX1_meets_53 : decode cX1_meets 53 = .ok (.iload_n 3, 1) := dk_29 (dk_at dksX1_meets_2 5 rfl rfl)
theorem dX1_meets_54 : decode cX1_meets 54 = .ok (.irem, 1) := dk_112 (dk_at dksX1_meets_2 6 rfl rfl)
theorem dX1_meets_55 : decode cX1_meets 55 = .ok (.aload_n 0, 1) := dk_42 (dk_at dksX1_meets_2 7 rfl rfl)
theorem dX1_meets_56 : decode cX1_meets 56 = .ok (.getfield 23, 3) := dk_180 0 23 (dk_at dksX1_meets_2 8 rfl rfl)
theorem dX1_meets_59 : decode cX1_meets 59 = .ok (.iload_n 2, 1) := dk_28 (dk_at dksX1_meets_2 11 rfl rfl)
theorem dX1_meets_60 : decode cX1_meets 60 = .ok (.iaload, 1) := dk_46 (dk_at dksX1_meets_2 12 rfl rfl)
theorem dX1_meets_61 : decode cX1_meets 61 = .ok (.iload 6, 2) := dk_21 6 (dk_at dksX1_meets_2 13 rfl rfl)
theorem dX1_meets_63 : decode cX1_meets 63 = .ok (.imul, 1) := dk_104 (dk_at dksX1_meets_2 15 rfl rfl)
theorem dX1_meets_64 : decode cX1_meets 64 = .ok (.iload_n 2, 1) := dk_28 (dk_at dksX1_meets_2 16 rfl rfl)
theorem dX1_meets_65 : decode cX1_meets 65 = .ok (.iadd, 1) := dk_96 (dk_at dksX1_meets_2 17 rfl rfl)
theorem dX1_meets_66 : decode cX1_meets 66 = .ok (.iload_n 3, 1) := dk_29 (dk_at dksX1_meets_2 18 rfl rfl)
theorem dX1_meets_67 : decode cX1_meets 67 = .ok (.irem, 1) := dk_112 (dk_at dksX1_meets_2 19 rfl rfl)
theorem dX1_meets_68 : decode cX1_meets 68 = .ok (.if_icmp .eq 6, 3) := dk_159 0 6 (dk_at dksX1_meets_2 20 rfl rfl)
theorem dX1_meets_71 : decode cX1_meets 71 = .ok (.goto 10, 3) := dk_167 0 10 (dk_at dksX1_meets_3 0 rfl rfl)
theorem dX1_meets_74 : decode cX1_meets 74 = .ok (.iload 6, 2) := dk_21 6 (dk_at dksX1_meets_3 3 rfl rfl)
theorem dX1_meets_76 : decode cX1_meets 76 = .ok (.istore 4, 2) := dk_54 4 (dk_at dksX1_meets_3 5 rfl rfl)
theorem dX1_meets_78 : decode cX1_meets 78 = .ok (.iinc 5 1, 3) := dk_132 5 1 (dk_at dksX1_meets_3 7 rfl rfl)
theorem dX1_meets_81 : decode cX1_meets 81 = .ok (.iinc 6 (-1), 3) := dk_132 6 255 (dk_at dksX1_meets_3 10 rfl rfl)
theorem dX1_meets_84 : decode cX1_meets 84 = .ok (.goto (-47), 3) := dk_167 255 209 (dk_at dksX1_meets_3 13 rfl rfl)
theorem dX1_meets_87 : decode cX1_meets 87 = .ok (.iload 4, 2) := dk_21 4 (dk_at dksX1_meets_3 16 rfl rfl)
theorem dX1_meets_89 : decode cX1_meets 89 = .ok (.ifCond .ge 6, 3) := dk_156 0 6 (dk_at dksX1_meets_3 18 rfl rfl)
theorem dX1_meets_92 : decode cX1_meets 92 = .ok (.bipush (-2), 2) := dk_16 254 (dk_at dksX1_meets_3 21 rfl rfl)
theorem dX1_meets_94 : decode cX1_meets 94 = .ok (.ireturn, 1) := dk_172 (dk_at dksX1_meets_3 23 rfl rfl)
theorem dX1_meets_95 : decode cX1_meets 95 = .ok (.aload_n 0, 1) := dk_42 (dk_at dksX1_meets_4 0 rfl rfl)
theorem dX1_meets_96 : decode cX1_meets 96 = .ok (.iconst 0, 1) := dk_3 (dk_at dksX1_meets_4 1 rfl rfl)
theorem dX1_meets_97 : decode cX1_meets 97 = .ok (.putfield 360, 3) := dk_181 1 104 (dk_at dksX1_meets_4 2 rfl rfl)
theorem dX1_meets_100 : decode cX1_meets 100 = .ok (.aload_n 0, 1) := dk_42 (dk_at dksX1_meets_4 5 rfl rfl)
theorem dX1_meets_101 : decode cX1_meets 101 = .ok (.aload_n 0, 1) := dk_42 (dk_at dksX1_meets_4 6 rfl rfl)
theorem dX1_meets_102 : decode cX1_meets 102 = .ok (.getfield 23, 3) := dk_180 0 23 (dk_at dksX1_meets_4 7 rfl rfl)
theorem dX1_meets_105 : decode cX1_meets 105 = .ok (.iload_n 1, 1) := dk_27 (dk_at dksX1_meets_4 10 rfl rfl)
theorem dX1_meets_106 : decode cX1_meets 106 = .ok (.iaload, 1) := dk_46 (dk_at dksX1_meets_4 11 rfl rfl)
theorem dX1_meets_107 : decode cX1_meets 107 = .ok (.iload 4, 2) := dk_21 4 (dk_at dksX1_meets_4 12 rfl rfl)
theorem dX1_meets_109 : decode cX1_meets 109 = .ok (.imul, 1) := dk_104 (dk_at dksX1_meets_4 14 rfl rfl)
theorem dX1_meets_110 : decode cX1_meets 110 = .ok (.iload_n 1, 1) := dk_27 (dk_at dksX1_meets_4 15 rfl rfl)
theorem dX1_meets_111 : decode cX1_meets 111 = .ok (.iadd, 1) := dk_96 (dk_at dksX1_meets_4 16 rfl rfl)
theorem dX1_meets_112 : decode cX1_meets 112 = .ok (.iload_n 3, 1) := dk_29 (dk_at dksX1_meets_4 17 rfl rfl)
theorem dX1_meets_113 : decode cX1_meets 113 = .ok (.irem, 1) := dk_112 (dk_at dksX1_meets_4 18 rfl rfl)
theorem dX1_meets_114 : decode cX1_meets 114 = .ok (.i2l, 1) := dk_133 (dk_at dksX1_meets_4 19 rfl rfl)
theorem dX1_meets_115 : decode cX1_meets 115 = .ok (.invokevirtual 363, 3) := dk_182 1 107 (dk_at dksX1_meets_4 20 rfl rfl)
theorem dX1_meets_118 : decode cX1_meets 118 = .ok (.aload_n 0, 1) := dk_42 (dk_at dksX1_meets_4 23 rfl rfl)
theorem dX1_meets_119 : decode cX1_meets 119 = .ok (.iload 5, 2) := dk_21 5 (dk_at dksX1_meets_5 0 rfl rfl)
theorem dX1_meets_121 : decode cX1_meets 121 = .ok (.i2l, 1) := dk_133 (dk_at dksX1_meets_5 2 rfl rfl)
theorem dX1_meets_122 : decode cX1_meets 122 = .ok (.invokevirtual 363, 3) := dk_182 1 107 (dk_at dksX1_meets_5 3 rfl rfl)
theorem dX1_meets_125 : decode cX1_meets 125 = .ok (.iload 4, 2) := dk_21 4 (dk_at dksX1_meets_5 6 rfl rfl)
theorem dX1_meets_127 : decode cX1_meets 127 = .ok (.ireturn, 1) := dk_172 (dk_at dksX1_meets_5 8 rfl rfl)
abbrev cX1_found : ByteArray := prog_1_method_84_code
def yX1_found : MethodName := ⟨RX1, "found", "(III)I"⟩
def dkwX1_found_3 : List UInt8 := [79, 42, 89, 180, 1, 196, 4, 96, 181, 1, 196, 42, 180, 1, 196, 172]
abbrev dktX1_found_3 : List UInt8 := dkwX1_found_3 ++ []
def dkwX1_found_2 : List UInt8 := [180, 1, 196, 27, 79, 42, 180, 0, 102, 42, 180, 1, 196, 28, 79, 42, 180, 0, 105, 42, 180, 1, 196, 29]
abbrev dktX1_found_2 : List UInt8 := dkwX1_found_2 ++ dktX1_found_3
def dkwX1_found_1 : List UInt8 := [184, 0, 124, 153, 0, 12, 42, 180, 1, 196, 16, 12, 160, 0, 5, 2, 172, 42, 180, 0, 99, 42]
abbrev dktX1_found_1 : List UInt8 := dkwX1_found_1 ++ dktX1_found_2
def dkwX1_found_0 : List UInt8 := [27, 133, 9, 20, 1, 32, 184, 0, 124, 153, 0, 30, 42, 28, 182, 0, 128, 153, 0, 22, 29, 133, 9, 10]
abbrev dktX1_found_0 : List UInt8 := dkwX1_found_0 ++ dktX1_found_1
theorem dksX1_found_0 : cX1_found.data.toList.drop 0 = dktX1_found_0 := by decide +kernel
theorem dksX1_found_1 : cX1_found.data.toList.drop 24 = dktX1_found_1 := dk_seg dksX1_found_0 24 rfl rfl
theorem dksX1_found_2 : cX1_found.data.toList.drop 46 = dktX1_found_2 := dk_seg dksX1_found_1 22 rfl rfl
theorem dksX1_found_3 : cX1_found.data.toList.drop 70 = dktX1_found_3 := dk_seg dksX1_found_2 24 rfl rfl
theorem dX1_found_0 : decode cX1_found 0 = .ok (.iload_n 1, 1) := dk_27 (dk_at dksX1_found_0 0 rfl rfl)
theorem dX1_found_1 : decode cX1_found 1 = .ok (.i2l, 1) := dk_133 (dk_at dksX1_found_0 1 rfl rfl)
theorem dX1_found_2 : decode cX1_found 2 = .ok (.lconst 0, 1) := dk_9 (dk_at dksX1_found_0 2 rfl rfl)
theorem dX1_found_3 : decode cX1_found 3 = .ok (.ldc2_w 288, 3) := dk_20 1 32 (dk_at dksX1_found_0 3 rfl rfl)
theorem dX1_found_6 : decode cX1_found 6 = .ok (.invokestatic 124, 3) := dk_184 0 124 (dk_at dksX1_found_0 6 rfl rfl)
theorem dX1_found_9 : decode cX1_found 9 = .ok (.ifCond .eq 30, 3) := dk_153 0 30 (dk_at dksX1_found_0 9 rfl rfl)
theorem dX1_found_12 : decode cX1_found 12 = .ok (.aload_n 0, 1) := dk_42 (dk_at dksX1_found_0 12 rfl rfl)
theorem dX1_found_13 : decode cX1_found 13 = .ok (.iload_n 2, 1) := dk_28 (dk_at dksX1_found_0 13 rfl rfl)
theorem dX1_found_14 : decode cX1_found 14 = .ok (.invokevirtual 128, 3) := dk_182 0 128 (dk_at dksX1_found_0 14 rfl rfl)
theorem dX1_found_17 : decode cX1_found 17 = .ok (.ifCond .eq 22, 3) := dk_153 0 22 (dk_at dksX1_found_0 17 rfl rfl)
theorem dX1_found_20 : decode cX1_found 20 = .ok (.iload_n 3, 1) := dk_29 (dk_at dksX1_found_0 20 rfl rfl)
theorem dX1_found_21 : decode cX1_found 21 = .ok (.i2l, 1) := dk_133 (dk_at dksX1_found_0 21 rfl rfl)
theorem dX1_found_22 : decode cX1_found 22 = .ok (.lconst 0, 1) := dk_9 (dk_at dksX1_found_0 22 rfl rfl)
theorem dX1_found_23 : decode cX1_found 23 = .ok (.lconst 1, 1) := dk_10 (dk_at dksX1_found_0 23 rfl rfl)
theorem dX1_found_24 : decode cX1_found 24 = .ok (.invokestatic 124, 3) := dk_184 0 124 (dk_at dksX1_found_1 0 rfl rfl)
theorem dX1_found_27 : decode cX1_found 27 = .ok (.ifCond .eq 12, 3) := dk_153 0 12 (dk_at dksX1_found_1 3 rfl rfl)
theorem dX1_found_30 : decode cX1_found 30 = .ok (.aload_n 0, 1) := dk_42 (dk_at dksX1_found_1 6 rfl rfl)
theorem dX1_found_31 : decode cX1_found 31 = .ok (.getfield 452, 3) := dk_180 1 196 (dk_at dksX1_found_1 7 rfl rfl)
theorem dX1_found_34 : decode cX1_found 34 = .ok (.bipush 12, 2) := dk_16 12 (dk_at dksX1_found_1 10 rfl rfl)
theorem dX1_found_36 : decode cX1_found 36 = .ok (.if_icmp .ne 5, 3) := dk_160 0 5 (dk_at dksX1_found_1 12 rfl rfl)
theorem dX1_found_39 : decode cX1_found 39 = .ok (.iconst (-1), 1) := dk_2 (dk_at dksX1_found_1 15 rfl rfl)
theorem dX1_found_40 : decode cX1_found 40 = .ok (.ireturn, 1) := dk_172 (dk_at dksX1_found_1 16 rfl rfl)
theorem dX1_found_41 : decode cX1_found 41 = .ok (.aload_n 0, 1) := dk_42 (dk_at dksX1_found_1 17 rfl rfl)
theorem dX1_found_42 : decode cX1_found 42 = .ok (.getfield 99, 3) := dk_180 0 99 (dk_at dksX1_found_1 18 rfl rfl)
theorem dX1_found_45 : decode cX1_found 45 = .ok (.aload_n 0, 1) := dk_42 (dk_at dksX1_found_1 21 rfl rfl)
theorem dX1_found_46 : decode cX1_found 46 = .ok (.getfield 452, 3) := dk_180 1 196 (dk_at dksX1_found_2 0 rfl rfl)
theorem dX1_found_49 : decode cX1_found 49 = .ok (.iload_n 1, 1) := dk_27 (dk_at dksX1_found_2 3 rfl rfl)
theorem dX1_found_50 : decode cX1_found 50 = .ok (.iastore, 1) := dk_79 (dk_at dksX1_found_2 4 rfl rfl)
theorem dX1_found_51 : decode cX1_found 51 = .ok (.aload_n 0, 1) := dk_42 (dk_at dksX1_found_2 5 rfl rfl)
theorem dX1_found_52 : decode cX1_found 52 = .ok (.getfield 102, 3) := dk_180 0 102 (dk_at dksX1_found_2 6 rfl rfl)
theorem dX1_found_55 : decode cX1_found 55 = .ok (.aload_n 0, 1) := dk_42 (dk_at dksX1_found_2 9 rfl rfl)
theorem dX1_found_56 : decode cX1_found 56 = .ok (.getfield 452, 3) := dk_180 1 196 (dk_at dksX1_found_2 10 rfl rfl)
theorem dX1_found_59 : decode cX1_found 59 = .ok (.iload_n 2, 1) := dk_28 (dk_at dksX1_found_2 13 rfl rfl)
theorem dX1_found_60 : decode cX1_found 60 = .ok (.iastore, 1) := dk_79 (dk_at dksX1_found_2 14 rfl rfl)
theorem dX1_found_61 : decode cX1_found 61 = .ok (.aload_n 0, 1) := dk_42 (dk_at dksX1_found_2 15 rfl rfl)
theorem dX1_found_62 : decode cX1_found 62 = .ok (.getfield 105, 3) := dk_180 0 105 (dk_at dksX1_found_2 16 rfl rfl)
theorem dX1_found_65 : decode cX1_found 65 = .ok (.aload_n 0, 1) := dk_42 (dk_at dksX1_found_2 19 rfl rfl)
theorem dX1_found_66 : decode cX1_found 66 = .ok (.getfield 452, 3) := dk_180 1 196 (dk_at dksX1_found_2 20 rfl rfl)
theorem dX1_found_69 : decode cX1_found 69 = .ok (.iload_n 3, 1) := dk_29 (dk_at dksX1_found_2 23 rfl rfl)
theorem dX1_found_70 : decode cX1_found 70 = .ok (.iastore, 1) := dk_79 (dk_at dksX1_found_3 0 rfl rfl)
theorem dX1_found_71 : decode cX1_found 71 = .ok (.aload_n 0, 1) := dk_42 (dk_at dksX1_found_3 1 rfl rfl)
theorem dX1_found_72 : decode cX1_found 72 = .ok (.dup, 1) := dk_89 (dk_at dksX1_found_3 2 rfl rfl)
theorem dX1_found_73 : decode cX1_found 73 = .ok (.getfield 452, 3) := dk_180 1 196 (dk_at dksX1_found_3 3 rfl rfl)
theorem dX1_found_76 : decode cX1_found 76 = .ok (.iconst 1, 1) := dk_4 (dk_at dksX1_found_3 6 rfl rfl)
theorem dX1_found_77 : decode cX1_found 77 = .ok (.iadd, 1) := dk_96 (dk_at dksX1_found_3 7 rfl rfl)
theorem dX1_found_78 : decode cX1_found 78 = .ok (.putfield 452, 3) := dk_181 1 196 (dk_at dksX1_found_3 8 rfl rfl)
theorem dX1_found_81 : decode cX1_found 81 = .ok (.aload_n 0, 1) := dk_42 (dk_at dksX1_found_3 11 rfl rfl)
theorem dX1_found_82 : decode cX1_found 82 = .ok (.getfield 452, 3) := dk_180 1 196 (dk_at dksX1_found_3 12 rfl rfl)
theorem dX1_found_85 : decode cX1_found 85 = .ok (.ireturn, 1) := dk_172 (dk_at dksX1_found_3 15 rfl rfl)
abbrev cX1_forget : ByteArray := prog_1_method_85_code
def yX1_forget : MethodName := ⟨RX1, "forget", "()I"⟩
def dkwX1_forget_0 : List UInt8 := [42, 180, 1, 196, 60, 42, 3, 181, 1, 196, 27, 172]
abbrev dktX1_forget_0 : List UInt8 := dkwX1_forget_0 ++ []
theorem dksX1_forget_0 : cX1_forget.data.toList.drop 0 = dktX1_forget_0 := by decide +kernel
theorem dX1_forget_0 : decode cX1_forget 0 = .ok (.aload_n 0, 1) := dk_42 (dk_at dksX1_forget_0 0 rfl rfl)
theorem dX1_forget_1 : decode cX1_forget 1 = .ok (.getfield 452, 3) := dk_180 1 196 (dk_at dksX1_forget_0 1 rfl rfl)
theorem dX1_forget_4 : decode cX1_forget 4 = .ok (.istore_n 1, 1) := dk_60 (dk_at dksX1_forget_0 4 rfl rfl)
theorem dX1_forget_5 : decode cX1_forget 5 = .ok (.aload_n 0, 1) := dk_42 (dk_at dksX1_forget_0 5 rfl rfl)
theorem dX1_forget_6 : decode cX1_forget 6 = .ok (.iconst 0, 1) := dk_3 (dk_at dksX1_forget_0 6 rfl rfl)
theorem dX1_forget_7 : decode cX1_forget 7 = .ok (.putfield 452, 3) := dk_181 1 196 (dk_at dksX1_forget_0 7 rfl rfl)
theorem dX1_forget_10 : decode cX1_forget 10 = .ok (.iload_n 1, 1) := dk_27 (dk_at dksX1_forget_0 10 rfl rfl)
theorem dX1_forget_11 : decode cX1_forget 11 = .ok (.ireturn, 1) := dk_172 (dk_at dksX1_forget_0 11 rfl rfl)
abbrev cX1_fits : ByteArray := prog_1_method_88_code
def yX1_fits : MethodName := ⟨RX1, "fits", "()I"⟩
def dkwX1_fits_0 : List UInt8 := [42, 182, 1, 202, 42, 182, 1, 178, 172]
abbrev dktX1_fits_0 : List UInt8 := dkwX1_fits_0 ++ []
theorem dksX1_fits_0 : cX1_fits.data.toList.drop 0 = dktX1_fits_0 := by decide +kernel
theorem dX1_fits_0 : decode cX1_fits 0 = .ok (.aload_n 0, 1) := dk_42 (dk_at dksX1_fits_0 0 rfl rfl)
theorem dX1_fits_1 : decode cX1_fits 1 = .ok (.invokevirtual 458, 3) := dk_182 1 202 (dk_at dksX1_fits_0 1 rfl rfl)
theorem dX1_fits_4 : decode cX1_fits 4 = .ok (.aload_n 0, 1) := dk_42 (dk_at dksX1_fits_0 4 rfl rfl)
theorem dX1_fits_5 : decode cX1_fits 5 = .ok (.invokevirtual 434, 3) := dk_182 1 178 (dk_at dksX1_fits_0 5 rfl rfl)
theorem dX1_fits_8 : decode cX1_fits 8 = .ok (.ireturn, 1) := dk_172 (dk_at dksX1_fits_0 8 rfl rfl)
abbrev cX1_opensFound : ByteArray := prog_1_method_86_code
def yX1_opensFound : MethodName := ⟨RX1, "opensFound", "()V"⟩
def dkwX1_opensFound_3 : List UInt8 := [92, 46, 4, 42, 180, 0, 99, 27, 46, 120, 2, 130, 126, 79, 132, 1, 1, 167, 255, 176, 177]
abbrev dktX1_opensFound_3 : List UInt8 := dkwX1_opensFound_3 ++ []
def dkwX1_opensFound_2 : List UInt8 := [27, 46, 42, 180, 0, 102, 27, 46, 182, 1, 143, 167, 0, 27, 42, 180, 0, 73, 42, 180, 0, 102, 27, 46]
abbrev dktX1_opensFound_2 : List UInt8 := dkwX1_opensFound_2 ++ dktX1_opensFound_3
def dkwX1_opensFound_1 : List UInt8 := [182, 1, 199, 154, 0, 6, 167, 0, 56, 42, 180, 0, 105, 27, 46, 4, 160, 0, 22, 42, 42, 180, 0, 99]
abbrev dktX1_opensFound_1 : List UInt8 := dkwX1_opensFound_1 ++ dktX1_opensFound_2
def dkwX1_opensFound_0 : List UInt8 := [42, 3, 182, 1, 150, 3, 60, 27, 42, 180, 1, 196, 162, 0, 78, 42, 42, 180, 0, 99, 27, 46]
abbrev dktX1_opensFound_0 : List UInt8 := dkwX1_opensFound_0 ++ dktX1_opensFound_1
theorem dksX1_opensFound_0 : cX1_opensFound.data.toList.drop 0 = dktX1_opensFound_0 := by decide +kernel
theorem dksX1_opensFound_1 : cX1_opensFound.data.toList.drop 22 = dktX1_opensFound_1 := dk_seg dksX1_opensFound_0 22 rfl rfl
theorem dksX1_opensFound_2 : cX1_opensFound.data.toList.drop 46 = dktX1_opensFound_2 := dk_seg dksX1_opensFound_1 24 rfl rfl
theorem dksX1_opensFound_3 : cX1_opensFound.data.toList.drop 70 = dktX1_opensFound_3 := dk_seg dksX1_opensFound_2 24 rfl rfl
theorem dX1_opensFound_0 : decode cX1_opensFound 0 = .ok (.aload_n 0, 1) := dk_42 (dk_at dksX1_opensFound_0 0 rfl rfl)
theorem dX1_opensFound_1 : decode cX1_opensFound 1 = .ok (.iconst 0, 1) := dk_3 (dk_at dksX1_opensFound_0 1 rfl rfl)
theorem dX1_opensFound_2 : decode cX1_opensFound 2 = .ok (.invokevirtual 406, 3) := dk_182 1 150 (dk_at dksX1_opensFound_0 2 rfl rfl)
theorem dX1_opensFound_5 : decode cX1_opensFound 5 = .ok (.iconst 0, 1) := dk_3 (dk_at dksX1_opensFound_0 5 rfl rfl)
theorem dX1_opensFound_6 : decode cX1_opensFound 6 = .ok (.istore_n 1, 1) := dk_60 (dk_at dksX1_opensFound_0 6 rfl rfl)
theorem dX1_opensFound_7 : decode cX1_opensFound 7 = .ok (.iload_n 1, 1) := dk_27 (dk_at dksX1_opensFound_0 7 rfl rfl)
theorem dX1_opensFound_8 : decode cX1_opensFound 8 = .ok (.aload_n 0, 1) := dk_42 (dk_at dksX1_opensFound_0 8 rfl rfl)
theorem dX1_opensFound_9 : decode cX1_opensFound 9 = .ok (.getfield 452, 3) := dk_180 1 196 (dk_at dksX1_opensFound_0 9 rfl rfl)
theorem dX1_opensFound_12 : decode cX1_opensFound 12 = .ok (.if_icmp .ge 78, 3) := dk_162 0 78 (dk_at dksX1_opensFound_0 12 rfl rfl)
theorem dX1_opensFound_15 : decode cX1_opensFound 15 = .ok (.aload_n 0, 1) := dk_42 (dk_at dksX1_opensFound_0 15 rfl rfl)
theorem dX1_opensFound_16 : decode cX1_opensFound 16 = .ok (.aload_n 0, 1) := dk_42 (dk_at dksX1_opensFound_0 16 rfl rfl)
theorem dX1_opensFound_17 : decode cX1_opensFound 17 = .ok (.getfield 99, 3) := dk_180 0 99 (dk_at dksX1_opensFound_0 17 rfl rfl)
theorem dX1_opensFound_20 : decode cX1_opensFound 20 = .ok (.iload_n 1, 1) := dk_27 (dk_at dksX1_opensFound_0 20 rfl rfl)
theorem dX1_opensFound_21 : decode cX1_opensFound 21 = .ok (.iaload, 1) := dk_46 (dk_at dksX1_opensFound_0 21 rfl rfl)
theorem dX1_opensFound_22 : decode cX1_opensFound 22 = .ok (.invokevirtual 455, 3) := dk_182 1 199 (dk_at dksX1_opensFound_1 0 rfl rfl)
theorem dX1_opensFound_25 : decode cX1_opensFound 25 = .ok (.ifCond .ne 6, 3) := dk_154 0 6 (dk_at dksX1_opensFound_1 3 rfl rfl)
theorem dX1_opensFound_28 : decode cX1_opensFound 28 = .ok (.goto 56, 3) := dk_167 0 56 (dk_at dksX1_opensFound_1 6 rfl rfl)
theorem dX1_opensFound_31 : decode cX1_opensFound 31 = .ok (.aload_n 0, 1) := dk_42 (dk_at dksX1_opensFound_1 9 rfl rfl)
theorem dX1_opensFound_32 : decode cX1_opensFound 32 = .ok (.getfield 105, 3) := dk_180 0 105 (dk_at dksX1_opensFound_1 10 rfl rfl)
theorem dX1_opensFound_35 : decode cX1_opensFound 35 = .ok (.iload_n 1, 1) := dk_27 (dk_at dksX1_opensFound_1 13 rfl rfl)
theorem dX1_opensFound_36 : decode cX1_opensFound 36 = .ok (.iaload, 1) := dk_46 (dk_at dksX1_opensFound_1 14 rfl rfl)
theorem dX1_opensFound_37 : decode cX1_opensFound 37 = .ok (.iconst 1, 1) := dk_4 (dk_at dksX1_opensFound_1 15 rfl rfl)
theorem dX1_opensFound_38 : decode cX1_opensFound 38 = .ok (.if_icmp .ne 22, 3) := dk_160 0 22 (dk_at dksX1_opensFound_1 16 rfl rfl)
theorem dX1_opensFound_41 : decode cX1_opensFound 41 = .ok (.aload_n 0, 1) := dk_42 (dk_at dksX1_opensFound_1 19 rfl rfl)
theorem dX1_opensFound_42 : decode cX1_opensFound 42 = .ok (.aload_n 0, 1) := dk_42 (dk_at dksX1_opensFound_1 20 rfl rfl)
theorem dX1_opensFound_43 : decode cX1_opensFound 43 = .ok (.getfield 99, 3) := dk_180 0 99 (dk_at dksX1_opensFound_1 21 rfl rfl)
theorem dX1_opensFound_46 : decode cX1_opensFound 46 = .ok (.iload_n 1, 1) := dk_27 (dk_at dksX1_opensFound_2 0 rfl rfl)
theorem dX1_opensFound_47 : decode cX1_opensFound 47 = .ok (.iaload, 1) := dk_46 (dk_at dksX1_opensFound_2 1 rfl rfl)
theorem dX1_opensFound_48 : decode cX1_opensFound 48 = .ok (.aload_n 0, 1) := dk_42 (dk_at dksX1_opensFound_2 2 rfl rfl)
theorem dX1_opensFound_49 : decode cX1_opensFound 49 = .ok (.getfield 102, 3) := dk_180 0 102 (dk_at dksX1_opensFound_2 3 rfl rfl)
theorem dX1_opensFound_52 : decode cX1_opensFound 52 = .ok (.iload_n 1, 1) := dk_27 (dk_at dksX1_opensFound_2 6 rfl rfl)
theorem dX1_opensFound_53 : decode cX1_opensFound 53 = .ok (.iaload, 1) := dk_46 (dk_at dksX1_opensFound_2 7 rfl rfl)
theorem dX1_opensFound_54 : decode cX1_opensFound 54 = .ok (.invokevirtual 399, 3) := dk_182 1 143 (dk_at dksX1_opensFound_2 8 rfl rfl)
theorem dX1_opensFound_57 : decode cX1_opensFound 57 = .ok (.goto 27, 3) := dk_167 0 27 (dk_at dksX1_opensFound_2 11 rfl rfl)
theorem dX1_opensFound_60 : decode cX1_opensFound 60 = .ok (.aload_n 0, 1) := dk_42 (dk_at dksX1_opensFound_2 14 rfl rfl)
theorem dX1_opensFound_61 : decode cX1_opensFound 61 = .ok (.getfield 73, 3) := dk_180 0 73 (dk_at dksX1_opensFound_2 15 rfl rfl)
theorem dX1_opensFound_64 : decode cX1_opensFound 64 = .ok (.aload_n 0, 1) := dk_42 (dk_at dksX1_opensFound_2 18 rfl rfl)
theorem dX1_opensFound_65 : decode cX1_opensFound 65 = .ok (.getfield 102, 3) := dk_180 0 102 (dk_at dksX1_opensFound_2 19 rfl rfl)
theorem dX1_opensFound_68 : decode cX1_opensFound 68 = .ok (.iload_n 1, 1) := dk_27 (dk_at dksX1_opensFound_2 22 rfl rfl)
theorem dX1_opensFound_69 : decode cX1_opensFound 69 = .ok (.iaload, 1) := dk_46 (dk_at dksX1_opensFound_2 23 rfl rfl)
theorem dX1_opensFound_70 : decode cX1_opensFound 70 = .ok (.dup2, 1) := dk_92 (dk_at dksX1_opensFound_3 0 rfl rfl)
theorem dX1_opensFound_71 : decode cX1_opensFound 71 = .ok (.iaload, 1) := dk_46 (dk_at dksX1_opensFound_3 1 rfl rfl)
theorem dX1_opensFound_72 : decode cX1_opensFound 72 = .ok (.iconst 1, 1) := dk_4 (dk_at dksX1_opensFound_3 2 rfl rfl)
theorem dX1_opensFound_73 : decode cX1_opensFound 73 = .ok (.aload_n 0, 1) := dk_42 (dk_at dksX1_opensFound_3 3 rfl rfl)
theorem dX1_opensFound_74 : decode cX1_opensFound 74 = .ok (.getfield 99, 3) := dk_180 0 99 (dk_at dksX1_opensFound_3 4 rfl rfl)
theorem dX1_opensFound_77 : decode cX1_opensFound 77 = .ok (.iload_n 1, 1) := dk_27 (dk_at dksX1_opensFound_3 7 rfl rfl)
theorem dX1_opensFound_78 : decode cX1_opensFound 78 = .ok (.iaload, 1) := dk_46 (dk_at dksX1_opensFound_3 8 rfl rfl)
theorem dX1_opensFound_79 : decode cX1_opensFound 79 = .ok (.ishl, 1) := dk_120 (dk_at dksX1_opensFound_3 9 rfl rfl)
theorem dX1_opensFound_80 : decode cX1_opensFound 80 = .ok (.iconst (-1), 1) := dk_2 (dk_at dksX1_opensFound_3 10 rfl rfl)
theorem dX1_opensFound_81 : decode cX1_opensFound 81 = .ok (.ixor, 1) := dk_130 (dk_at dksX1_opensFound_3 11 rfl rfl)
theorem dX1_opensFound_82 : decode cX1_opensFound 82 = .ok (.iand, 1) := dk_126 (dk_at dksX1_opensFound_3 12 rfl rfl)
theorem dX1_opensFound_83 : decode cX1_opensFound 83 = .ok (.iastore, 1) := dk_79 (dk_at dksX1_opensFound_3 13 rfl rfl)
theorem dX1_opensFound_84 : decode cX1_opensFound 84 = .ok (.iinc 1 1, 3) := dk_132 1 1 (dk_at dksX1_opensFound_3 14 rfl rfl)
theorem dX1_opensFound_87 : decode cX1_opensFound 87 = .ok (.goto (-80), 3) := dk_167 255 176 (dk_at dksX1_opensFound_3 17 rfl rfl)
theorem dX1_opensFound_90 : decode cX1_opensFound 90 = .ok (.return_, 1) := dk_177 (dk_at dksX1_opensFound_3 20 rfl rfl)
abbrev cX1_isHour : ByteArray := prog_1_method_7_code
def yX1_isHour : MethodName := ⟨RX1, "isHour", "(I)Z"⟩
def dkwX1_isHour_0 : List UInt8 := [27, 133, 9, 42, 180, 0, 29, 4, 100, 133, 184, 0, 124, 172]
abbrev dktX1_isHour_0 : List UInt8 := dkwX1_isHour_0 ++ []
theorem dksX1_isHour_0 : cX1_isHour.data.toList.drop 0 = dktX1_isHour_0 := by decide +kernel
theorem dX1_isHour_0 : decode cX1_isHour 0 = .ok (.iload_n 1, 1) := dk_27 (dk_at dksX1_isHour_0 0 rfl rfl)
theorem dX1_isHour_1 : decode cX1_isHour 1 = .ok (.i2l, 1) := dk_133 (dk_at dksX1_isHour_0 1 rfl rfl)
theorem dX1_isHour_2 : decode cX1_isHour 2 = .ok (.lconst 0, 1) := dk_9 (dk_at dksX1_isHour_0 2 rfl rfl)
theorem dX1_isHour_3 : decode cX1_isHour 3 = .ok (.aload_n 0, 1) := dk_42 (dk_at dksX1_isHour_0 3 rfl rfl)
theorem dX1_isHour_4 : decode cX1_isHour 4 = .ok (.getfield 29, 3) := dk_180 0 29 (dk_at dksX1_isHour_0 4 rfl rfl)
theorem dX1_isHour_7 : decode cX1_isHour 7 = .ok (.iconst 1, 1) := dk_4 (dk_at dksX1_isHour_0 7 rfl rfl)
theorem dX1_isHour_8 : decode cX1_isHour 8 = .ok (.isub, 1) := dk_100 (dk_at dksX1_isHour_0 8 rfl rfl)
theorem dX1_isHour_9 : decode cX1_isHour 9 = .ok (.i2l, 1) := dk_133 (dk_at dksX1_isHour_0 9 rfl rfl)
theorem dX1_isHour_10 : decode cX1_isHour 10 = .ok (.invokestatic 124, 3) := dk_184 0 124 (dk_at dksX1_isHour_0 10 rfl rfl)
theorem dX1_isHour_13 : decode cX1_isHour 13 = .ok (.ireturn, 1) := dk_172 (dk_at dksX1_isHour_0 13 rfl rfl)
abbrev cX1_sure : ByteArray := prog_1_method_89_code
def yX1_sure : MethodName := ⟨RX1, "sure", "(II)I"⟩
def dkwX1_sure_2 : List UInt8 := [33, 182, 1, 209, 22, 5, 136, 172]
abbrev dktX1_sure_2 : List UInt8 := dkwX1_sure_2 ++ []
def dkwX1_sure_1 : List UInt8 := [182, 1, 174, 66, 33, 9, 148, 154, 0, 6, 16, 254, 172, 42, 27, 28, 182, 1, 205, 55, 5, 42, 22, 5]
abbrev dktX1_sure_1 : List UInt8 := dkwX1_sure_1 ++ dktX1_sure_2
def dkwX1_sure_0 : List UInt8 := [42, 27, 182, 1, 199, 153, 0, 11, 42, 28, 182, 0, 128, 154, 0, 5, 2, 172, 42, 182, 1, 202, 42]
abbrev dktX1_sure_0 : List UInt8 := dkwX1_sure_0 ++ dktX1_sure_1
theorem dksX1_sure_0 : cX1_sure.data.toList.drop 0 = dktX1_sure_0 := by decide +kernel
theorem dksX1_sure_1 : cX1_sure.data.toList.drop 23 = dktX1_sure_1 := dk_seg dksX1_sure_0 23 rfl rfl
theorem dksX1_sure_2 : cX1_sure.data.toList.drop 47 = dktX1_sure_2 := dk_seg dksX1_sure_1 24 rfl rfl
theorem dX1_sure_0 : decode cX1_sure 0 = .ok (.aload_n 0, 1) := dk_42 (dk_at dksX1_sure_0 0 rfl rfl)
theorem dX1_sure_1 : decode cX1_sure 1 = .ok (.iload_n 1, 1) := dk_27 (dk_at dksX1_sure_0 1 rfl rfl)
theorem dX1_sure_2 : decode cX1_sure 2 = .ok (.invokevirtual 455, 3) := dk_182 1 199 (dk_at dksX1_sure_0 2 rfl rfl)
theorem dX1_sure_5 : decode cX1_sure 5 = .ok (.ifCond .eq 11, 3) := dk_153 0 11 (dk_at dksX1_sure_0 5 rfl rfl)
theorem dX1_sure_8 : decode cX1_sure 8 = .ok (.aload_n 0, 1) := dk_42 (dk_at dksX1_sure_0 8 rfl rfl)
theorem dX1_sure_9 : decode cX1_sure 9 = .ok (.iload_n 2, 1) := dk_28 (dk_at dksX1_sure_0 9 rfl rfl)
theorem dX1_sure_10 : decode cX1_sure 10 = .ok (.invokevirtual 128, 3) := dk_182 0 128 (dk_at dksX1_sure_0 10 rfl rfl)
theorem dX1_sure_13 : decode cX1_sure 13 = .ok (.ifCond .ne 5, 3) := dk_154 0 5 (dk_at dksX1_sure_0 13 rfl rfl)
theorem dX1_sure_16 : decode cX1_sure 16 = .ok (.iconst (-1), 1) := dk_2 (dk_at dksX1_sure_0 16 rfl rfl)
theorem dX1_sure_17 : decode cX1_sure 17 = .ok (.ireturn, 1) := dk_172 (dk_at dksX1_sure_0 17 rfl rfl)
theorem dX1_sure_18 : decode cX1_sure 18 = .ok (.aload_n 0, 1) := dk_42 (dk_at dksX1_sure_0 18 rfl rfl)
theorem dX1_sure_19 : decode cX1_sure 19 = .ok (.invokevirtual 458, 3) := dk_182 1 202 (dk_at dksX1_sure_0 19 rfl rfl)
theorem dX1_sure_22 : decode cX1_sure 22 = .ok (.aload_n 0, 1) := dk_42 (dk_at dksX1_sure_0 22 rfl rfl)
theorem dX1_sure_23 : decode cX1_sure 23 = .ok (.invokevirtual 430, 3) := dk_182 1 174 (dk_at dksX1_sure_1 0 rfl rfl)
theorem dX1_sure_26 : decode cX1_sure 26 = .ok (.lstore_n 3, 1) := dk_66 (dk_at dksX1_sure_1 3 rfl rfl)
theorem dX1_sure_27 : decode cX1_sure 27 = .ok (.lload_n 3, 1) := dk_33 (dk_at dksX1_sure_1 4 rfl rfl)
theorem dX1_sure_28 : decode cX1_sure 28 = .ok (.lconst 0, 1) := dk_9 (dk_at dksX1_sure_1 5 rfl rfl)
theorem dX1_sure_29 : decode cX1_sure 29 = .ok (.lcmp, 1) := dk_148 (dk_at dksX1_sure_1 6 rfl rfl)
theorem dX1_sure_30 : decode cX1_sure 30 = .ok (.ifCond .ne 6, 3) := dk_154 0 6 (dk_at dksX1_sure_1 7 rfl rfl)
theorem dX1_sure_33 : decode cX1_sure 33 = .ok (.bipush (-2), 2) := dk_16 254 (dk_at dksX1_sure_1 10 rfl rfl)
theorem dX1_sure_35 : decode cX1_sure 35 = .ok (.ireturn, 1) := dk_172 (dk_at dksX1_sure_1 12 rfl rfl)
theorem dX1_sure_36 : decode cX1_sure 36 = .ok (.aload_n 0, 1) := dk_42 (dk_at dksX1_sure_1 13 rfl rfl)
theorem dX1_sure_37 : decode cX1_sure 37 = .ok (.iload_n 1, 1) := dk_27 (dk_at dksX1_sure_1 14 rfl rfl)
theorem dX1_sure_38 : decode cX1_sure 38 = .ok (.iload_n 2, 1) := dk_28 (dk_at dksX1_sure_1 15 rfl rfl)
theorem dX1_sure_39 : decode cX1_sure 39 = .ok (.invokevirtual 461, 3) := dk_182 1 205 (dk_at dksX1_sure_1 16 rfl rfl)
theorem dX1_sure_42 : decode cX1_sure 42 = .ok (.lstore 5, 2) := dk_55 5 (dk_at dksX1_sure_1 19 rfl rfl)
theorem dX1_sure_44 : decode cX1_sure 44 = .ok (.aload_n 0, 1) := dk_42 (dk_at dksX1_sure_1 21 rfl rfl)
theorem dX1_sure_45 : decode cX1_sure 45 = .ok (.lload 5, 2) := dk_22 5 (dk_at dksX1_sure_1 22 rfl rfl)
theorem dX1_sure_47 : decode cX1_sure 47 = .ok (.lload_n 3, 1) := dk_33 (dk_at dksX1_sure_2 0 rfl rfl)
theorem dX1_sure_48 : decode cX1_sure 48 = .ok (.invokevirtual 465, 3) := dk_182 1 209 (dk_at dksX1_sure_2 1 rfl rfl)
theorem dX1_sure_51 : decode cX1_sure 51 = .ok (.lload 5, 2) := dk_22 5 (dk_at dksX1_sure_2 4 rfl rfl)
theorem dX1_sure_53 : decode cX1_sure 53 = .ok (.l2i, 1) := dk_136 (dk_at dksX1_sure_2 6 rfl rfl)
theorem dX1_sure_54 : decode cX1_sure 54 = .ok (.ireturn, 1) := dk_172 (dk_at dksX1_sure_2 7 rfl rfl)
abbrev cX1_fitsIf : ByteArray := prog_1_method_87_code
def yX1_fitsIf : MethodName := ⟨RX1, "fitsIf", "(II)J"⟩
def dkwX1_fitsIf_0 : List UInt8 := [42, 182, 1, 202, 42, 27, 28, 182, 1, 143, 42, 182, 1, 174, 173]
abbrev dktX1_fitsIf_0 : List UInt8 := dkwX1_fitsIf_0 ++ []
theorem dksX1_fitsIf_0 : cX1_fitsIf.data.toList.drop 0 = dktX1_fitsIf_0 := by decide +kernel
theorem dX1_fitsIf_0 : decode cX1_fitsIf 0 = .ok (.aload_n 0, 1) := dk_42 (dk_at dksX1_fitsIf_0 0 rfl rfl)
theorem dX1_fitsIf_1 : decode cX1_fitsIf 1 = .ok (.invokevirtual 458, 3) := dk_182 1 202 (dk_at dksX1_fitsIf_0 1 rfl rfl)
theorem dX1_fitsIf_4 : decode cX1_fitsIf 4 = .ok (.aload_n 0, 1) := dk_42 (dk_at dksX1_fitsIf_0 4 rfl rfl)
theorem dX1_fitsIf_5 : decode cX1_fitsIf 5 = .ok (.iload_n 1, 1) := dk_27 (dk_at dksX1_fitsIf_0 5 rfl rfl)
theorem dX1_fitsIf_6 : decode cX1_fitsIf 6 = .ok (.iload_n 2, 1) := dk_28 (dk_at dksX1_fitsIf_0 6 rfl rfl)
theorem dX1_fitsIf_7 : decode cX1_fitsIf 7 = .ok (.invokevirtual 399, 3) := dk_182 1 143 (dk_at dksX1_fitsIf_0 7 rfl rfl)
theorem dX1_fitsIf_10 : decode cX1_fitsIf 10 = .ok (.aload_n 0, 1) := dk_42 (dk_at dksX1_fitsIf_0 10 rfl rfl)
theorem dX1_fitsIf_11 : decode cX1_fitsIf 11 = .ok (.invokevirtual 430, 3) := dk_182 1 174 (dk_at dksX1_fitsIf_0 11 rfl rfl)
theorem dX1_fitsIf_14 : decode cX1_fitsIf 14 = .ok (.lreturn, 1) := dk_173 (dk_at dksX1_fitsIf_0 14 rfl rfl)
abbrev cX1_tellsFraction : ByteArray := prog_1_method_91_code
def yX1_tellsFraction : MethodName := ⟨RX1, "tellsFraction", "(JJ)V"⟩
def dkwX1_tellsFraction_1 : List UInt8 := [109, 182, 1, 107, 177]
abbrev dktX1_tellsFraction_1 : List UInt8 := dkwX1_tellsFraction_1 ++ []
def dkwX1_tellsFraction_0 : List UInt8 := [31, 33, 184, 0, 117, 55, 5, 42, 3, 181, 1, 104, 42, 31, 22, 5, 109, 182, 1, 107, 42, 33, 22, 5]
abbrev dktX1_tellsFraction_0 : List UInt8 := dkwX1_tellsFraction_0 ++ dktX1_tellsFraction_1
theorem dksX1_tellsFraction_0 : cX1_tellsFraction.data.toList.drop 0 = dktX1_tellsFraction_0 := by decide +kernel
theorem dksX1_tellsFraction_1 : cX1_tellsFraction.data.toList.drop 24 = dktX1_tellsFraction_1 := dk_seg dksX1_tellsFraction_0 24 rfl rfl
theorem dX1_tellsFraction_0 : decode cX1_tellsFraction 0 = .ok (.lload_n 1, 1) := dk_31 (dk_at dksX1_tellsFraction_0 0 rfl rfl)
theorem dX1_tellsFraction_1 : decode cX1_tellsFraction 1 = .ok (.lload_n 3, 1) := dk_33 (dk_at dksX1_tellsFraction_0 1 rfl rfl)
theorem dX1_tellsFraction_2 : decode cX1_tellsFraction 2 = .ok (.invokestatic 117, 3) := dk_184 0 117 (dk_at dksX1_tellsFraction_0 2 rfl rfl)
theorem dX1_tellsFraction_5 : decode cX1_tellsFraction 5 = .ok (.lstore 5, 2) := dk_55 5 (dk_at dksX1_tellsFraction_0 5 rfl rfl)
theorem dX1_tellsFraction_7 : decode cX1_tellsFraction 7 = .ok (.aload_n 0, 1) := dk_42 (dk_at dksX1_tellsFraction_0 7 rfl rfl)
theorem dX1_tellsFraction_8 : decode cX1_tellsFraction 8 = .ok (.iconst 0, 1) := dk_3 (dk_at dksX1_tellsFraction_0 8 rfl rfl)
theorem dX1_tellsFraction_9 : decode cX1_tellsFraction 9 = .ok (.putfield 360, 3) := dk_181 1 104 (dk_at dksX1_tellsFraction_0 9 rfl rfl)
theorem dX1_tellsFraction_12 : decode cX1_tellsFraction 12 = .ok (.aload_n 0, 1) := dk_42 (dk_at dksX1_tellsFraction_0 12 rfl rfl)
theorem dX1_tellsFraction_13 : decode cX1_tellsFraction 13 = .ok (.lload_n 1, 1) := dk_31 (dk_at dksX1_tellsFraction_0 13 rfl rfl)
theorem dX1_tellsFraction_14 : decode cX1_tellsFraction 14 = .ok (.lload 5, 2) := dk_22 5 (dk_at dksX1_tellsFraction_0 14 rfl rfl)
theorem dX1_tellsFraction_16 : decode cX1_tellsFraction 16 = .ok (.ldiv, 1) := dk_109 (dk_at dksX1_tellsFraction_0 16 rfl rfl)
theorem dX1_tellsFraction_17 : decode cX1_tellsFraction 17 = .ok (.invokevirtual 363, 3) := dk_182 1 107 (dk_at dksX1_tellsFraction_0 17 rfl rfl)
theorem dX1_tellsFraction_20 : decode cX1_tellsFraction 20 = .ok (.aload_n 0, 1) := dk_42 (dk_at dksX1_tellsFraction_0 20 rfl rfl)
theorem dX1_tellsFraction_21 : decode cX1_tellsFraction 21 = .ok (.lload_n 3, 1) := dk_33 (dk_at dksX1_tellsFraction_0 21 rfl rfl)
theorem dX1_tellsFraction_22 : decode cX1_tellsFraction 22 = .ok (.lload 5, 2) := dk_22 5 (dk_at dksX1_tellsFraction_0 22 rfl rfl)
theorem dX1_tellsFraction_24 : decode cX1_tellsFraction 24 = .ok (.ldiv, 1) := dk_109 (dk_at dksX1_tellsFraction_1 0 rfl rfl)
theorem dX1_tellsFraction_25 : decode cX1_tellsFraction 25 = .ok (.invokevirtual 363, 3) := dk_182 1 107 (dk_at dksX1_tellsFraction_1 1 rfl rfl)
theorem dX1_tellsFraction_28 : decode cX1_tellsFraction 28 = .ok (.return_, 1) := dk_177 (dk_at dksX1_tellsFraction_1 4 rfl rfl)
abbrev cX1_common : ByteArray := prog_1_method_4_code
def yX1_common : MethodName := ⟨RX1, "common", "(JJ)J"⟩
def dkwX1_common_0 : List UInt8 := [32, 9, 148, 154, 0, 7, 30, 167, 0, 10, 32, 30, 32, 113, 184, 0, 117, 173]
abbrev dktX1_common_0 : List UInt8 := dkwX1_common_0 ++ []
theorem dksX1_common_0 : cX1_common.data.toList.drop 0 = dktX1_common_0 := by decide +kernel
theorem dX1_common_0 : decode cX1_common 0 = .ok (.lload_n 2, 1) := dk_32 (dk_at dksX1_common_0 0 rfl rfl)
theorem dX1_common_1 : decode cX1_common 1 = .ok (.lconst 0, 1) := dk_9 (dk_at dksX1_common_0 1 rfl rfl)
theorem dX1_common_2 : decode cX1_common 2 = .ok (.lcmp, 1) := dk_148 (dk_at dksX1_common_0 2 rfl rfl)
theorem dX1_common_3 : decode cX1_common 3 = .ok (.ifCond .ne 7, 3) := dk_154 0 7 (dk_at dksX1_common_0 3 rfl rfl)
theorem dX1_common_6 : decode cX1_common 6 = .ok (.lload_n 0, 1) := dk_30 (dk_at dksX1_common_0 6 rfl rfl)
theorem dX1_common_7 : decode cX1_common 7 = .ok (.goto 10, 3) := dk_167 0 10 (dk_at dksX1_common_0 7 rfl rfl)
theorem dX1_common_10 : decode cX1_common 10 = .ok (.lload_n 2, 1) := dk_32 (dk_at dksX1_common_0 10 rfl rfl)
theorem dX1_common_11 : decode cX1_common 11 = .ok (.lload_n 0, 1) := dk_30 (dk_at dksX1_common_0 11 rfl rfl)
theorem dX1_common_12 : decode cX1_common 12 = .ok (.lload_n 2, 1) := dk_32 (dk_at dksX1_common_0 12 rfl rfl)
theorem dX1_common_13 : decode cX1_common 13 = .ok (.lrem, 1) := dk_113 (dk_at dksX1_common_0 13 rfl rfl)
theorem dX1_common_14 : decode cX1_common 14 = .ok (.invokestatic 117, 3) := dk_184 0 117 (dk_at dksX1_common_0 14 rfl rfl)
theorem dX1_common_17 : decode cX1_common 17 = .ok (.lreturn, 1) := dk_173 (dk_at dksX1_common_0 17 rfl rfl)
abbrev cX1_ask : ByteArray := prog_1_method_90_code
def yX1_ask : MethodName := ⟨RX1, "ask", "()I"⟩
def dkwX1_ask_4 : List UInt8 := [167, 255, 187, 42, 3, 181, 1, 104, 42, 32, 182, 1, 107, 27, 172]
abbrev dktX1_ask_4 : List UInt8 := dkwX1_ask_4 ++ []
def dkwX1_ask_3 : List UInt8 := [22, 5, 32, 148, 156, 0, 8, 21, 4, 167, 0, 4, 27, 60, 32, 22, 5, 184, 1, 219, 65, 132, 4, 1]
abbrev dktX1_ask_3 : List UInt8 := dkwX1_ask_3 ++ dktX1_ask_4
def dkwX1_ask_2 : List UInt8 := [162, 0, 24, 22, 5, 42, 21, 4, 21, 7, 182, 1, 205, 184, 1, 217, 55, 5, 132, 7, 1, 167, 255, 229]
abbrev dktX1_ask_2 : List UInt8 := dkwX1_ask_2 ++ dktX1_ask_3
def dkwX1_ask_1 : List UInt8 := [54, 4, 21, 4, 42, 180, 0, 29, 162, 0, 66, 9, 55, 5, 3, 54, 7, 21, 7, 42, 180, 0, 121]
abbrev dktX1_ask_1 : List UInt8 := dkwX1_ask_1 ++ dktX1_ask_2
def dkwX1_ask_0 : List UInt8 := [42, 182, 1, 202, 42, 182, 1, 174, 9, 148, 154, 0, 6, 16, 254, 172, 3, 60, 20, 1, 215, 65, 3]
abbrev dktX1_ask_0 : List UInt8 := dkwX1_ask_0 ++ dktX1_ask_1
theorem dksX1_ask_0 : cX1_ask.data.toList.drop 0 = dktX1_ask_0 := by decide +kernel
theorem dksX1_ask_1 : cX1_ask.data.toList.drop 23 = dktX1_ask_1 := dk_seg dksX1_ask_0 23 rfl rfl
theorem dksX1_ask_2 : cX1_ask.data.toList.drop 46 = dktX1_ask_2 := dk_seg dksX1_ask_1 23 rfl rfl
theorem dksX1_ask_3 : cX1_ask.data.toList.drop 70 = dktX1_ask_3 := dk_seg dksX1_ask_2 24 rfl rfl
theorem dksX1_ask_4 : cX1_ask.data.toList.drop 94 = dktX1_ask_4 := dk_seg dksX1_ask_3 24 rfl rfl
theorem dX1_ask_0 : decode cX1_ask 0 = .ok (.aload_n 0, 1) := dk_42 (dk_at dksX1_ask_0 0 rfl rfl)
theorem dX1_ask_1 : decode cX1_ask 1 = .ok (.invokevirtual 458, 3) := dk_182 1 202 (dk_at dksX1_ask_0 1 rfl rfl)
theorem dX1_ask_4 : decode cX1_ask 4 = .ok (.aload_n 0, 1) := dk_42 (dk_at dksX1_ask_0 4 rfl rfl)
theorem dX1_ask_5 : decode cX1_ask 5 = .ok (.invokevirtual 430, 3) := dk_182 1 174 (dk_at dksX1_ask_0 5 rfl rfl)
theorem dX1_ask_8 : decode cX1_ask 8 = .ok (.lconst 0, 1) := dk_9 (dk_at dksX1_ask_0 8 rfl rfl)
theorem dX1_ask_9 : decode cX1_ask 9 = .ok (.lcmp, 1) := dk_148 (dk_at dksX1_ask_0 9 rfl rfl)
theorem dX1_ask_10 : decode cX1_ask 10 = .ok (.ifCond .ne 6, 3) := dk_154 0 6 (dk_at dksX1_ask_0 10 rfl rfl)
theorem dX1_ask_13 : decode cX1_ask 13 = .ok (.bipush (-2), 2) := dk_16 254 (dk_at dksX1_ask_0 13 rfl rfl)
theorem dX1_ask_15 : decode cX1_ask 15 = .ok (.ireturn, 1) := dk_172 (dk_at dksX1_ask_0 15 rfl rfl)
theorem dX1_ask_16 : decode cX1_ask 16 = .ok (.iconst 0, 1) := dk_3 (dk_at dksX1_ask_0 16 rfl rfl)
theorem dX1_ask_17 : decode cX1_ask 17 = .ok (.istore_n 1, 1) := dk_60 (dk_at dksX1_ask_0 17 rfl rfl)
theorem dX1_ask_18 : decode cX1_ask 18 = .ok (.ldc2_w 471, 3) := dk_20 1 215 (dk_at dksX1_ask_0 18 rfl rfl)
theorem dX1_ask_21 : decode cX1_ask 21 = .ok (.lstore_n 2, 1) := dk_65 (dk_at dksX1_ask_0 21 rfl rfl)
theorem dX1_ask_22 : decode cX1_ask 22 = .ok (.iconst 0, 1) := dk_3 (dk_at dksX1_ask_0 22 rfl rfl)
theorem dX1_ask_23 : decode cX1_ask 23 = .ok (.istore 4, 2) := dk_54 4 (dk_at dksX1_ask_1 0 rfl rfl)
theorem dX1_ask_25 : decode cX1_ask 25 = .ok (.iload 4, 2) := dk_21 4 (dk_at dksX1_ask_1 2 rfl rfl)
theorem dX1_ask_27 : decode cX1_ask 27 = .ok (.aload_n 0, 1) := dk_42 (dk_at dksX1_ask_1 4 rfl rfl)
theorem dX1_ask_28 : decode cX1_ask 28 = .ok (.getfield 29, 3) := dk_180 0 29 (dk_at dksX1_ask_1 5 rfl rfl)
theorem dX1_ask_31 : decode cX1_ask 31 = .ok (.if_icmp .ge 66, 3) := dk_162 0 66 (dk_at dksX1_ask_1 8 rfl rfl)
theorem dX1_ask_34 : decode cX1_ask 34 = .ok (.lconst 0, 1) := dk_9 (dk_at dksX1_ask_1 11 rfl rfl)
theorem dX1_ask_35 : decode cX1_ask 35 = .ok (.lstore 5, 2) := dk_55 5 (dk_at dksX1_ask_1 12 rfl rfl)
theorem dX1_ask_37 : decode cX1_ask 37 = .ok (.iconst 0, 1) := dk_3 (dk_at dksX1_ask_1 14 rfl rfl)
theorem dX1_ask_38 : decode cX1_ask 38 = .ok (.istore 7, 2) := dk_54 7 (dk_at dksX1_ask_1 15 rfl rfl)
theorem dX1_ask_40 : decode cX1_ask 40 = .ok (.iload 7, 2) := dk_21 7 (dk_at dksX1_ask_1 17 rfl rfl)
theorem dX1_ask_42 : decode cX1_ask 42 = .ok (.aload_n 0, 1) := dk_42 (dk_at dksX1_ask_1 19 rfl rfl)
theorem dX1_ask_43 : decode cX1_ask 43 = .ok (.getfield 121, 3) := dk_180 0 121 (dk_at dksX1_ask_1 20 rfl rfl)
theorem dX1_ask_46 : decode cX1_ask 46 = .ok (.if_icmp .ge 24, 3) := dk_162 0 24 (dk_at dksX1_ask_2 0 rfl rfl)
theorem dX1_ask_49 : decode cX1_ask 49 = .ok (.lload 5, 2) := dk_22 5 (dk_at dksX1_ask_2 3 rfl rfl)
theorem dX1_ask_51 : decode cX1_ask 51 = .ok (.aload_n 0, 1) := dk_42 (dk_at dksX1_ask_2 5 rfl rfl)
theorem dX1_ask_52 : decode cX1_ask 52 = .ok (.iload 4, 2) := dk_21 4 (dk_at dksX1_ask_2 6 rfl rfl)
theorem dX1_ask_54 : decode cX1_ask 54 = .ok (.iload 7, 2) := dk_21 7 (dk_at dksX1_ask_2 8 rfl rfl)
theorem dX1_ask_56 : decode cX1_ask 56 = .ok (.invokevirtual 461, 3) := dk_182 1 205 (dk_at dksX1_ask_2 10 rfl rfl)
theorem dX1_ask_59 : decode cX1_ask 59 = .ok (.invokestatic 473, 3) := dk_184 1 217 (dk_at dksX1_ask_2 13 rfl rfl)
theorem dX1_ask_62 : decode cX1_ask 62 = .ok (.lstore 5, 2) := dk_55 5 (dk_at dksX1_ask_2 16 rfl rfl)
theorem dX1_ask_64 : decode cX1_ask 64 = .ok (.iinc 7 1, 3) := dk_132 7 1 (dk_at dksX1_ask_2 18 rfl rfl)
theorem dX1_ask_67 : decode cX1_ask 67 = .ok (.goto (-27), 3) := dk_167 255 229 (dk_at dksX1_ask_2 21 rfl rfl)
theorem dX1_ask_70 : decode cX1_ask 70 = .ok (.lload 5, 2) := dk_22 5 (dk_at dksX1_ask_3 0 rfl rfl)
theorem dX1_ask_72 : decode cX1_ask 72 = .ok (.lload_n 2, 1) := dk_32 (dk_at dksX1_ask_3 2 rfl rfl)
theorem dX1_ask_73 : decode cX1_ask 73 = .ok (.lcmp, 1) := dk_148 (dk_at dksX1_ask_3 3 rfl rfl)
theorem dX1_ask_74 : decode cX1_ask 74 = .ok (.ifCond .ge 8, 3) := dk_156 0 8 (dk_at dksX1_ask_3 4 rfl rfl)
theorem dX1_ask_77 : decode cX1_ask 77 = .ok (.iload 4, 2) := dk_21 4 (dk_at dksX1_ask_3 7 rfl rfl)
theorem dX1_ask_79 : decode cX1_ask 79 = .ok (.goto 4, 3) := dk_167 0 4 (dk_at dksX1_ask_3 9 rfl rfl)
theorem dX1_ask_82 : decode cX1_ask 82 = .ok (.iload_n 1, 1) := dk_27 (dk_at dksX1_ask_3 12 rfl rfl)
theorem dX1_ask_83 : decode cX1_ask 83 = .ok (.istore_n 1, 1) := dk_60 (dk_at dksX1_ask_3 13 rfl rfl)
theorem dX1_ask_84 : decode cX1_ask 84 = .ok (.lload_n 2, 1) := dk_32 (dk_at dksX1_ask_3 14 rfl rfl)
theorem dX1_ask_85 : decode cX1_ask 85 = .ok (.lload 5, 2) := dk_22 5 (dk_at dksX1_ask_3 15 rfl rfl)
theorem dX1_ask_87 : decode cX1_ask 87 = .ok (.invokestatic 475, 3) := dk_184 1 219 (dk_at dksX1_ask_3 17 rfl rfl)
theorem dX1_ask_90 : decode cX1_ask 90 = .ok (.lstore_n 2, 1) := dk_65 (dk_at dksX1_ask_3 20 rfl rfl)
theorem dX1_ask_91 : decode cX1_ask 91 = .ok (.iinc 4 1, 3) := dk_132 4 1 (dk_at dksX1_ask_3 21 rfl rfl)
theorem dX1_ask_94 : decode cX1_ask 94 = .ok (.goto (-69), 3) := dk_167 255 187 (dk_at dksX1_ask_4 0 rfl rfl)
theorem dX1_ask_97 : decode cX1_ask 97 = .ok (.aload_n 0, 1) := dk_42 (dk_at dksX1_ask_4 3 rfl rfl)
theorem dX1_ask_98 : decode cX1_ask 98 = .ok (.iconst 0, 1) := dk_3 (dk_at dksX1_ask_4 4 rfl rfl)
theorem dX1_ask_99 : decode cX1_ask 99 = .ok (.putfield 360, 3) := dk_181 1 104 (dk_at dksX1_ask_4 5 rfl rfl)
theorem dX1_ask_102 : decode cX1_ask 102 = .ok (.aload_n 0, 1) := dk_42 (dk_at dksX1_ask_4 8 rfl rfl)
theorem dX1_ask_103 : decode cX1_ask 103 = .ok (.lload_n 2, 1) := dk_32 (dk_at dksX1_ask_4 9 rfl rfl)
theorem dX1_ask_104 : decode cX1_ask 104 = .ok (.invokevirtual 363, 3) := dk_182 1 107 (dk_at dksX1_ask_4 10 rfl rfl)
theorem dX1_ask_107 : decode cX1_ask 107 = .ok (.iload_n 1, 1) := dk_27 (dk_at dksX1_ask_4 13 rfl rfl)
theorem dX1_ask_108 : decode cX1_ask 108 = .ok (.ireturn, 1) := dk_172 (dk_at dksX1_ask_4 14 rfl rfl)
abbrev cX1_held : ByteArray := prog_1_method_94_code
def yX1_held : MethodName := ⟨RX1, "held", "(I)I"⟩
def dkwX1_held_1 : List UInt8 := [42, 182, 1, 171, 184, 1, 70, 184, 1, 226, 182, 1, 209, 3, 172]
abbrev dktX1_held_1 : List UInt8 := dkwX1_held_1 ++ []
def dkwX1_held_0 : List UInt8 := [27, 133, 9, 20, 1, 221, 184, 0, 124, 154, 0, 5, 2, 172, 42, 42, 42, 182, 1, 171, 27, 182, 1, 223]
abbrev dktX1_held_0 : List UInt8 := dkwX1_held_0 ++ dktX1_held_1
theorem dksX1_held_0 : cX1_held.data.toList.drop 0 = dktX1_held_0 := by decide +kernel
theorem dksX1_held_1 : cX1_held.data.toList.drop 24 = dktX1_held_1 := dk_seg dksX1_held_0 24 rfl rfl
theorem dX1_held_0 : decode cX1_held 0 = .ok (.iload_n 1, 1) := dk_27 (dk_at dksX1_held_0 0 rfl rfl)
theorem dX1_held_1 : decode cX1_held 1 = .ok (.i2l, 1) := dk_133 (dk_at dksX1_held_0 1 rfl rfl)
theorem dX1_held_2 : decode cX1_held 2 = .ok (.lconst 0, 1) := dk_9 (dk_at dksX1_held_0 2 rfl rfl)
theorem dX1_held_3 : decode cX1_held 3 = .ok (.ldc2_w 477, 3) := dk_20 1 221 (dk_at dksX1_held_0 3 rfl rfl)
theorem dX1_held_6 : decode cX1_held 6 = .ok (.invokestatic 124, 3) := dk_184 0 124 (dk_at dksX1_held_0 6 rfl rfl)
theorem dX1_held_9 : decode cX1_held 9 = .ok (.ifCond .ne 5, 3) := dk_154 0 5 (dk_at dksX1_held_0 9 rfl rfl)
theorem dX1_held_12 : decode cX1_held 12 = .ok (.iconst (-1), 1) := dk_2 (dk_at dksX1_held_0 12 rfl rfl)
theorem dX1_held_13 : decode cX1_held 13 = .ok (.ireturn, 1) := dk_172 (dk_at dksX1_held_0 13 rfl rfl)
theorem dX1_held_14 : decode cX1_held 14 = .ok (.aload_n 0, 1) := dk_42 (dk_at dksX1_held_0 14 rfl rfl)
theorem dX1_held_15 : decode cX1_held 15 = .ok (.aload_n 0, 1) := dk_42 (dk_at dksX1_held_0 15 rfl rfl)
theorem dX1_held_16 : decode cX1_held 16 = .ok (.aload_n 0, 1) := dk_42 (dk_at dksX1_held_0 16 rfl rfl)
theorem dX1_held_17 : decode cX1_held 17 = .ok (.invokevirtual 427, 3) := dk_182 1 171 (dk_at dksX1_held_0 17 rfl rfl)
theorem dX1_held_20 : decode cX1_held 20 = .ok (.iload_n 1, 1) := dk_27 (dk_at dksX1_held_0 20 rfl rfl)
theorem dX1_held_21 : decode cX1_held 21 = .ok (.invokevirtual 479, 3) := dk_182 1 223 (dk_at dksX1_held_0 21 rfl rfl)
theorem dX1_held_24 : decode cX1_held 24 = .ok (.aload_n 0, 1) := dk_42 (dk_at dksX1_held_1 0 rfl rfl)
theorem dX1_held_25 : decode cX1_held 25 = .ok (.invokevirtual 427, 3) := dk_182 1 171 (dk_at dksX1_held_1 1 rfl rfl)
theorem dX1_held_28 : decode cX1_held 28 = .ok (.invokestatic 326, 3) := dk_184 1 70 (dk_at dksX1_held_1 4 rfl rfl)
theorem dX1_held_31 : decode cX1_held 31 = .ok (.invokestatic 482, 3) := dk_184 1 226 (dk_at dksX1_held_1 7 rfl rfl)
theorem dX1_held_34 : decode cX1_held 34 = .ok (.invokevirtual 465, 3) := dk_182 1 209 (dk_at dksX1_held_1 10 rfl rfl)
theorem dX1_held_37 : decode cX1_held 37 = .ok (.iconst 0, 1) := dk_3 (dk_at dksX1_held_1 13 rfl rfl)
theorem dX1_held_38 : decode cX1_held 38 = .ok (.ireturn, 1) := dk_172 (dk_at dksX1_held_1 14 rfl rfl)
abbrev cX1_heldBy : ByteArray := prog_1_method_93_code
def yX1_heldBy : MethodName := ⟨RX1, "heldBy", "(II)J"⟩
def dkwX1_heldBy_4 : List UInt8 := [22, 6, 97, 66, 132, 5, 1, 167, 255, 162, 33, 173]
abbrev dktX1_heldBy_4 : List UInt8 := dkwX1_heldBy_4 ++ []
def dkwX1_heldBy_3 : List UInt8 := [153, 0, 11, 16, 10, 28, 100, 133, 167, 0, 5, 28, 133, 105, 55, 6, 132, 8, 1, 167, 255, 206, 33]
abbrev dktX1_heldBy_3 : List UInt8 := dkwX1_heldBy_3 ++ dktX1_heldBy_4
def dkwX1_heldBy_2 : List UInt8 := [22, 6, 27, 21, 8, 184, 1, 25, 154, 0, 7, 10, 167, 0, 23, 21, 5, 21, 8, 184, 1, 25]
abbrev dktX1_heldBy_2 : List UInt8 := dkwX1_heldBy_2 ++ dktX1_heldBy_3
def dkwX1_heldBy_1 : List UInt8 := [182, 1, 168, 153, 0, 6, 167, 0, 67, 10, 55, 6, 3, 54, 8, 21, 8, 42, 180, 0, 121, 162, 0, 47]
abbrev dktX1_heldBy_1 : List UInt8 := dkwX1_heldBy_1 ++ dktX1_heldBy_2
def dkwX1_heldBy_0 : List UInt8 := [9, 66, 3, 54, 5, 21, 5, 27, 163, 0, 94, 21, 5, 27, 2, 130, 126, 154, 0, 79, 42, 21, 5]
abbrev dktX1_heldBy_0 : List UInt8 := dkwX1_heldBy_0 ++ dktX1_heldBy_1
theorem dksX1_heldBy_0 : cX1_heldBy.data.toList.drop 0 = dktX1_heldBy_0 := by decide +kernel
theorem dksX1_heldBy_1 : cX1_heldBy.data.toList.drop 23 = dktX1_heldBy_1 := dk_seg dksX1_heldBy_0 23 rfl rfl
theorem dksX1_heldBy_2 : cX1_heldBy.data.toList.drop 47 = dktX1_heldBy_2 := dk_seg dksX1_heldBy_1 24 rfl rfl
theorem dksX1_heldBy_3 : cX1_heldBy.data.toList.drop 69 = dktX1_heldBy_3 := dk_seg dksX1_heldBy_2 22 rfl rfl
theorem dksX1_heldBy_4 : cX1_heldBy.data.toList.drop 92 = dktX1_heldBy_4 := dk_seg dksX1_heldBy_3 23 rfl rfl
theorem dX1_heldBy_0 : decode cX1_heldBy 0 = .ok (.lconst 0, 1) := dk_9 (dk_at dksX1_heldBy_0 0 rfl rfl)
theorem dX1_heldBy_1 : decode cX1_heldBy 1 = .ok (.lstore_n 3, 1) := dk_66 (dk_at dksX1_heldBy_0 1 rfl rfl)
theorem dX1_heldBy_2 : decode cX1_heldBy 2 = .ok (.iconst 0, 1) := dk_3 (dk_at dksX1_heldBy_0 2 rfl rfl)
theorem dX1_heldBy_3 : decode cX1_heldBy 3 = .ok (.istore 5, 2) := dk_54 5 (dk_at dksX1_heldBy_0 3 rfl rfl)
theorem dX1_heldBy_5 : decode cX1_heldBy 5 = .ok (.iload 5, 2) := dk_21 5 (dk_at dksX1_heldBy_0 5 rfl rfl)
theorem dX1_heldBy_7 : decode cX1_heldBy 7 = .ok (.iload_n 1, 1) := dk_27 (dk_at dksX1_heldBy_0 7 rfl rfl)
theorem dX1_heldBy_8 : decode cX1_heldBy 8 = .ok (.if_icmp .gt 94, 3) := dk_163 0 94 (dk_at dksX1_heldBy_0 8 rfl rfl)
theorem dX1_heldBy_11 : decode cX1_heldBy 11 = .ok (.iload 5, 2) := dk_21 5 (dk_at dksX1_heldBy_0 11 rfl rfl)
theorem dX1_heldBy_13 : decode cX1_heldBy 13 = .ok (.iload_n 1, 1) := dk_27 (dk_at dksX1_heldBy_0 13 rfl rfl)
theorem dX1_heldBy_14 : decode cX1_heldBy 14 = .ok (.iconst (-1), 1) := dk_2 (dk_at dksX1_heldBy_0 14 rfl rfl)
theorem dX1_heldBy_15 : decode cX1_heldBy 15 = .ok (.ixor, 1) := dk_130 (dk_at dksX1_heldBy_0 15 rfl rfl)
theorem dX1_heldBy_16 : decode cX1_heldBy 16 = .ok (.iand, 1) := dk_126 (dk_at dksX1_heldBy_0 16 rfl rfl)
theorem dX1_heldBy_17 : decode cX1_heldBy 17 = .ok (.ifCond .ne 79, 3) := dk_154 0 79 (dk_at dksX1_heldBy_0 17 rfl rfl)
theorem dX1_heldBy_20 : decode cX1_heldBy 20 = .ok (.aload_n 0, 1) := dk_42 (dk_at dksX1_heldBy_0 20 rfl rfl)
theorem dX1_heldBy_21 : decode cX1_heldBy 21 = .ok (.iload 5, 2) := dk_21 5 (dk_at dksX1_heldBy_0 21 rfl rfl)
theorem dX1_heldBy_23 : decode cX1_heldBy 23 = .ok (.invokevirtual 424, 3) := dk_182 1 168 (dk_at dksX1_heldBy_1 0 rfl rfl)
theorem dX1_heldBy_26 : decode cX1_heldBy 26 = .ok (.ifCond .eq 6, 3) := dk_153 0 6 (dk_at dksX1_heldBy_1 3 rfl rfl)
theorem dX1_heldBy_29 : decode cX1_heldBy 29 = .ok (.goto 67, 3) := dk_167 0 67 (dk_at dksX1_heldBy_1 6 rfl rfl)
theorem dX1_heldBy_32 : decode cX1_heldBy 32 = .ok (.lconst 1, 1) := dk_10 (dk_at dksX1_heldBy_1 9 rfl rfl)
theorem dX1_heldBy_33 : decode cX1_heldBy 33 = .ok (.lstore 6, 2) := dk_55 6 (dk_at dksX1_heldBy_1 10 rfl rfl)
theorem dX1_heldBy_35 : decode cX1_heldBy 35 = .ok (.iconst 0, 1) := dk_3 (dk_at dksX1_heldBy_1 12 rfl rfl)
theorem dX1_heldBy_36 : decode cX1_heldBy 36 = .ok (.istore 8, 2) := dk_54 8 (dk_at dksX1_heldBy_1 13 rfl rfl)
theorem dX1_heldBy_38 : decode cX1_heldBy 38 = .ok (.iload 8, 2) := dk_21 8 (dk_at dksX1_heldBy_1 15 rfl rfl)
theorem dX1_heldBy_40 : decode cX1_heldBy 40 = .ok (.aload_n 0, 1) := dk_42 (dk_at dksX1_heldBy_1 17 rfl rfl)
theorem dX1_heldBy_41 : decode cX1_heldBy 41 = .ok (.getfield 121, 3) := dk_180 0 121 (dk_at dksX1_heldBy_1 18 rfl rfl)
theorem dX1_heldBy_44 : decode cX1_heldBy 44 = .ok (.if_icmp .ge 47, 3) := dk_162 0 47 (dk_at dksX1_heldBy_1 21 rfl rfl)
theorem dX1_heldBy_47 : decode cX1_heldBy 47 = .ok (.lload 6, 2) := dk_22 6 (dk_at dksX1_heldBy_2 0 rfl rfl)
theorem dX1_heldBy_49 : decode cX1_heldBy 49 = .ok (.iload_n 1, 1) := dk_27 (dk_at dksX1_heldBy_2 2 rfl rfl)
theorem dX1_heldBy_50 : decode cX1_heldBy 50 = .ok (.iload 8, 2) := dk_21 8 (dk_at dksX1_heldBy_2 3 rfl rfl)
theorem dX1_heldBy_52 : decode cX1_heldBy 52 = .ok (.invokestatic 281, 3) := dk_184 1 25 (dk_at dksX1_heldBy_2 5 rfl rfl)
theorem dX1_heldBy_55 : decode cX1_heldBy 55 = .ok (.ifCond .ne 7, 3) := dk_154 0 7 (dk_at dksX1_heldBy_2 8 rfl rfl)
theorem dX1_heldBy_58 : decode cX1_heldBy 58 = .ok (.lconst 1, 1) := dk_10 (dk_at dksX1_heldBy_2 11 rfl rfl)
theorem dX1_heldBy_59 : decode cX1_heldBy 59 = .ok (.goto 23, 3) := dk_167 0 23 (dk_at dksX1_heldBy_2 12 rfl rfl)
theorem dX1_heldBy_62 : decode cX1_heldBy 62 = .ok (.iload 5, 2) := dk_21 5 (dk_at dksX1_heldBy_2 15 rfl rfl)
theorem dX1_heldBy_64 : decode cX1_heldBy 64 = .ok (.iload 8, 2) := dk_21 8 (dk_at dksX1_heldBy_2 17 rfl rfl)
theorem dX1_heldBy_66 : decode cX1_heldBy 66 = .ok (.invokestatic 281, 3) := dk_184 1 25 (dk_at dksX1_heldBy_2 19 rfl rfl)
theorem dX1_heldBy_69 : decode cX1_heldBy 69 = .ok (.ifCond .eq 11, 3) := dk_153 0 11 (dk_at dksX1_heldBy_3 0 rfl rfl)
theorem dX1_heldBy_72 : decode cX1_heldBy 72 = .ok (.bipush 10, 2) := dk_16 10 (dk_at dksX1_heldBy_3 3 rfl rfl)
theorem dX1_heldBy_74 : decode cX1_heldBy 74 = .ok (.iload_n 2, 1) := dk_28 (dk_at dksX1_heldBy_3 5 rfl rfl)
theorem dX1_heldBy_75 : decode cX1_heldBy 75 = .ok (.isub, 1) := dk_100 (dk_at dksX1_heldBy_3 6 rfl rfl)
theorem dX1_heldBy_76 : decode cX1_heldBy 76 = .ok (.i2l, 1) := dk_133 (dk_at dksX1_heldBy_3 7 rfl rfl)
theorem dX1_heldBy_77 : decode cX1_heldBy 77 = .ok (.goto 5, 3) := dk_167 0 5 (dk_at dksX1_heldBy_3 8 rfl rfl)
theorem dX1_heldBy_80 : decode cX1_heldBy 80 = .ok (.iload_n 2, 1) := dk_28 (dk_at dksX1_heldBy_3 11 rfl rfl)
theorem dX1_heldBy_81 : decode cX1_heldBy 81 = .ok (.i2l, 1) := dk_133 (dk_at dksX1_heldBy_3 12 rfl rfl)
theorem dX1_heldBy_82 : decode cX1_heldBy 82 = .ok (.lmul, 1) := dk_105 (dk_at dksX1_heldBy_3 13 rfl rfl)
theorem dX1_heldBy_83 : decode cX1_heldBy 83 = .ok (.lstore 6, 2) := dk_55 6 (dk_at dksX1_heldBy_3 14 rfl rfl)
theorem dX1_heldBy_85 : decode cX1_heldBy 85 = .ok (.iinc 8 1, 3) := dk_132 8 1 (dk_at dksX1_heldBy_3 16 rfl rfl)
theorem dX1_heldBy_88 : decode cX1_heldBy 88 = .ok (.goto (-50), 3) := dk_167 255 206 (dk_at dksX1_heldBy_3 19 rfl rfl)
theorem dX1_heldBy_91 : decode cX1_heldBy 91 = .ok (.lload_n 3, 1) := dk_33 (dk_at dksX1_heldBy_3 22 rfl rfl)
theorem dX1_heldBy_92 : decode cX1_heldBy 92 = .ok (.lload 6, 2) := dk_22 6 (dk_at dksX1_heldBy_4 0 rfl rfl)
theorem dX1_heldBy_94 : decode cX1_heldBy 94 = .ok (.ladd, 1) := dk_97 (dk_at dksX1_heldBy_4 2 rfl rfl)
theorem dX1_heldBy_95 : decode cX1_heldBy 95 = .ok (.lstore_n 3, 1) := dk_66 (dk_at dksX1_heldBy_4 3 rfl rfl)
theorem dX1_heldBy_96 : decode cX1_heldBy 96 = .ok (.iinc 5 1, 3) := dk_132 5 1 (dk_at dksX1_heldBy_4 4 rfl rfl)
theorem dX1_heldBy_99 : decode cX1_heldBy 99 = .ok (.goto (-94), 3) := dk_167 255 162 (dk_at dksX1_heldBy_4 7 rfl rfl)
theorem dX1_heldBy_102 : decode cX1_heldBy 102 = .ok (.lload_n 3, 1) := dk_33 (dk_at dksX1_heldBy_4 10 rfl rfl)
theorem dX1_heldBy_103 : decode cX1_heldBy 103 = .ok (.lreturn, 1) := dk_173 (dk_at dksX1_heldBy_4 11 rfl rfl)
abbrev cX1_tenTo : ByteArray := prog_1_method_92_code
def yX1_tenTo : MethodName := ⟨RX1, "tenTo", "(I)J"⟩
def dkwX1_tenTo_0 : List UInt8 := [10, 64, 3, 62, 29, 26, 162, 0, 15, 31, 20, 1, 221, 105, 64, 132, 3, 1, 167, 255, 242, 31, 173]
abbrev dktX1_tenTo_0 : List UInt8 := dkwX1_tenTo_0 ++ []
theorem dksX1_tenTo_0 : cX1_tenTo.data.toList.drop 0 = dktX1_tenTo_0 := by decide +kernel
theorem dX1_tenTo_0 : decode cX1_tenTo 0 = .ok (.lconst 1, 1) := dk_10 (dk_at dksX1_tenTo_0 0 rfl rfl)
theorem dX1_tenTo_1 : decode cX1_tenTo 1 = .ok (.lstore_n 1, 1) := dk_64 (dk_at dksX1_tenTo_0 1 rfl rfl)
theorem dX1_tenTo_2 : decode cX1_tenTo 2 = .ok (.iconst 0, 1) := dk_3 (dk_at dksX1_tenTo_0 2 rfl rfl)
theorem dX1_tenTo_3 : decode cX1_tenTo 3 = .ok (.istore_n 3, 1) := dk_62 (dk_at dksX1_tenTo_0 3 rfl rfl)
theorem dX1_tenTo_4 : decode cX1_tenTo 4 = .ok (.iload_n 3, 1) := dk_29 (dk_at dksX1_tenTo_0 4 rfl rfl)
theorem dX1_tenTo_5 : decode cX1_tenTo 5 = .ok (.iload_n 0, 1) := dk_26 (dk_at dksX1_tenTo_0 5 rfl rfl)
theorem dX1_tenTo_6 : decode cX1_tenTo 6 = .ok (.if_icmp .ge 15, 3) := dk_162 0 15 (dk_at dksX1_tenTo_0 6 rfl rfl)
theorem dX1_tenTo_9 : decode cX1_tenTo 9 = .ok (.lload_n 1, 1) := dk_31 (dk_at dksX1_tenTo_0 9 rfl rfl)
theorem dX1_tenTo_10 : decode cX1_tenTo 10 = .ok (.ldc2_w 477, 3) := dk_20 1 221 (dk_at dksX1_tenTo_0 10 rfl rfl)
theorem dX1_tenTo_13 : decode cX1_tenTo 13 = .ok (.lmul, 1) := dk_105 (dk_at dksX1_tenTo_0 13 rfl rfl)
theorem dX1_tenTo_14 : decode cX1_tenTo 14 = .ok (.lstore_n 1, 1) := dk_64 (dk_at dksX1_tenTo_0 14 rfl rfl)
theorem dX1_tenTo_15 : decode cX1_tenTo 15 = .ok (.iinc 3 1, 3) := dk_132 3 1 (dk_at dksX1_tenTo_0 15 rfl rfl)
theorem dX1_tenTo_18 : decode cX1_tenTo 18 = .ok (.goto (-14), 3) := dk_167 255 242 (dk_at dksX1_tenTo_0 18 rfl rfl)
theorem dX1_tenTo_21 : decode cX1_tenTo 21 = .ok (.lload_n 1, 1) := dk_31 (dk_at dksX1_tenTo_0 21 rfl rfl)
theorem dX1_tenTo_22 : decode cX1_tenTo 22 = .ok (.lreturn, 1) := dk_173 (dk_at dksX1_tenTo_0 22 rfl rfl)
abbrev cX1_keystone : ByteArray := prog_1_method_95_code
def yX1_keystone : MethodName := ⟨RX1, "keystone", "(I)I"⟩
def dkwX1_keystone_5 : List UInt8 := [172]
abbrev dktX1_keystone_5 : List UInt8 := dkwX1_keystone_5 ++ []
def dkwX1_keystone_4 : List UInt8 := [156, 0, 6, 16, 254, 172, 42, 33, 42, 182, 1, 171, 184, 1, 70, 4, 100, 184, 1, 226, 182, 1, 209, 28]
abbrev dktX1_keystone_4 : List UInt8 := dkwX1_keystone_4 ++ dktX1_keystone_5
def dkwX1_keystone_3 : List UInt8 := [156, 0, 8, 21, 5, 167, 0, 4, 28, 61, 33, 22, 6, 184, 1, 219, 66, 132, 5, 1, 167, 255, 190, 28]
abbrev dktX1_keystone_3 : List UInt8 := dkwX1_keystone_3 ++ dktX1_keystone_4
def dkwX1_keystone_2 : List UInt8 := [42, 42, 182, 1, 171, 4, 21, 5, 120, 2, 130, 126, 27, 182, 1, 223, 55, 6, 22, 6, 33, 148]
abbrev dktX1_keystone_2 : List UInt8 := dkwX1_keystone_2 ++ dktX1_keystone_3
def dkwX1_keystone_1 : List UInt8 := [21, 5, 42, 180, 0, 121, 162, 0, 63, 42, 182, 1, 171, 21, 5, 184, 1, 25, 154, 0, 6, 167, 0, 42]
abbrev dktX1_keystone_1 : List UInt8 := dkwX1_keystone_1 ++ dktX1_keystone_2
def dkwX1_keystone_0 : List UInt8 := [27, 133, 9, 20, 1, 221, 184, 0, 124, 154, 0, 5, 2, 172, 16, 254, 61, 20, 1, 215, 66, 3, 54, 5]
abbrev dktX1_keystone_0 : List UInt8 := dkwX1_keystone_0 ++ dktX1_keystone_1
theorem dksX1_keystone_0 : cX1_keystone.data.toList.drop 0 = dktX1_keystone_0 := by decide +kernel
theorem dksX1_keystone_1 : cX1_keystone.data.toList.drop 24 = dktX1_keystone_1 := dk_seg dksX1_keystone_0 24 rfl rfl
theorem dksX1_keystone_2 : cX1_keystone.data.toList.drop 48 = dktX1_keystone_2 := dk_seg dksX1_keystone_1 24 rfl rfl
theorem dksX1_keystone_3 : cX1_keystone.data.toList.drop 70 = dktX1_keystone_3 := dk_seg dksX1_keystone_2 22 rfl rfl
theorem dksX1_keystone_4 : cX1_keystone.data.toList.drop 94 = dktX1_keystone_4 := dk_seg dksX1_keystone_3 24 rfl rfl
theorem dksX1_keystone_5 : cX1_keystone.data.toList.drop 118 = dktX1_keystone_5 := dk_seg dksX1_keystone_4 24 rfl rfl
theorem dX1_keystone_0 : decode cX1_keystone 0 = .ok (.iload_n 1, 1) := dk_27 (dk_at dksX1_keystone_0 0 rfl rfl)
theorem dX1_keystone_1 : decode cX1_keystone 1 = .ok (.i2l, 1) := dk_133 (dk_at dksX1_keystone_0 1 rfl rfl)
theorem dX1_keystone_2 : decode cX1_keystone 2 = .ok (.lconst 0, 1) := dk_9 (dk_at dksX1_keystone_0 2 rfl rfl)
theorem dX1_keystone_3 : decode cX1_keystone 3 = .ok (.ldc2_w 477, 3) := dk_20 1 221 (dk_at dksX1_keystone_0 3 rfl rfl)
theorem dX1_keystone_6 : decode cX1_keystone 6 = .ok (.invokestatic 124, 3) := dk_184 0 124 (dk_at dksX1_keystone_0 6 rfl rfl)
theorem dX1_keystone_9 : decode cX1_keystone 9 = .ok (.ifCond .ne 5, 3) := dk_154 0 5 (dk_at dksX1_keystone_0 9 rfl rfl)
theorem dX1_keystone_12 : decode cX1_keystone 12 = .ok (.iconst (-1), 1) := dk_2 (dk_at dksX1_keystone_0 12 rfl rfl)
theorem dX1_keystone_13 : decode cX1_keystone 13 = .ok (.ireturn, 1) := dk_172 (dk_at dksX1_keystone_0 13 rfl rfl)
theorem dX1_keystone_14 : decode cX1_keystone 14 = .ok (.bipush (-2), 2) := dk_16 254 (dk_at dksX1_keystone_0 14 rfl rfl)
theorem dX1_keystone_16 : decode cX1_keystone 16 = .ok (.istore_n 2, 1) := dk_61 (dk_at dksX1_keystone_0 16 rfl rfl)
theorem dX1_keystone_17 : decode cX1_keystone 17 = .ok (.ldc2_w 471, 3) := dk_20 1 215 (dk_at dksX1_keystone_0 17 rfl rfl)
theorem dX1_keystone_20 : decode cX1_keystone 20 = .ok (.lstore_n 3, 1) := dk_66 (dk_at dksX1_keystone_0 20 rfl rfl)
theorem dX1_keystone_21 : decode cX1_keystone 21 = .ok (.iconst 0, 1) := dk_3 (dk_at dksX1_keystone_0 21 rfl rfl)
theorem dX1_keystone_22 : decode cX1_keystone 22 = .ok (.istore 5, 2) := dk_54 5 (dk_at dksX1_keystone_0 22 rfl rfl)
theorem dX1_keystone_24 : decode cX1_keystone 24 = .ok (.iload 5, 2) := dk_21 5 (dk_at dksX1_keystone_1 0 rfl rfl)
theorem dX1_keystone_26 : decode cX1_keystone 26 = .ok (.aload_n 0, 1) := dk_42 (dk_at dksX1_keystone_1 2 rfl rfl)
theorem dX1_keystone_27 : decode cX1_keystone 27 = .ok (.getfield 121, 3) := dk_180 0 121 (dk_at dksX1_keystone_1 3 rfl rfl)
theorem dX1_keystone_30 : decode cX1_keystone 30 = .ok (.if_icmp .ge 63, 3) := dk_162 0 63 (dk_at dksX1_keystone_1 6 rfl rfl)
theorem dX1_keystone_33 : decode cX1_keystone 33 = .ok (.aload_n 0, 1) := dk_42 (dk_at dksX1_keystone_1 9 rfl rfl)
theorem dX1_keystone_34 : decode cX1_keystone 34 = .ok (.invokevirtual 427, 3) := dk_182 1 171 (dk_at dksX1_keystone_1 10 rfl rfl)
theorem dX1_keystone_37 : decode cX1_keystone 37 = .ok (.iload 5, 2) := dk_21 5 (dk_at dksX1_keystone_1 13 rfl rfl)
theorem dX1_keystone_39 : decode cX1_keystone 39 = .ok (.invokestatic 281, 3) := dk_184 1 25 (dk_at dksX1_keystone_1 15 rfl rfl)
theorem dX1_keystone_42 : decode cX1_keystone 42 = .ok (.ifCond .ne 6, 3) := dk_154 0 6 (dk_at dksX1_keystone_1 18 rfl rfl)
theorem dX1_keystone_45 : decode cX1_keystone 45 = .ok (.goto 42, 3) := dk_167 0 42 (dk_at dksX1_keystone_1 21 rfl rfl)
theorem dX1_keystone_48 : decode cX1_keystone 48 = .ok (.aload_n 0, 1) := dk_42 (dk_at dksX1_keystone_2 0 rfl rfl)
theorem dX1_keystone_49 : decode cX1_keystone 49 = .ok (.aload_n 0, 1) := dk_42 (dk_at dksX1_keystone_2 1 rfl rfl)
theorem dX1_keystone_50 : decode cX1_keystone 50 = .ok (.invokevirtual 427, 3) := dk_182 1 171 (dk_at dksX1_keystone_2 2 rfl rfl)
theorem dX1_keystone_53 : decode cX1_keystone 53 = .ok (.iconst 1, 1) := dk_4 (dk_at dksX1_keystone_2 5 rfl rfl)
theorem dX1_keystone_54 : decode cX1_keystone 54 = .ok (.iload 5, 2) := dk_21 5 (dk_at dksX1_keystone_2 6 rfl rfl)
theorem dX1_keystone_56 : decode cX1_keystone 56 = .ok (.ishl, 1) := dk_120 (dk_at dksX1_keystone_2 8 rfl rfl)
theorem dX1_keystone_57 : decode cX1_keystone 57 = .ok (.iconst (-1), 1) := dk_2 (dk_at dksX1_keystone_2 9 rfl rfl)
theorem dX1_keystone_58 : decode cX1_keystone 58 = .ok (.ixor, 1) := dk_130 (dk_at dksX1_keystone_2 10 rfl rfl)
theorem dX1_keystone_59 : decode cX1_keystone 59 = .ok (.iand, 1) := dk_126 (dk_at dksX1_keystone_2 11 rfl rfl)
theorem dX1_keystone_60 : decode cX1_keystone 60 = .ok (.iload_n 1, 1) := dk_27 (dk_at dksX1_keystone_2 12 rfl rfl)
theorem dX1_keystone_61 : decode cX1_keystone 61 = .ok (.invokevirtual 479, 3) := dk_182 1 223 (dk_at dksX1_keystone_2 13 rfl rfl)
theorem dX1_keystone_64 : decode cX1_keystone 64 = .ok (.lstore 6, 2) := dk_55 6 (dk_at dksX1_keystone_2 16 rfl rfl)
theorem dX1_keystone_66 : decode cX1_keystone 66 = .ok (.lload 6, 2) := dk_22 6 (dk_at dksX1_keystone_2 18 rfl rfl)
theorem dX1_keystone_68 : decode cX1_keystone 68 = .ok (.lload_n 3, 1) := dk_33 (dk_at dksX1_keystone_2 20 rfl rfl)
theorem dX1_keystone_69 : decode cX1_keystone 69 = .ok (.lcmp, 1) := dk_148 (dk_at dksX1_keystone_2 21 rfl rfl)
theorem dX1_keystone_70 : decode cX1_keystone 70 = .ok (.ifCond .ge 8, 3) := dk_156 0 8 (dk_at dksX1_keystone_3 0 rfl rfl)
theorem dX1_keystone_73 : decode cX1_keystone 73 = .ok (.iload 5, 2) := dk_21 5 (dk_at dksX1_keystone_3 3 rfl rfl)
theorem dX1_keystone_75 : decode cX1_keystone 75 = .ok (.goto 4, 3) := dk_167 0 4 (dk_at dksX1_keystone_3 5 rfl rfl)
theorem dX1_keystone_78 : decode cX1_keystone 78 = .ok (.iload_n 2, 1) := dk_28 (dk_at dksX1_keystone_3 8 rfl rfl)
theorem dX1_keystone_79 : decode cX1_keystone 79 = .ok (.istore_n 2, 1) := dk_61 (dk_at dksX1_keystone_3 9 rfl rfl)
theorem dX1_keystone_80 : decode cX1_keystone 80 = .ok (.lload_n 3, 1) := dk_33 (dk_at dksX1_keystone_3 10 rfl rfl)
theorem dX1_keystone_81 : decode cX1_keystone 81 = .ok (.lload 6, 2) := dk_22 6 (dk_at dksX1_keystone_3 11 rfl rfl)
theorem dX1_keystone_83 : decode cX1_keystone 83 = .ok (.invokestatic 475, 3) := dk_184 1 219 (dk_at dksX1_keystone_3 13 rfl rfl)
theorem dX1_keystone_86 : decode cX1_keystone 86 = .ok (.lstore_n 3, 1) := dk_66 (dk_at dksX1_keystone_3 16 rfl rfl)
theorem dX1_keystone_87 : decode cX1_keystone 87 = .ok (.iinc 5 1, 3) := dk_132 5 1 (dk_at dksX1_keystone_3 17 rfl rfl)
theorem dX1_keystone_90 : decode cX1_keystone 90 = .ok (.goto (-66), 3) := dk_167 255 190 (dk_at dksX1_keystone_3 20 rfl rfl)
theorem dX1_keystone_93 : decode cX1_keystone 93 = .ok (.iload_n 2, 1) := dk_28 (dk_at dksX1_keystone_3 23 rfl rfl)
theorem dX1_keystone_94 : decode cX1_keystone 94 = .ok (.ifCond .ge 6, 3) := dk_156 0 6 (dk_at dksX1_keystone_4 0 rfl rfl)
theorem dX1_keystone_97 : decode cX1_keystone 97 = .ok (.bipush (-2), 2) := dk_16 254 (dk_at dksX1_keystone_4 3 rfl rfl)
theorem dX1_keystone_99 : decode cX1_keystone 99 = .ok (.ireturn, 1) := dk_172 (dk_at dksX1_keystone_4 5 rfl rfl)
theorem dX1_keystone_100 : decode cX1_keystone 100 = .ok (.aload_n 0, 1) := dk_42 (dk_at dksX1_keystone_4 6 rfl rfl)
theorem dX1_keystone_101 : decode cX1_keystone 101 = .ok (.lload_n 3, 1) := dk_33 (dk_at dksX1_keystone_4 7 rfl rfl)
theorem dX1_keystone_102 : decode cX1_keystone 102 = .ok (.aload_n 0, 1) := dk_42 (dk_at dksX1_keystone_4 8 rfl rfl)
theorem dX1_keystone_103 : decode cX1_keystone 103 = .ok (.invokevirtual 427, 3) := dk_182 1 171 (dk_at dksX1_keystone_4 9 rfl rfl)
theorem dX1_keystone_106 : decode cX1_keystone 106 = .ok (.invokestatic 326, 3) := dk_184 1 70 (dk_at dksX1_keystone_4 12 rfl rfl)
theorem dX1_keystone_109 : decode cX1_keystone 109 = .ok (.iconst 1, 1) := dk_4 (dk_at dksX1_keystone_4 15 rfl rfl)
theorem dX1_keystone_110 : decode cX1_keystone 110 = .ok (.isub, 1) := dk_100 (dk_at dksX1_keystone_4 16 rfl rfl)
theorem dX1_keystone_111 : decode cX1_keystone 111 = .ok (.invokestatic 482, 3) := dk_184 1 226 (dk_at dksX1_keystone_4 17 rfl rfl)
theorem dX1_keystone_114 : decode cX1_keystone 114 = .ok (.invokevirtual 465, 3) := dk_182 1 209 (dk_at dksX1_keystone_4 20 rfl rfl)
theorem dX1_keystone_117 : decode cX1_keystone 117 = .ok (.iload_n 2, 1) := dk_28 (dk_at dksX1_keystone_4 23 rfl rfl)
theorem dX1_keystone_118 : decode cX1_keystone 118 = .ok (.ireturn, 1) := dk_172 (dk_at dksX1_keystone_5 0 rfl rfl)
abbrev cX1_rests : ByteArray := prog_1_method_97_code
def yX1_rests : MethodName := ⟨RX1, "rests", "(II)I"⟩
def dkwX1_rests_5 : List UInt8 := [167, 255, 189, 132, 5, 1, 167, 255, 173, 29, 158, 0, 10, 42, 21, 4, 133, 182, 1, 107, 29, 172]
abbrev dktX1_rests_5 : List UInt8 := dkwX1_rests_5 ++ []
def dkwX1_rests_4 : List UInt8 := [164, 0, 6, 167, 0, 17, 42, 21, 5, 133, 182, 1, 107, 42, 21, 6, 133, 182, 1, 107, 132, 6, 1]
abbrev dktX1_rests_4 : List UInt8 := dkwX1_rests_4 ++ dktX1_rests_5
def dkwX1_rests_3 : List UInt8 := [132, 3, 1, 21, 4, 21, 5, 21, 6, 161, 0, 7, 4, 167, 0, 4, 3, 96, 54, 4, 29, 4]
abbrev dktX1_rests_3 : List UInt8 := dkwX1_rests_3 ++ dktX1_rests_4
def dkwX1_rests_2 : List UInt8 := [54, 6, 21, 6, 16, 9, 163, 0, 66, 21, 5, 21, 6, 27, 28, 184, 1, 230, 154, 0, 6, 167, 0, 45]
abbrev dktX1_rests_2 : List UInt8 := dkwX1_rests_2 ++ dktX1_rests_3
def dkwX1_rests_1 : List UInt8 := [2, 172, 3, 62, 3, 54, 4, 42, 3, 181, 1, 104, 3, 54, 5, 21, 5, 16, 9, 163, 0, 82, 3]
abbrev dktX1_rests_1 : List UInt8 := dkwX1_rests_1 ++ dktX1_rests_2
def dkwX1_rests_0 : List UInt8 := [27, 133, 9, 20, 1, 40, 184, 0, 124, 153, 0, 15, 28, 133, 9, 20, 1, 40, 184, 0, 124, 154, 0, 5]
abbrev dktX1_rests_0 : List UInt8 := dkwX1_rests_0 ++ dktX1_rests_1
theorem dksX1_rests_0 : cX1_rests.data.toList.drop 0 = dktX1_rests_0 := by decide +kernel
theorem dksX1_rests_1 : cX1_rests.data.toList.drop 24 = dktX1_rests_1 := dk_seg dksX1_rests_0 24 rfl rfl
theorem dksX1_rests_2 : cX1_rests.data.toList.drop 47 = dktX1_rests_2 := dk_seg dksX1_rests_1 23 rfl rfl
theorem dksX1_rests_3 : cX1_rests.data.toList.drop 71 = dktX1_rests_3 := dk_seg dksX1_rests_2 24 rfl rfl
theorem dksX1_rests_4 : cX1_rests.data.toList.drop 93 = dktX1_rests_4 := dk_seg dksX1_rests_3 22 rfl rfl
theorem dksX1_rests_5 : cX1_rests.data.toList.drop 116 = dktX1_rests_5 := dk_seg dksX1_rests_4 23 rfl rfl
theorem dX1_rests_0 : decode cX1_rests 0 = .ok (.iload_n 1, 1) := dk_27 (dk_at dksX1_rests_0 0 rfl rfl)
theorem dX1_rests_1 : decode cX1_rests 1 = .ok (.i2l, 1) := dk_133 (dk_at dksX1_rests_0 1 rfl rfl)
theorem dX1_rests_2 : decode cX1_rests 2 = .ok (.lconst 0, 1) := dk_9 (dk_at dksX1_rests_0 2 rfl rfl)
theorem dX1_rests_3 : decode cX1_rests 3 = .ok (.ldc2_w 296, 3) := dk_20 1 40 (dk_at dksX1_rests_0 3 rfl rfl)
theorem dX1_rests_6 : decode cX1_rests 6 = .ok (.invokestatic 124, 3) := dk_184 0 124 (dk_at dksX1_rests_0 6 rfl rfl)
theorem dX1_rests_9 : decode cX1_rests 9 = .ok (.ifCond .eq 15, 3) := dk_153 0 15 (dk_at dksX1_rests_0 9 rfl rfl)
theorem dX1_rests_12 : decode cX1_rests 12 = .ok (.iload_n 2, 1) := dk_28 (dk_at dksX1_rests_0 12 rfl rfl)
theorem dX1_rests_13 : decode cX1_rests 13 = .ok (.i2l, 1) := dk_133 (dk_at dksX1_rests_0 13 rfl rfl)
theorem dX1_rests_14 : decode cX1_rests 14 = .ok (.lconst 0, 1) := dk_9 (dk_at dksX1_rests_0 14 rfl rfl)
theorem dX1_rests_15 : decode cX1_rests 15 = .ok (.ldc2_w 296, 3) := dk_20 1 40 (dk_at dksX1_rests_0 15 rfl rfl)
theorem dX1_rests_18 : decode cX1_rests 18 = .ok (.invokestatic 124, 3) := dk_184 0 124 (dk_at dksX1_rests_0 18 rfl rfl)
theorem dX1_rests_21 : decode cX1_rests 21 = .ok (.ifCond .ne 5, 3) := dk_154 0 5 (dk_at dksX1_rests_0 21 rfl rfl)
theorem dX1_rests_24 : decode cX1_rests 24 = .ok (.iconst (-1), 1) := dk_2 (dk_at dksX1_rests_1 0 rfl rfl)
theorem dX1_rests_25 : decode cX1_rests 25 = .ok (.ireturn, 1) := dk_172 (dk_at dksX1_rests_1 1 rfl rfl)
theorem dX1_rests_26 : decode cX1_rests 26 = .ok (.iconst 0, 1) := dk_3 (dk_at dksX1_rests_1 2 rfl rfl)
theorem dX1_rests_27 : decode cX1_rests 27 = .ok (.istore_n 3, 1) := dk_62 (dk_at dksX1_rests_1 3 rfl rfl)
theorem dX1_rests_28 : decode cX1_rests 28 = .ok (.iconst 0, 1) := dk_3 (dk_at dksX1_rests_1 4 rfl rfl)
theorem dX1_rests_29 : decode cX1_rests 29 = .ok (.istore 4, 2) := dk_54 4 (dk_at dksX1_rests_1 5 rfl rfl)
theorem dX1_rests_31 : decode cX1_rests 31 = .ok (.aload_n 0, 1) := dk_42 (dk_at dksX1_rests_1 7 rfl rfl)
theorem dX1_rests_32 : decode cX1_rests 32 = .ok (.iconst 0, 1) := dk_3 (dk_at dksX1_rests_1 8 rfl rfl)
theorem dX1_rests_33 : decode cX1_rests 33 = .ok (.putfield 360, 3) := dk_181 1 104 (dk_at dksX1_rests_1 9 rfl rfl)
theorem dX1_rests_36 : decode cX1_rests 36 = .ok (.iconst 0, 1) := dk_3 (dk_at dksX1_rests_1 12 rfl rfl)
theorem dX1_rests_37 : decode cX1_rests 37 = .ok (.istore 5, 2) := dk_54 5 (dk_at dksX1_rests_1 13 rfl rfl)
theorem dX1_rests_39 : decode cX1_rests 39 = .ok (.iload 5, 2) := dk_21 5 (dk_at dksX1_rests_1 15 rfl rfl)
theorem dX1_rests_41 : decode cX1_rests 41 = .ok (.bipush 9, 2) := dk_16 9 (dk_at dksX1_rests_1 17 rfl rfl)
theorem dX1_rests_43 : decode cX1_rests 43 = .ok (.if_icmp .gt 82, 3) := dk_163 0 82 (dk_at dksX1_rests_1 19 rfl rfl)
theorem dX1_rests_46 : decode cX1_rests 46 = .ok (.iconst 0, 1) := dk_3 (dk_at dksX1_rests_1 22 rfl rfl)
theorem dX1_rests_47 : decode cX1_rests 47 = .ok (.istore 6, 2) := dk_54 6 (dk_at dksX1_rests_2 0 rfl rfl)
theorem dX1_rests_49 : decode cX1_rests 49 = .ok (.iload 6, 2) := dk_21 6 (dk_at dksX1_rests_2 2 rfl rfl)
theorem dX1_rests_51 : decode cX1_rests 51 = .ok (.bipush 9, 2) := dk_16 9 (dk_at dksX1_rests_2 4 rfl rfl)
theorem dX1_rests_53 : decode cX1_rests 53 = .ok (.if_icmp .gt 66, 3) := dk_163 0 66 (dk_at dksX1_rests_2 6 rfl rfl)
theorem dX1_rests_56 : decode cX1_rests 56 = .ok (.iload 5, 2) := dk_21 5 (dk_at dksX1_rests_2 9 rfl rfl)
theorem dX1_rests_58 : decode cX1_rests 58 = .ok (.iload 6, 2) := dk_21 6 (dk_at dksX1_rests_2 11 rfl rfl)
theorem dX1_rests_60 : decode cX1_rests 60 = .ok (.iload_n 1, 1) := dk_27 (dk_at dksX1_rests_2 13 rfl rfl)
theorem dX1_rests_61 : decode cX1_rests 61 = .ok (.iload_n 2, 1) := dk_28 (dk_at dksX1_rests_2 14 rfl rfl)
theorem dX1_rests_62 : decode cX1_rests 62 = .ok (.invokestatic 486, 3) := dk_184 1 230 (dk_at dksX1_rests_2 15 rfl rfl)
theorem dX1_rests_65 : decode cX1_rests 65 = .ok (.ifCond .ne 6, 3) := dk_154 0 6 (dk_at dksX1_rests_2 18 rfl rfl)
theorem dX1_rests_68 : decode cX1_rests 68 = .ok (.goto 45, 3) := dk_167 0 45 (dk_at dksX1_rests_2 21 rfl rfl)
theorem dX1_rests_71 : decode cX1_rests 71 = .ok (.iinc 3 1, 3) := dk_132 3 1 (dk_at dksX1_rests_3 0 rfl rfl)
theorem dX1_rests_74 : decode cX1_rests 74 = .ok (.iload 4, 2) := dk_21 4 (dk_at dksX1_rests_3 3 rfl rfl)
theorem dX1_rests_76 : decode cX1_rests 76 = .ok (.iload 5, 2) := dk_21 5 (dk_at dksX1_rests_3 5 rfl rfl)
theorem dX1_rests_78 : decode cX1_rests 78 = .ok (.iload 6, 2) := dk_21 6 (dk_at dksX1_rests_3 7 rfl rfl)
theorem dX1_rests_80 : decode cX1_rests 80 = .ok (.if_icmp .lt 7, 3) := dk_161 0 7 (dk_at dksX1_rests_3 9 rfl rfl)
theorem dX1_rests_83 : decode cX1_rests 83 = .ok (.iconst 1, 1) := dk_4 (dk_at dksX1_rests_3 12 rfl rfl)
theorem dX1_rests_84 : decode cX1_rests 84 = .ok (.goto 4, 3) := dk_167 0 4 (dk_at dksX1_rests_3 13 rfl rfl)
theorem dX1_rests_87 : decode cX1_rests 87 = .ok (.iconst 0, 1) := dk_3 (dk_at dksX1_rests_3 16 rfl rfl)
theorem dX1_rests_88 : decode cX1_rests 88 = .ok (.iadd, 1) := dk_96 (dk_at dksX1_rests_3 17 rfl rfl)
theorem dX1_rests_89 : decode cX1_rests 89 = .ok (.istore 4, 2) := dk_54 4 (dk_at dksX1_rests_3 18 rfl rfl)
theorem dX1_rests_91 : decode cX1_rests 91 = .ok (.iload_n 3, 1) := dk_29 (dk_at dksX1_rests_3 20 rfl rfl)
theorem dX1_rests_92 : decode cX1_rests 92 = .ok (.iconst 1, 1) := dk_4 (dk_at dksX1_rests_3 21 rfl rfl)
theorem dX1_rests_93 : decode cX1_rests 93 = .ok (.if_icmp .le 6, 3) := dk_164 0 6 (dk_at dksX1_rests_4 0 rfl rfl)
theorem dX1_rests_96 : decode cX1_rests 96 = .ok (.goto 17, 3) := dk_167 0 17 (dk_at dksX1_rests_4 3 rfl rfl)
theorem dX1_rests_99 : decode cX1_rests 99 = .ok (.aload_n 0, 1) := dk_42 (dk_at dksX1_rests_4 6 rfl rfl)
theorem dX1_rests_100 : decode cX1_rests 100 = .ok (.iload 5, 2) := dk_21 5 (dk_at dksX1_rests_4 7 rfl rfl)
theorem dX1_rests_102 : decode cX1_rests 102 = .ok (.i2l, 1) := dk_133 (dk_at dksX1_rests_4 9 rfl rfl)
theorem dX1_rests_103 : decode cX1_rests 103 = .ok (.invokevirtual 363, 3) := dk_182 1 107 (dk_at dksX1_rests_4 10 rfl rfl)
theorem dX1_rests_106 : decode cX1_rests 106 = .ok (.aload_n 0, 1) := dk_42 (dk_at dksX1_rests_4 13 rfl rfl)
theorem dX1_rests_107 : decode cX1_rests 107 = .ok (.iload 6, 2) := dk_21 6 (dk_at dksX1_rests_4 14 rfl rfl)
theorem dX1_rests_109 : decode cX1_rests 109 = .ok (.i2l, 1) := dk_133 (dk_at dksX1_rests_4 16 rfl rfl)
theorem dX1_rests_110 : decode cX1_rests 110 = .ok (.invokevirtual 363, 3) := dk_182 1 107 (dk_at dksX1_rests_4 17 rfl rfl)
theorem dX1_rests_113 : decode cX1_rests 113 = .ok (.iinc 6 1, 3) := dk_132 6 1 (dk_at dksX1_rests_4 20 rfl rfl)
theorem dX1_rests_116 : decode cX1_rests 116 = .ok (.goto (-67), 3) := dk_167 255 189 (dk_at dksX1_rests_5 0 rfl rfl)
theorem dX1_rests_119 : decode cX1_rests 119 = .ok (.iinc 5 1, 3) := dk_132 5 1 (dk_at dksX1_rests_5 3 rfl rfl)
theorem dX1_rests_122 : decode cX1_rests 122 = .ok (.goto (-83), 3) := dk_167 255 173 (dk_at dksX1_rests_5 6 rfl rfl)
theorem dX1_rests_125 : decode cX1_rests 125 = .ok (.iload_n 3, 1) := dk_29 (dk_at dksX1_rests_5 9 rfl rfl)
theorem dX1_rests_126 : decode cX1_rests 126 = .ok (.ifCond .le 10, 3) := dk_158 0 10 (dk_at dksX1_rests_5 10 rfl rfl)
theorem dX1_rests_129 : decode cX1_rests 129 = .ok (.aload_n 0, 1) := dk_42 (dk_at dksX1_rests_5 13 rfl rfl)
theorem dX1_rests_130 : decode cX1_rests 130 = .ok (.iload 4, 2) := dk_21 4 (dk_at dksX1_rests_5 14 rfl rfl)
theorem dX1_rests_132 : decode cX1_rests 132 = .ok (.i2l, 1) := dk_133 (dk_at dksX1_rests_5 16 rfl rfl)
theorem dX1_rests_133 : decode cX1_rests 133 = .ok (.invokevirtual 363, 3) := dk_182 1 107 (dk_at dksX1_rests_5 17 rfl rfl)
theorem dX1_rests_136 : decode cX1_rests 136 = .ok (.iload_n 3, 1) := dk_29 (dk_at dksX1_rests_5 20 rfl rfl)
theorem dX1_rests_137 : decode cX1_rests 137 = .ok (.ireturn, 1) := dk_172 (dk_at dksX1_rests_5 21 rfl rfl)
abbrev cX1_isRest : ByteArray := prog_1_method_96_code
def yX1_isRest : MethodName := ⟨RX1, "isRest", "(IIII)Z"⟩
def dkwX1_isRest_3 : List UInt8 := [164, 0, 5, 3, 172, 132, 6, 1, 167, 255, 208, 4, 172]
abbrev dktX1_isRest_3 : List UInt8 := dkwX1_isRest_3 ++ []
def dkwX1_isRest_2 : List UInt8 := [167, 0, 4, 3, 21, 4, 163, 0, 21, 26, 21, 6, 161, 0, 7, 3, 167, 0, 6, 29, 26, 100, 21, 5]
abbrev dktX1_isRest_2 : List UInt8 := dkwX1_isRest_2 ++ dktX1_isRest_3
def dkwX1_isRest_1 : List UInt8 := [26, 100, 54, 5, 3, 54, 6, 21, 6, 16, 9, 163, 0, 47, 21, 6, 27, 161, 0, 9, 28, 27, 100]
abbrev dktX1_isRest_1 : List UInt8 := dkwX1_isRest_1 ++ dktX1_isRest_2
def dkwX1_isRest_0 : List UInt8 := [26, 27, 161, 0, 9, 28, 27, 100, 167, 0, 4, 3, 54, 4, 26, 27, 161, 0, 7, 3, 167, 0, 6, 29]
abbrev dktX1_isRest_0 : List UInt8 := dkwX1_isRest_0 ++ dktX1_isRest_1
theorem dksX1_isRest_0 : cX1_isRest.data.toList.drop 0 = dktX1_isRest_0 := by decide +kernel
theorem dksX1_isRest_1 : cX1_isRest.data.toList.drop 24 = dktX1_isRest_1 := dk_seg dksX1_isRest_0 24 rfl rfl
theorem dksX1_isRest_2 : cX1_isRest.data.toList.drop 47 = dktX1_isRest_2 := dk_seg dksX1_isRest_1 23 rfl rfl
theorem dksX1_isRest_3 : cX1_isRest.data.toList.drop 71 = dktX1_isRest_3 := dk_seg dksX1_isRest_2 24 rfl rfl
theorem dX1_isRest_0 : decode cX1_isRest 0 = .ok (.iload_n 0, 1) := dk_26 (dk_at dksX1_isRest_0 0 rfl rfl)
theorem dX1_isRest_1 : decode cX1_isRest 1 = .ok (.iload_n 1, 1) := dk_27 (dk_at dksX1_isRest_0 1 rfl rfl)
theorem dX1_isRest_2 : decode cX1_isRest 2 = .ok (.if_icmp .lt 9, 3) := dk_161 0 9 (dk_at dksX1_isRest_0 2 rfl rfl)
theorem dX1_isRest_5 : decode cX1_isRest 5 = .ok (.iload_n 2, 1) := dk_28 (dk_at dksX1_isRest_0 5 rfl rfl)
theorem dX1_isRest_6 : decode cX1_isRest 6 = .ok (.iload_n 1, 1) := dk_27 (dk_at dksX1_isRest_0 6 rfl rfl)
theorem dX1_isRest_7 : decode cX1_isRest 7 = .ok (.isub, 1) := dk_100 (dk_at dksX1_isRest_0 7 rfl rfl)
theorem dX1_isRest_8 : decode cX1_isRest 8 = .ok (.goto 4, 3) := dk_167 0 4 (dk_at dksX1_isRest_0 8 rfl rfl)
theorem dX1_isRest_11 : decode cX1_isRest 11 = .ok (.iconst 0, 1) := dk_3 (dk_at dksX1_isRest_0 11 rfl rfl)
theorem dX1_isRest_12 : decode cX1_isRest 12 = .ok (.istore 4, 2) := dk_54 4 (dk_at dksX1_isRest_0 12 rfl rfl)
theorem dX1_isRest_14 : decode cX1_isRest 14 = .ok (.iload_n 0, 1) := dk_26 (dk_at dksX1_isRest_0 14 rfl rfl)
theorem dX1_isRest_15 : decode cX1_isRest 15 = .ok (.iload_n 1, 1) := dk_27 (dk_at dksX1_isRest_0 15 rfl rfl)
theorem dX1_isRest_16 : decode cX1_isRest 16 = .ok (.if_icmp .lt 7, 3) := dk_161 0 7 (dk_at dksX1_isRest_0 16 rfl rfl)
theorem dX1_isRest_19 : decode cX1_isRest 19 = .ok (.iconst 0, 1) := dk_3 (dk_at dksX1_isRest_0 19 rfl rfl)
theorem dX1_isRest_20 : decode cX1_isRest 20 = .ok (.goto 6, 3) := dk_167 0 6 (dk_at dksX1_isRest_0 20 rfl rfl)
theorem dX1_isRest_23 : decode cX1_isRest 23 = .ok (.iload_n 3, 1) := dk_29 (dk_at dksX1_isRest_0 23 rfl rfl)
theorem dX1_isRest_24 : decode cX1_isRest 24 = .ok (.iload_n 0, 1) := dk_26 (dk_at dksX1_isRest_1 0 rfl rfl)
theorem dX1_isRest_25 : decode cX1_isRest 25 = .ok (.isub, 1) := dk_100 (dk_at dksX1_isRest_1 1 rfl rfl)
theorem dX1_isRest_26 : decode cX1_isRest 26 = .ok (.istore 5, 2) := dk_54 5 (dk_at dksX1_isRest_1 2 rfl rfl)
theorem dX1_isRest_28 : decode cX1_isRest 28 = .ok (.iconst 0, 1) := dk_3 (dk_at dksX1_isRest_1 4 rfl rfl)
theorem dX1_isRest_29 : decode cX1_isRest 29 = .ok (.istore 6, 2) := dk_54 6 (dk_at dksX1_isRest_1 5 rfl rfl)
theorem dX1_isRest_31 : decode cX1_isRest 31 = .ok (.iload 6, 2) := dk_21 6 (dk_at dksX1_isRest_1 7 rfl rfl)
theorem dX1_isRest_33 : decode cX1_isRest 33 = .ok (.bipush 9, 2) := dk_16 9 (dk_at dksX1_isRest_1 9 rfl rfl)
theorem dX1_isRest_35 : decode cX1_isRest 35 = .ok (.if_icmp .gt 47, 3) := dk_163 0 47 (dk_at dksX1_isRest_1 11 rfl rfl)
theorem dX1_isRest_38 : decode cX1_isRest 38 = .ok (.iload 6, 2) := dk_21 6 (dk_at dksX1_isRest_1 14 rfl rfl)
theorem dX1_isRest_40 : decode cX1_isRest 40 = .ok (.iload_n 1, 1) := dk_27 (dk_at dksX1_isRest_1 16 rfl rfl)
theorem dX1_isRest_41 : decode cX1_isRest 41 = .ok (.if_icmp .lt 9, 3) := dk_161 0 9 (dk_at dksX1_isRest_1 17 rfl rfl)
theorem dX1_isRest_44 : decode cX1_isRest 44 = .ok (.iload_n 2, 1) := dk_28 (dk_at dksX1_isRest_1 20 rfl rfl)
theorem dX1_isRest_45 : decode cX1_isRest 45 = .ok (.iload_n 1, 1) := dk_27 (dk_at dksX1_isRest_1 21 rfl rfl)
theorem dX1_isRest_46 : decode cX1_isRest 46 = .ok (.isub, 1) := dk_100 (dk_at dksX1_isRest_1 22 rfl rfl)
theorem dX1_isRest_47 : decode cX1_isRest 47 = .ok (.goto 4, 3) := dk_167 0 4 (dk_at dksX1_isRest_2 0 rfl rfl)
theorem dX1_isRest_50 : decode cX1_isRest 50 = .ok (.iconst 0, 1) := dk_3 (dk_at dksX1_isRest_2 3 rfl rfl)
theorem dX1_isRest_51 : decode cX1_isRest 51 = .ok (.iload 4, 2) := dk_21 4 (dk_at dksX1_isRest_2 4 rfl rfl)
theorem dX1_isRest_53 : decode cX1_isRest 53 = .ok (.if_icmp .gt 21, 3) := dk_163 0 21 (dk_at dksX1_isRest_2 6 rfl rfl)
theorem dX1_isRest_56 : decode cX1_isRest 56 = .ok (.iload_n 0, 1) := dk_26 (dk_at dksX1_isRest_2 9 rfl rfl)
theorem dX1_isRest_57 : decode cX1_isRest 57 = .ok (.iload 6, 2) := dk_21 6 (dk_at dksX1_isRest_2 10 rfl rfl)
theorem dX1_isRest_59 : decode cX1_isRest 59 = .ok (.if_icmp .lt 7, 3) := dk_161 0 7 (dk_at dksX1_isRest_2 12 rfl rfl)
theorem dX1_isRest_62 : decode cX1_isRest 62 = .ok (.iconst 0, 1) := dk_3 (dk_at dksX1_isRest_2 15 rfl rfl)
theorem dX1_isRest_63 : decode cX1_isRest 63 = .ok (.goto 6, 3) := dk_167 0 6 (dk_at dksX1_isRest_2 16 rfl rfl)
theorem dX1_isRest_66 : decode cX1_isRest 66 = .ok (.iload_n 3, 1) := dk_29 (dk_at dksX1_isRest_2 19 rfl rfl)
theorem dX1_isRest_67 : decode cX1_isRest 67 = .ok (.iload_n 0, 1) := dk_26 (dk_at dksX1_isRest_2 20 rfl rfl)
theorem dX1_isRest_68 : decode cX1_isRest 68 = .ok (.isub, 1) := dk_100 (dk_at dksX1_isRest_2 21 rfl rfl)
theorem dX1_isRest_69 : decode cX1_isRest 69 = .ok (.iload 5, 2) := dk_21 5 (dk_at dksX1_isRest_2 22 rfl rfl)
theorem dX1_isRest_71 : decode cX1_isRest 71 = .ok (.if_icmp .le 5, 3) := dk_164 0 5 (dk_at dksX1_isRest_3 0 rfl rfl)
theorem dX1_isRest_74 : decode cX1_isRest 74 = .ok (.iconst 0, 1) := dk_3 (dk_at dksX1_isRest_3 3 rfl rfl)
theorem dX1_isRest_75 : decode cX1_isRest 75 = .ok (.ireturn, 1) := dk_172 (dk_at dksX1_isRest_3 4 rfl rfl)
theorem dX1_isRest_76 : decode cX1_isRest 76 = .ok (.iinc 6 1, 3) := dk_132 6 1 (dk_at dksX1_isRest_3 5 rfl rfl)
theorem dX1_isRest_79 : decode cX1_isRest 79 = .ok (.goto (-48), 3) := dk_167 255 208 (dk_at dksX1_isRest_3 8 rfl rfl)
theorem dX1_isRest_82 : decode cX1_isRest 82 = .ok (.iconst 1, 1) := dk_4 (dk_at dksX1_isRest_3 11 rfl rfl)
theorem dX1_isRest_83 : decode cX1_isRest 83 = .ok (.ireturn, 1) := dk_172 (dk_at dksX1_isRest_3 12 rfl rfl)
abbrev cX1_law : ByteArray := prog_1_method_99_code
def yX1_law : MethodName := ⟨RX1, "law", "()I"⟩
def dkwX1_law_2 : List UInt8 := [3, 181, 1, 104, 42, 21, 4, 133, 182, 1, 107, 42, 28, 133, 182, 1, 107, 21, 4, 28, 100, 172]
abbrev dktX1_law_2 : List UInt8 := dkwX1_law_2 ++ []
def dkwX1_law_1 : List UInt8 := [180, 1, 2, 78, 42, 42, 180, 0, 250, 181, 1, 2, 42, 182, 1, 234, 54, 4, 42, 45, 181, 1, 2, 42]
abbrev dktX1_law_1 : List UInt8 := dkwX1_law_1 ++ dktX1_law_2
def dkwX1_law_0 : List UInt8 := [42, 182, 0, 254, 60, 27, 156, 0, 11, 27, 4, 96, 17, 39, 16, 100, 172, 42, 182, 1, 234, 61, 42]
abbrev dktX1_law_0 : List UInt8 := dkwX1_law_0 ++ dktX1_law_1
theorem dksX1_law_0 : cX1_law.data.toList.drop 0 = dktX1_law_0 := by decide +kernel
theorem dksX1_law_1 : cX1_law.data.toList.drop 23 = dktX1_law_1 := dk_seg dksX1_law_0 23 rfl rfl
theorem dksX1_law_2 : cX1_law.data.toList.drop 47 = dktX1_law_2 := dk_seg dksX1_law_1 24 rfl rfl
theorem dX1_law_0 : decode cX1_law 0 = .ok (.aload_n 0, 1) := dk_42 (dk_at dksX1_law_0 0 rfl rfl)
theorem dX1_law_1 : decode cX1_law 1 = .ok (.invokevirtual 254, 3) := dk_182 0 254 (dk_at dksX1_law_0 1 rfl rfl)
theorem dX1_law_4 : decode cX1_law 4 = .ok (.istore_n 1, 1) := dk_60 (dk_at dksX1_law_0 4 rfl rfl)
theorem dX1_law_5 : decode cX1_law 5 = .ok (.iload_n 1, 1) := dk_27 (dk_at dksX1_law_0 5 rfl rfl)
theorem dX1_law_6 : decode cX1_law 6 = .ok (.ifCond .ge 11, 3) := dk_156 0 11 (dk_at dksX1_law_0 6 rfl rfl)
theorem dX1_law_9 : decode cX1_law 9 = .ok (.iload_n 1, 1) := dk_27 (dk_at dksX1_law_0 9 rfl rfl)
theorem dX1_law_10 : decode cX1_law 10 = .ok (.iconst 1, 1) := dk_4 (dk_at dksX1_law_0 10 rfl rfl)
theorem dX1_law_11 : decode cX1_law 11 = .ok (.iadd, 1) := dk_96 (dk_at dksX1_law_0 11 rfl rfl)
theorem dX1_law_12 : decode cX1_law 12 = .ok (.sipush 10000, 3) := dk_17 39 16 (dk_at dksX1_law_0 12 rfl rfl)
theorem dX1_law_15 : decode cX1_law 15 = .ok (.isub, 1) := dk_100 (dk_at dksX1_law_0 15 rfl rfl)
theorem dX1_law_16 : decode cX1_law 16 = .ok (.ireturn, 1) := dk_172 (dk_at dksX1_law_0 16 rfl rfl)
theorem dX1_law_17 : decode cX1_law 17 = .ok (.aload_n 0, 1) := dk_42 (dk_at dksX1_law_0 17 rfl rfl)
theorem dX1_law_18 : decode cX1_law 18 = .ok (.invokevirtual 490, 3) := dk_182 1 234 (dk_at dksX1_law_0 18 rfl rfl)
theorem dX1_law_21 : decode cX1_law 21 = .ok (.istore_n 2, 1) := dk_61 (dk_at dksX1_law_0 21 rfl rfl)
theorem dX1_law_22 : decode cX1_law 22 = .ok (.aload_n 0, 1) := dk_42 (dk_at dksX1_law_0 22 rfl rfl)
theorem dX1_law_23 : decode cX1_law 23 = .ok (.getfield 258, 3) := dk_180 1 2 (dk_at dksX1_law_1 0 rfl rfl)
theorem dX1_law_26 : decode cX1_law 26 = .ok (.astore_n 3, 1) := dk_78 (dk_at dksX1_law_1 3 rfl rfl)
theorem dX1_law_27 : decode cX1_law 27 = .ok (.aload_n 0, 1) := dk_42 (dk_at dksX1_law_1 4 rfl rfl)
theorem dX1_law_28 : decode cX1_law 28 = .ok (.aload_n 0, 1) := dk_42 (dk_at dksX1_law_1 5 rfl rfl)
theorem dX1_law_29 : decode cX1_law 29 = .ok (.getfield 250, 3) := dk_180 0 250 (dk_at dksX1_law_1 6 rfl rfl)
theorem dX1_law_32 : decode cX1_law 32 = .ok (.putfield 258, 3) := dk_181 1 2 (dk_at dksX1_law_1 9 rfl rfl)
theorem dX1_law_35 : decode cX1_law 35 = .ok (.aload_n 0, 1) := dk_42 (dk_at dksX1_law_1 12 rfl rfl)
theorem dX1_law_36 : decode cX1_law 36 = .ok (.invokevirtual 490, 3) := dk_182 1 234 (dk_at dksX1_law_1 13 rfl rfl)
theorem dX1_law_39 : decode cX1_law 39 = .ok (.istore 4, 2) := dk_54 4 (dk_at dksX1_law_1 16 rfl rfl)
theorem dX1_law_41 : decode cX1_law 41 = .ok (.aload_n 0, 1) := dk_42 (dk_at dksX1_law_1 18 rfl rfl)
theorem dX1_law_42 : decode cX1_law 42 = .ok (.aload_n 3, 1) := dk_45 (dk_at dksX1_law_1 19 rfl rfl)
theorem dX1_law_43 : decode cX1_law 43 = .ok (.putfield 258, 3) := dk_181 1 2 (dk_at dksX1_law_1 20 rfl rfl)
theorem dX1_law_46 : decode cX1_law 46 = .ok (.aload_n 0, 1) := dk_42 (dk_at dksX1_law_1 23 rfl rfl)
theorem dX1_law_47 : decode cX1_law 47 = .ok (.iconst 0, 1) := dk_3 (dk_at dksX1_law_2 0 rfl rfl)
theorem dX1_law_48 : decode cX1_law 48 = .ok (.putfield 360, 3) := dk_181 1 104 (dk_at dksX1_law_2 1 rfl rfl)
theorem dX1_law_51 : decode cX1_law 51 = .ok (.aload_n 0, 1) := dk_42 (dk_at dksX1_law_2 4 rfl rfl)
theorem dX1_law_52 : decode cX1_law 52 = .ok (.iload 4, 2) := dk_21 4 (dk_at dksX1_law_2 5 rfl rfl)
theorem dX1_law_54 : decode cX1_law 54 = .ok (.i2l, 1) := dk_133 (dk_at dksX1_law_2 7 rfl rfl)
theorem dX1_law_55 : decode cX1_law 55 = .ok (.invokevirtual 363, 3) := dk_182 1 107 (dk_at dksX1_law_2 8 rfl rfl)
theorem dX1_law_58 : decode cX1_law 58 = .ok (.aload_n 0, 1) := dk_42 (dk_at dksX1_law_2 11 rfl rfl)
theorem dX1_law_59 : decode cX1_law 59 = .ok (.iload_n 2, 1) := dk_28 (dk_at dksX1_law_2 12 rfl rfl)
theorem dX1_law_60 : decode cX1_law 60 = .ok (.i2l, 1) := dk_133 (dk_at dksX1_law_2 13 rfl rfl)
theorem dX1_law_61 : decode cX1_law 61 = .ok (.invokevirtual 363, 3) := dk_182 1 107 (dk_at dksX1_law_2 14 rfl rfl)
theorem dX1_law_64 : decode cX1_law 64 = .ok (.iload 4, 2) := dk_21 4 (dk_at dksX1_law_2 17 rfl rfl)
theorem dX1_law_66 : decode cX1_law 66 = .ok (.iload_n 2, 1) := dk_28 (dk_at dksX1_law_2 19 rfl rfl)
theorem dX1_law_67 : decode cX1_law 67 = .ok (.isub, 1) := dk_100 (dk_at dksX1_law_2 20 rfl rfl)
theorem dX1_law_68 : decode cX1_law 68 = .ok (.ireturn, 1) := dk_172 (dk_at dksX1_law_2 21 rfl rfl)
abbrev cX1_hardOfRota : ByteArray := prog_1_method_98_code
def yX1_hardOfRota : MethodName := ⟨RX1, "hardOfRota", "()I"⟩
def dkwX1_hardOfRota_2 : List UInt8 := [182, 1, 34, 96, 60, 132, 2, 1, 167, 255, 208, 27, 172]
abbrev dktX1_hardOfRota_2 : List UInt8 := dkwX1_hardOfRota_2 ++ []
def dkwX1_hardOfRota_1 : List UInt8 := [156, 0, 7, 3, 167, 0, 21, 42, 42, 180, 0, 12, 42, 180, 0, 12, 180, 1, 58, 28, 46, 28]
abbrev dktX1_hardOfRota_1 : List UInt8 := dkwX1_hardOfRota_1 ++ dktX1_hardOfRota_2
def dkwX1_hardOfRota_0 : List UInt8 := [3, 60, 3, 61, 28, 42, 180, 0, 29, 162, 0, 46, 27, 42, 180, 0, 12, 180, 1, 58, 28, 46]
abbrev dktX1_hardOfRota_0 : List UInt8 := dkwX1_hardOfRota_0 ++ dktX1_hardOfRota_1
theorem dksX1_hardOfRota_0 : cX1_hardOfRota.data.toList.drop 0 = dktX1_hardOfRota_0 := by decide +kernel
theorem dksX1_hardOfRota_1 : cX1_hardOfRota.data.toList.drop 22 = dktX1_hardOfRota_1 := dk_seg dksX1_hardOfRota_0 22 rfl rfl
theorem dksX1_hardOfRota_2 : cX1_hardOfRota.data.toList.drop 44 = dktX1_hardOfRota_2 := dk_seg dksX1_hardOfRota_1 22 rfl rfl
theorem dX1_hardOfRota_0 : decode cX1_hardOfRota 0 = .ok (.iconst 0, 1) := dk_3 (dk_at dksX1_hardOfRota_0 0 rfl rfl)
theorem dX1_hardOfRota_1 : decode cX1_hardOfRota 1 = .ok (.istore_n 1, 1) := dk_60 (dk_at dksX1_hardOfRota_0 1 rfl rfl)
theorem dX1_hardOfRota_2 : decode cX1_hardOfRota 2 = .ok (.iconst 0, 1) := dk_3 (dk_at dksX1_hardOfRota_0 2 rfl rfl)
theorem dX1_hardOfRota_3 : decode cX1_hardOfRota 3 = .ok (.istore_n 2, 1) := dk_61 (dk_at dksX1_hardOfRota_0 3 rfl rfl)
theorem dX1_hardOfRota_4 : decode cX1_hardOfRota 4 = .ok (.iload_n 2, 1) := dk_28 (dk_at dksX1_hardOfRota_0 4 rfl rfl)
theorem dX1_hardOfRota_5 : decode cX1_hardOfRota 5 = .ok (.aload_n 0, 1) := dk_42 (dk_at dksX1_hardOfRota_0 5 rfl rfl)
theorem dX1_hardOfRota_6 : decode cX1_hardOfRota 6 = .ok (.getfield 29, 3) := dk_180 0 29 (dk_at dksX1_hardOfRota_0 6 rfl rfl)
theorem dX1_hardOfRota_9 : decode cX1_hardOfRota 9 = .ok (.if_icmp .ge 46, 3) := dk_162 0 46 (dk_at dksX1_hardOfRota_0 9 rfl rfl)
theorem dX1_hardOfRota_12 : decode cX1_hardOfRota 12 = .ok (.iload_n 1, 1) := dk_27 (dk_at dksX1_hardOfRota_0 12 rfl rfl)
theorem dX1_hardOfRota_13 : decode cX1_hardOfRota 13 = .ok (.aload_n 0, 1) := dk_42 (dk_at dksX1_hardOfRota_0 13 rfl rfl)
theorem dX1_hardOfRota_14 : decode cX1_hardOfRota 14 = .ok (.getfield 12, 3) := dk_180 0 12 (dk_at dksX1_hardOfRota_0 14 rfl rfl)
theorem dX1_hardOfRota_17 : decode cX1_hardOfRota 17 = .ok (.getfield 314, 3) := dk_180 1 58 (dk_at dksX1_hardOfRota_0 17 rfl rfl)
theorem dX1_hardOfRota_20 : decode cX1_hardOfRota 20 = .ok (.iload_n 2, 1) := dk_28 (dk_at dksX1_hardOfRota_0 20 rfl rfl)
theorem dX1_hardOfRota_21 : decode cX1_hardOfRota 21 = .ok (.iaload, 1) := dk_46 (dk_at dksX1_hardOfRota_0 21 rfl rfl)
theorem dX1_hardOfRota_22 : decode cX1_hardOfRota 22 = .ok (.ifCond .ge 7, 3) := dk_156 0 7 (dk_at dksX1_hardOfRota_1 0 rfl rfl)
theorem dX1_hardOfRota_25 : decode cX1_hardOfRota 25 = .ok (.iconst 0, 1) := dk_3 (dk_at dksX1_hardOfRota_1 3 rfl rfl)
theorem dX1_hardOfRota_26 : decode cX1_hardOfRota 26 = .ok (.goto 21, 3) := dk_167 0 21 (dk_at dksX1_hardOfRota_1 4 rfl rfl)
theorem dX1_hardOfRota_29 : decode cX1_hardOfRota 29 = .ok (.aload_n 0, 1) := dk_42 (dk_at dksX1_hardOfRota_1 7 rfl rfl)
theorem dX1_hardOfRota_30 : decode cX1_hardOfRota 30 = .ok (.aload_n 0, 1) := dk_42 (dk_at dksX1_hardOfRota_1 8 rfl rfl)
theorem dX1_hardOfRota_31 : decode cX1_hardOfRota 31 = .ok (.getfield 12, 3) := dk_180 0 12 (dk_at dksX1_hardOfRota_1 9 rfl rfl)
theorem dX1_hardOfRota_34 : decode cX1_hardOfRota 34 = .ok (.aload_n 0, 1) := dk_42 (dk_at dksX1_hardOfRota_1 12 rfl rfl)
theorem dX1_hardOfRota_35 : decode cX1_hardOfRota 35 = .ok (.getfield 12, 3) := dk_180 0 12 (dk_at dksX1_hardOfRota_1 13 rfl rfl)
theorem dX1_hardOfRota_38 : decode cX1_hardOfRota 38 = .ok (.getfield 314, 3) := dk_180 1 58 (dk_at dksX1_hardOfRota_1 16 rfl rfl)
theorem dX1_hardOfRota_41 : decode cX1_hardOfRota 41 = .ok (.iload_n 2, 1) := dk_28 (dk_at dksX1_hardOfRota_1 19 rfl rfl)
theorem dX1_hardOfRota_42 : decode cX1_hardOfRota 42 = .ok (.iaload, 1) := dk_46 (dk_at dksX1_hardOfRota_1 20 rfl rfl)
theorem dX1_hardOfRota_43 : decode cX1_hardOfRota 43 = .ok (.iload_n 2, 1) := dk_28 (dk_at dksX1_hardOfRota_1 21 rfl rfl)
theorem dX1_hardOfRota_44 : decode cX1_hardOfRota 44 = .ok (.invokevirtual 290, 3) := dk_182 1 34 (dk_at dksX1_hardOfRota_2 0 rfl rfl)
theorem dX1_hardOfRota_47 : decode cX1_hardOfRota 47 = .ok (.iadd, 1) := dk_96 (dk_at dksX1_hardOfRota_2 3 rfl rfl)
theorem dX1_hardOfRota_48 : decode cX1_hardOfRota 48 = .ok (.istore_n 1, 1) := dk_60 (dk_at dksX1_hardOfRota_2 4 rfl rfl)
theorem dX1_hardOfRota_49 : decode cX1_hardOfRota 49 = .ok (.iinc 2 1, 3) := dk_132 2 1 (dk_at dksX1_hardOfRota_2 5 rfl rfl)
theorem dX1_hardOfRota_52 : decode cX1_hardOfRota 52 = .ok (.goto (-48), 3) := dk_167 255 208 (dk_at dksX1_hardOfRota_2 8 rfl rfl)
theorem dX1_hardOfRota_55 : decode cX1_hardOfRota 55 = .ok (.iload_n 1, 1) := dk_27 (dk_at dksX1_hardOfRota_2 11 rfl rfl)
theorem dX1_hardOfRota_56 : decode cX1_hardOfRota 56 = .ok (.ireturn, 1) := dk_172 (dk_at dksX1_hardOfRota_2 12 rfl rfl)
abbrev cX1_years : ByteArray := prog_1_method_101_code
def yX1_years : MethodName := ⟨RX1, "years", "(II)I"⟩
def dkwX1_years_8 : List UInt8 := [100, 172]
abbrev dktX1_years_8 : List UInt8 := dkwX1_years_8 ++ []
def dkwX1_years_7 : List UInt8 := [180, 0, 197, 182, 1, 44, 133, 182, 1, 107, 42, 180, 0, 16, 180, 1, 67, 42, 180, 0, 12, 180, 1, 67]
abbrev dktX1_years_7 : List UInt8 := dkwX1_years_7 ++ dktX1_years_8
def dkwX1_years_6 : List UInt8 := [180, 0, 16, 180, 1, 75, 42, 180, 0, 12, 180, 1, 75, 100, 133, 182, 1, 107, 42, 42, 42, 180, 0, 16]
abbrev dktX1_years_6 : List UInt8 := dkwX1_years_6 ++ dktX1_years_7
def dkwX1_years_5 : List UInt8 := [180, 0, 121, 182, 1, 241, 182, 1, 90, 87, 132, 3, 1, 167, 255, 157, 42, 3, 181, 1, 104, 42, 42]
abbrev dktX1_years_5 : List UInt8 := dkwX1_years_5 ++ dktX1_years_6
def dkwX1_years_4 : List UInt8 := [180, 0, 121, 158, 0, 30, 42, 16, 8, 182, 1, 241, 54, 5, 42, 42, 180, 0, 16, 21, 5, 42, 42]
abbrev dktX1_years_4 : List UInt8 := dkwX1_years_4 ++ dktX1_years_5
def dkwX1_years_3 : List UInt8 := [160, 0, 23, 42, 42, 180, 0, 16, 42, 42, 180, 0, 121, 182, 1, 241, 182, 1, 94, 87, 167, 0, 37, 42]
abbrev dktX1_years_3 : List UInt8 := dkwX1_years_3 ++ dktX1_years_4
def dkwX1_years_2 : List UInt8 := [162, 0, 14, 42, 42, 180, 0, 16, 182, 1, 81, 167, 0, 70, 42, 180, 0, 121, 158, 0, 29, 21, 4, 5]
abbrev dktX1_years_2 : List UInt8 := dkwX1_years_2 ++ dktX1_years_3
def dkwX1_years_1 : List UInt8 := [180, 0, 12, 182, 1, 48, 3, 62, 29, 28, 162, 0, 100, 42, 7, 182, 1, 241, 54, 4, 21, 4, 5]
abbrev dktX1_years_1 : List UInt8 := dkwX1_years_1 ++ dktX1_years_2
def dkwX1_years_0 : List UInt8 := [28, 133, 10, 20, 1, 125, 184, 0, 124, 154, 0, 5, 2, 172, 42, 27, 181, 1, 237, 42, 180, 0, 16, 42]
abbrev dktX1_years_0 : List UInt8 := dkwX1_years_0 ++ dktX1_years_1
theorem dksX1_years_0 : cX1_years.data.toList.drop 0 = dktX1_years_0 := by decide +kernel
theorem dksX1_years_1 : cX1_years.data.toList.drop 24 = dktX1_years_1 := dk_seg dksX1_years_0 24 rfl rfl
theorem dksX1_years_2 : cX1_years.data.toList.drop 47 = dktX1_years_2 := dk_seg dksX1_years_1 23 rfl rfl
theorem dksX1_years_3 : cX1_years.data.toList.drop 71 = dktX1_years_3 := dk_seg dksX1_years_2 24 rfl rfl
theorem dksX1_years_4 : cX1_years.data.toList.drop 95 = dktX1_years_4 := dk_seg dksX1_years_3 24 rfl rfl
theorem dksX1_years_5 : cX1_years.data.toList.drop 118 = dktX1_years_5 := dk_seg dksX1_years_4 23 rfl rfl
theorem dksX1_years_6 : cX1_years.data.toList.drop 141 = dktX1_years_6 := dk_seg dksX1_years_5 23 rfl rfl
theorem dksX1_years_7 : cX1_years.data.toList.drop 165 = dktX1_years_7 := dk_seg dksX1_years_6 24 rfl rfl
theorem dksX1_years_8 : cX1_years.data.toList.drop 189 = dktX1_years_8 := dk_seg dksX1_years_7 24 rfl rfl
theorem dX1_years_0 : decode cX1_years 0 = .ok (.iload_n 2, 1) := dk_28 (dk_at dksX1_years_0 0 rfl rfl)
theorem dX1_years_1 : decode cX1_years 1 = .ok (.i2l, 1) := dk_133 (dk_at dksX1_years_0 1 rfl rfl)
theorem dX1_years_2 : decode cX1_years 2 = .ok (.lconst 1, 1) := dk_10 (dk_at dksX1_years_0 2 rfl rfl)
theorem dX1_years_3 : decode cX1_years 3 = .ok (.ldc2_w 381, 3) := dk_20 1 125 (dk_at dksX1_years_0 3 rfl rfl)
theorem dX1_years_6 : decode cX1_years 6 = .ok (.invokestatic 124, 3) := dk_184 0 124 (dk_at dksX1_years_0 6 rfl rfl)
theorem dX1_years_9 : decode cX1_years 9 = .ok (.ifCond .ne 5, 3) := dk_154 0 5 (dk_at dksX1_years_0 9 rfl rfl)
theorem dX1_years_12 : decode cX1_years 12 = .ok (.iconst (-1), 1) := dk_2 (dk_at dksX1_years_0 12 rfl rfl)
theorem dX1_years_13 : decode cX1_years 13 = .ok (.ireturn, 1) := dk_172 (dk_at dksX1_years_0 13 rfl rfl)
theorem dX1_years_14 : decode cX1_years 14 = .ok (.aload_n 0, 1) := dk_42 (dk_at dksX1_years_0 14 rfl rfl)
theorem dX1_years_15 : decode cX1_years 15 = .ok (.iload_n 1, 1) := dk_27 (dk_at dksX1_years_0 15 rfl rfl)
theorem dX1_years_16 : decode cX1_years 16 = .ok (.putfield 493, 3) := dk_181 1 237 (dk_at dksX1_years_0 16 rfl rfl)
theorem dX1_years_19 : decode cX1_years 19 = .ok (.aload_n 0, 1) := dk_42 (dk_at dksX1_years_0 19 rfl rfl)
theorem dX1_years_20 : decode cX1_years 20 = .ok (.getfield 16, 3) := dk_180 0 16 (dk_at dksX1_years_0 20 rfl rfl)
theorem dX1_years_23 : decode cX1_years 23 = .ok (.aload_n 0, 1) := dk_42 (dk_at dksX1_years_0 23 rfl rfl)
theorem dX1_years_24 : decode cX1_years 24 = .ok (.getfield 12, 3) := dk_180 0 12 (dk_at dksX1_years_1 0 rfl rfl)
theorem dX1_years_27 : decode cX1_years 27 = .ok (.invokevirtual 304, 3) := dk_182 1 48 (dk_at dksX1_years_1 3 rfl rfl)
theorem dX1_years_30 : decode cX1_years 30 = .ok (.iconst 0, 1) := dk_3 (dk_at dksX1_years_1 6 rfl rfl)
theorem dX1_years_31 : decode cX1_years 31 = .ok (.istore_n 3, 1) := dk_62 (dk_at dksX1_years_1 7 rfl rfl)
theorem dX1_years_32 : decode cX1_years 32 = .ok (.iload_n 3, 1) := dk_29 (dk_at dksX1_years_1 8 rfl rfl)
theorem dX1_years_33 : decode cX1_years 33 = .ok (.iload_n 2, 1) := dk_28 (dk_at dksX1_years_1 9 rfl rfl)
theorem dX1_years_34 : decode cX1_years 34 = .ok (.if_icmp .ge 100, 3) := dk_162 0 100 (dk_at dksX1_years_1 10 rfl rfl)
theorem dX1_years_37 : decode cX1_years 37 = .ok (.aload_n 0, 1) := dk_42 (dk_at dksX1_years_1 13 rfl rfl)
theorem dX1_years_38 : decode cX1_years 38 = .ok (.iconst 4, 1) := dk_7 (dk_at dksX1_years_1 14 rfl rfl)
theorem dX1_years_39 : decode cX1_years 39 = .ok (.invokevirtual 497, 3) := dk_182 1 241 (dk_at dksX1_years_1 15 rfl rfl)
theorem dX1_years_42 : decode cX1_years 42 = .ok (.istore 4, 2) := dk_54 4 (dk_at dksX1_years_1 18 rfl rfl)
theorem dX1_years_44 : decode cX1_years 44 = .ok (.iload 4, 2) := dk_21 4 (dk_at dksX1_years_1 20 rfl rfl)
theorem dX1_years_46 : decode cX1_years 46 = .ok (.iconst 2, 1) := dk_5 (dk_at dksX1_years_1 22 rfl rfl)
theorem dX1_years_47 : decode cX1_years 47 = .ok (.if_icmp .ge 14, 3) := dk_162 0 14 (dk_at dksX1_years_2 0 rfl rfl)
theorem dX1_years_50 : decode cX1_years 50 = .ok (.aload_n 0, 1) := dk_42 (dk_at dksX1_years_2 3 rfl rfl)
theorem dX1_years_51 : decode cX1_years 51 = .ok (.aload_n 0, 1) := dk_42 (dk_at dksX1_years_2 4 rfl rfl)
theorem dX1_years_52 : decode cX1_years 52 = .ok (.getfield 16, 3) := dk_180 0 16 (dk_at dksX1_years_2 5 rfl rfl)
theorem dX1_years_55 : decode cX1_years 55 = .ok (.invokevirtual 337, 3) := dk_182 1 81 (dk_at dksX1_years_2 8 rfl rfl)
theorem dX1_years_58 : decode cX1_years 58 = .ok (.goto 70, 3) := dk_167 0 70 (dk_at dksX1_years_2 11 rfl rfl)
theorem dX1_years_61 : decode cX1_years 61 = .ok (.aload_n 0, 1) := dk_42 (dk_at dksX1_years_2 14 rfl rfl)
theorem dX1_years_62 : decode cX1_years 62 = .ok (.getfield 121, 3) := dk_180 0 121 (dk_at dksX1_years_2 15 rfl rfl)
theorem dX1_years_65 : decode cX1_years 65 = .ok (.ifCond .le 29, 3) := dk_158 0 29 (dk_at dksX1_years_2 18 rfl rfl)
theorem dX1_years_68 : decode cX1_years 68 = .ok (.iload 4, 2) := dk_21 4 (dk_at dksX1_years_2 21 rfl rfl)
theorem dX1_years_70 : decode cX1_years 70 = .ok (.iconst 2, 1) := dk_5 (dk_at dksX1_years_2 23 rfl rfl)
theorem dX1_years_71 : decode cX1_years 71 = .ok (.if_icmp .ne 23, 3) := dk_160 0 23 (dk_at dksX1_years_3 0 rfl rfl)
theorem dX1_years_74 : decode cX1_years 74 = .ok (.aload_n 0, 1) := dk_42 (dk_at dksX1_years_3 3 rfl rfl)
theorem dX1_years_75 : decode cX1_years 75 = .ok (.aload_n 0, 1) := dk_42 (dk_at dksX1_years_3 4 rfl rfl)
theorem dX1_years_76 : decode cX1_years 76 = .ok (.getfield 16, 3) := dk_180 0 16 (dk_at dksX1_years_3 5 rfl rfl)
theorem dX1_years_79 : decode cX1_years 79 = .ok (.aload_n 0, 1) := dk_42 (dk_at dksX1_years_3 8 rfl rfl)
theorem dX1_years_80 : decode cX1_years 80 = .ok (.aload_n 0, 1) := dk_42 (dk_at dksX1_years_3 9 rfl rfl)
theorem dX1_years_81 : decode cX1_years 81 = .ok (.getfield 121, 3) := dk_180 0 121 (dk_at dksX1_years_3 10 rfl rfl)
theorem dX1_years_84 : decode cX1_years 84 = .ok (.invokevirtual 497, 3) := dk_182 1 241 (dk_at dksX1_years_3 13 rfl rfl)
theorem dX1_years_87 : decode cX1_years 87 = .ok (.invokevirtual 350, 3) := dk_182 1 94 (dk_at dksX1_years_3 16 rfl rfl)
theorem dX1_years_90 : decode cX1_years 90 = .ok (.pop, 1) := dk_87 (dk_at dksX1_years_3 19 rfl rfl)
theorem dX1_years_91 : decode cX1_years 91 = .ok (.goto 37, 3) := dk_167 0 37 (dk_at dksX1_years_3 20 rfl rfl)
theorem dX1_years_94 : decode cX1_years 94 = .ok (.aload_n 0, 1) := dk_42 (dk_at dksX1_years_3 23 rfl rfl)
theorem dX1_years_95 : decode cX1_years 95 = .ok (.getfield 121, 3) := dk_180 0 121 (dk_at dksX1_years_4 0 rfl rfl)
theorem dX1_years_98 : decode cX1_years 98 = .ok (.ifCond .le 30, 3) := dk_158 0 30 (dk_at dksX1_years_4 3 rfl rfl)
theorem dX1_years_101 : decode cX1_years 101 = .ok (.aload_n 0, 1) := dk_42 (dk_at dksX1_years_4 6 rfl rfl)
theorem dX1_years_102 : decode cX1_years 102 = .ok (.bipush 8, 2) := dk_16 8 (dk_at dksX1_years_4 7 rfl rfl)
theorem dX1_years_104 : decode cX1_years 104 = .ok (.invokevirtual 497, 3) := dk_182 1 241 (dk_at dksX1_years_4 9 rfl rfl)
theorem dX1_years_107 : decode cX1_years 107 = .ok (.istore 5, 2) := dk_54 5 (dk_at dksX1_years_4 12 rfl rfl)
theorem dX1_years_109 : decode cX1_years 109 = .ok (.aload_n 0, 1) := dk_42 (dk_at dksX1_years_4 14 rfl rfl)
theorem dX1_years_110 : decode cX1_years 110 = .ok (.aload_n 0, 1) := dk_42 (dk_at dksX1_years_4 15 rfl rfl)
theorem dX1_years_111 : decode cX1_years 111 = .ok (.getfield 16, 3) := dk_180 0 16 (dk_at dksX1_years_4 16 rfl rfl)
theorem dX1_years_114 : decode cX1_years 114 = .ok (.iload 5, 2) := dk_21 5 (dk_at dksX1_years_4 19 rfl rfl)
theorem dX1_years_116 : decode cX1_years 116 = .ok (.aload_n 0, 1) := dk_42 (dk_at dksX1_years_4 21 rfl rfl)
theorem dX1_years_117 : decode cX1_years 117 = .ok (.aload_n 0, 1) := dk_42 (dk_at dksX1_years_4 22 rfl rfl)
theorem dX1_years_118 : decode cX1_years 118 = .ok (.getfield 121, 3) := dk_180 0 121 (dk_at dksX1_years_5 0 rfl rfl)
theorem dX1_years_121 : decode cX1_years 121 = .ok (.invokevirtual 497, 3) := dk_182 1 241 (dk_at dksX1_years_5 3 rfl rfl)
theorem dX1_years_124 : decode cX1_years 124 = .ok (.invokevirtual 346, 3) := dk_182 1 90 (dk_at dksX1_years_5 6 rfl rfl)
theorem dX1_years_127 : decode cX1_years 127 = .ok (.pop, 1) := dk_87 (dk_at dksX1_years_5 9 rfl rfl)
theorem dX1_years_128 : decode cX1_years 128 = .ok (.iinc 3 1, 3) := dk_132 3 1 (dk_at dksX1_years_5 10 rfl rfl)
theorem dX1_years_131 : decode cX1_years 131 = .ok (.goto (-99), 3) := dk_167 255 157 (dk_at dksX1_years_5 13 rfl rfl)
theorem dX1_years_134 : decode cX1_years 134 = .ok (.aload_n 0, 1) := dk_42 (dk_at dksX1_years_5 16 rfl rfl)
theorem dX1_years_135 : decode cX1_years 135 = .ok (.iconst 0, 1) := dk_3 (dk_at dksX1_years_5 17 rfl rfl)
theorem dX1_years_136 : decode cX1_years 136 = .ok (.putfield 360, 3) := dk_181 1 104 (dk_at dksX1_years_5 18 rfl rfl)
theorem dX1_years_139 : decode cX1_years 139 = .ok (.aload_n 0, 1) := dk_42 (dk_at dksX1_years_5 21 rfl rfl)
theorem dX1_years_140 : decode cX1_years 140 = .ok (.aload_n 0, 1) := dk_42 (dk_at dksX1_years_5 22 rfl rfl)
theorem dX1_years_141 : decode cX1_years 141 = .ok (.getfield 16, 3) := dk_180 0 16 (dk_at dksX1_years_6 0 rfl rfl)
theorem dX1_years_144 : decode cX1_years 144 = .ok (.getfield 331, 3) := dk_180 1 75 (dk_at dksX1_years_6 3 rfl rfl)
theorem dX1_years_147 : decode cX1_years 147 = .ok (.aload_n 0, 1) := dk_42 (dk_at dksX1_years_6 6 rfl rfl)
theorem dX1_years_148 : decode cX1_years 148 = .ok (.getfield 12, 3) := dk_180 0 12 (dk_at dksX1_years_6 7 rfl rfl)
theorem dX1_years_151 : decode cX1_years 151 = .ok (.getfield 331, 3) := dk_180 1 75 (dk_at dksX1_years_6 10 rfl rfl)
theorem dX1_years_154 : decode cX1_years 154 = .ok (.isub, 1) := dk_100 (dk_at dksX1_years_6 13 rfl rfl)
theorem dX1_years_155 : decode cX1_years 155 = .ok (.i2l, 1) := dk_133 (dk_at dksX1_years_6 14 rfl rfl)
theorem dX1_years_156 : decode cX1_years 156 = .ok (.invokevirtual 363, 3) := dk_182 1 107 (dk_at dksX1_years_6 15 rfl rfl)
theorem dX1_years_159 : decode cX1_years 159 = .ok (.aload_n 0, 1) := dk_42 (dk_at dksX1_years_6 18 rfl rfl)
theorem dX1_years_160 : decode cX1_years 160 = .ok (.aload_n 0, 1) := dk_42 (dk_at dksX1_years_6 19 rfl rfl)
theorem dX1_years_161 : decode cX1_years 161 = .ok (.aload_n 0, 1) := dk_42 (dk_at dksX1_years_6 20 rfl rfl)
theorem dX1_years_162 : decode cX1_years 162 = .ok (.getfield 16, 3) := dk_180 0 16 (dk_at dksX1_years_6 21 rfl rfl)
theorem dX1_years_165 : decode cX1_years 165 = .ok (.getfield 197, 3) := dk_180 0 197 (dk_at dksX1_years_7 0 rfl rfl)
theorem dX1_years_168 : decode cX1_years 168 = .ok (.invokevirtual 300, 3) := dk_182 1 44 (dk_at dksX1_years_7 3 rfl rfl)
theorem dX1_years_171 : decode cX1_years 171 = .ok (.i2l, 1) := dk_133 (dk_at dksX1_years_7 6 rfl rfl)
theorem dX1_years_172 : decode cX1_years 172 = .ok (.invokevirtual 363, 3) := dk_182 1 107 (dk_at dksX1_years_7 7 rfl rfl)
theorem dX1_years_175 : decode cX1_years 175 = .ok (.aload_n 0, 1) := dk_42 (dk_at dksX1_years_7 10 rfl rfl)
theorem dX1_years_176 : decode cX1_years 176 = .ok (.getfield 16, 3) := dk_180 0 16 (dk_at dksX1_years_7 11 rfl rfl)
theorem dX1_years_179 : decode cX1_years 179 = .ok (.getfield 323, 3) := dk_180 1 67 (dk_at dksX1_years_7 14 rfl rfl)
theorem dX1_years_182 : decode cX1_years 182 = .ok (.aload_n 0, 1) := dk_42 (dk_at dksX1_years_7 17 rfl rfl)
theorem dX1_years_183 : decode cX1_years 183 = .ok (.getfield 12, 3) := dk_180 0 12 (dk_at dksX1_years_7 18 rfl rfl)
theorem dX1_years_186 : decode cX1_years 186 = .ok (.getfield 323, 3) := dk_180 1 67 (dk_at dksX1_years_7 21 rfl rfl)
theorem dX1_years_189 : decode cX1_years 189 = .ok (.isub, 1) := dk_100 (dk_at dksX1_years_8 0 rfl rfl)
theorem dX1_years_190 : decode cX1_years 190 = .ok (.ireturn, 1) := dk_172 (dk_at dksX1_years_8 1 rfl rfl)
abbrev cX1_draws : ByteArray := prog_1_method_100_code
def yX1_draws : MethodName := ⟨RX1, "draws", "(I)I"⟩
def dkwX1_draws_1 : List UInt8 := [112, 172]
abbrev dktX1_draws_1 : List UInt8 := dkwX1_draws_1 ++ []
def dkwX1_draws_0 : List UInt8 := [42, 42, 180, 1, 237, 19, 1, 240, 104, 17, 48, 57, 96, 181, 1, 237, 42, 180, 1, 237, 16, 16, 124, 27]
abbrev dktX1_draws_0 : List UInt8 := dkwX1_draws_0 ++ dktX1_draws_1
theorem dksX1_draws_0 : cX1_draws.data.toList.drop 0 = dktX1_draws_0 := by decide +kernel
theorem dksX1_draws_1 : cX1_draws.data.toList.drop 24 = dktX1_draws_1 := dk_seg dksX1_draws_0 24 rfl rfl
theorem dX1_draws_0 : decode cX1_draws 0 = .ok (.aload_n 0, 1) := dk_42 (dk_at dksX1_draws_0 0 rfl rfl)
theorem dX1_draws_1 : decode cX1_draws 1 = .ok (.aload_n 0, 1) := dk_42 (dk_at dksX1_draws_0 1 rfl rfl)
theorem dX1_draws_2 : decode cX1_draws 2 = .ok (.getfield 493, 3) := dk_180 1 237 (dk_at dksX1_draws_0 2 rfl rfl)
theorem dX1_draws_5 : decode cX1_draws 5 = .ok (.ldc_w 496, 3) := dk_19 1 240 (dk_at dksX1_draws_0 5 rfl rfl)
theorem dX1_draws_8 : decode cX1_draws 8 = .ok (.imul, 1) := dk_104 (dk_at dksX1_draws_0 8 rfl rfl)
theorem dX1_draws_9 : decode cX1_draws 9 = .ok (.sipush 12345, 3) := dk_17 48 57 (dk_at dksX1_draws_0 9 rfl rfl)
theorem dX1_draws_12 : decode cX1_draws 12 = .ok (.iadd, 1) := dk_96 (dk_at dksX1_draws_0 12 rfl rfl)
theorem dX1_draws_13 : decode cX1_draws 13 = .ok (.putfield 493, 3) := dk_181 1 237 (dk_at dksX1_draws_0 13 rfl rfl)
theorem dX1_draws_16 : decode cX1_draws 16 = .ok (.aload_n 0, 1) := dk_42 (dk_at dksX1_draws_0 16 rfl rfl)
theorem dX1_draws_17 : decode cX1_draws 17 = .ok (.getfield 493, 3) := dk_180 1 237 (dk_at dksX1_draws_0 17 rfl rfl)
theorem dX1_draws_20 : decode cX1_draws 20 = .ok (.bipush 16, 2) := dk_16 16 (dk_at dksX1_draws_0 20 rfl rfl)
theorem dX1_draws_22 : decode cX1_draws 22 = .ok (.iushr, 1) := dk_124 (dk_at dksX1_draws_0 22 rfl rfl)
theorem dX1_draws_23 : decode cX1_draws 23 = .ok (.iload_n 1, 1) := dk_27 (dk_at dksX1_draws_0 23 rfl rfl)
theorem dX1_draws_24 : decode cX1_draws 24 = .ok (.irem, 1) := dk_112 (dk_at dksX1_draws_1 0 rfl rfl)
theorem dX1_draws_25 : decode cX1_draws 25 = .ok (.ireturn, 1) := dk_172 (dk_at dksX1_draws_1 1 rfl rfl)
abbrev cX1_keep : ByteArray := prog_1_method_102_code
def yX1_keep : MethodName := ⟨RX1, "keep", "(I)Z"⟩
def dkwX1_keep_2 : List UInt8 := [182, 1, 48, 42, 180, 0, 111, 27, 42, 180, 0, 206, 79, 4, 172]
abbrev dktX1_keep_2 : List UInt8 := dkwX1_keep_2 ++ []
def dkwX1_keep_1 : List UInt8 := [180, 0, 108, 27, 187, 0, 9, 89, 183, 0, 11, 83, 42, 180, 0, 108, 27, 50, 42, 180, 0, 12]
abbrev dktX1_keep_1 : List UInt8 := dkwX1_keep_1 ++ dktX1_keep_2
def dkwX1_keep_0 : List UInt8 := [27, 133, 9, 10, 184, 0, 124, 154, 0, 5, 3, 172, 42, 180, 0, 108, 27, 50, 199, 0, 16, 42]
abbrev dktX1_keep_0 : List UInt8 := dkwX1_keep_0 ++ dktX1_keep_1
theorem dksX1_keep_0 : cX1_keep.data.toList.drop 0 = dktX1_keep_0 := by decide +kernel
theorem dksX1_keep_1 : cX1_keep.data.toList.drop 22 = dktX1_keep_1 := dk_seg dksX1_keep_0 22 rfl rfl
theorem dksX1_keep_2 : cX1_keep.data.toList.drop 44 = dktX1_keep_2 := dk_seg dksX1_keep_1 22 rfl rfl
theorem dX1_keep_0 : decode cX1_keep 0 = .ok (.iload_n 1, 1) := dk_27 (dk_at dksX1_keep_0 0 rfl rfl)
theorem dX1_keep_1 : decode cX1_keep 1 = .ok (.i2l, 1) := dk_133 (dk_at dksX1_keep_0 1 rfl rfl)
theorem dX1_keep_2 : decode cX1_keep 2 = .ok (.lconst 0, 1) := dk_9 (dk_at dksX1_keep_0 2 rfl rfl)
theorem dX1_keep_3 : decode cX1_keep 3 = .ok (.lconst 1, 1) := dk_10 (dk_at dksX1_keep_0 3 rfl rfl)
theorem dX1_keep_4 : decode cX1_keep 4 = .ok (.invokestatic 124, 3) := dk_184 0 124 (dk_at dksX1_keep_0 4 rfl rfl)
theorem dX1_keep_7 : decode cX1_keep 7 = .ok (.ifCond .ne 5, 3) := dk_154 0 5 (dk_at dksX1_keep_0 7 rfl rfl)
theorem dX1_keep_10 : decode cX1_keep 10 = .ok (.iconst 0, 1) := dk_3 (dk_at dksX1_keep_0 10 rfl rfl)
theorem dX1_keep_11 : decode cX1_keep 11 = .ok (.ireturn, 1) := dk_172 (dk_at dksX1_keep_0 11 rfl rfl)
theorem dX1_keep_12 : decode cX1_keep 12 = .ok (.aload_n 0, 1) := dk_42 (dk_at dksX1_keep_0 12 rfl rfl)
theorem dX1_keep_13 : decode cX1_keep 13 = .ok (.getfield 108, 3) := dk_180 0 108 (dk_at dksX1_keep_0 13 rfl rfl)
theorem dX1_keep_16 : decode cX1_keep 16 = .ok (.iload_n 1, 1) := dk_27 (dk_at dksX1_keep_0 16 rfl rfl)
theorem dX1_keep_17 : decode cX1_keep 17 = .ok (.aaload, 1) := dk_50 (dk_at dksX1_keep_0 17 rfl rfl)
theorem dX1_keep_18 : decode cX1_keep 18 = .ok (.ifnonnull 16, 3) := dk_199 0 16 (dk_at dksX1_keep_0 18 rfl rfl)
theorem dX1_keep_21 : decode cX1_keep 21 = .ok (.aload_n 0, 1) := dk_42 (dk_at dksX1_keep_0 21 rfl rfl)
theorem dX1_keep_22 : decode cX1_keep 22 = .ok (.getfield 108, 3) := dk_180 0 108 (dk_at dksX1_keep_1 0 rfl rfl)
theorem dX1_keep_25 : decode cX1_keep 25 = .ok (.iload_n 1, 1) := dk_27 (dk_at dksX1_keep_1 3 rfl rfl)
theorem dX1_keep_26 : decode cX1_keep 26 = .ok (.new 9, 3) := dk_187 0 9 (dk_at dksX1_keep_1 4 rfl rfl)
theorem dX1_keep_29 : decode cX1_keep 29 = .ok (.dup, 1) := dk_89 (dk_at dksX1_keep_1 7 rfl rfl)
theorem dX1_keep_30 : decode cX1_keep 30 = .ok (.invokespecial 11, 3) := dk_183 0 11 (dk_at dksX1_keep_1 8 rfl rfl)
theorem dX1_keep_33 : decode cX1_keep 33 = .ok (.aastore, 1) := dk_83 (dk_at dksX1_keep_1 11 rfl rfl)
theorem dX1_keep_34 : decode cX1_keep 34 = .ok (.aload_n 0, 1) := dk_42 (dk_at dksX1_keep_1 12 rfl rfl)
theorem dX1_keep_35 : decode cX1_keep 35 = .ok (.getfield 108, 3) := dk_180 0 108 (dk_at dksX1_keep_1 13 rfl rfl)
theorem dX1_keep_38 : decode cX1_keep 38 = .ok (.iload_n 1, 1) := dk_27 (dk_at dksX1_keep_1 16 rfl rfl)
theorem dX1_keep_39 : decode cX1_keep 39 = .ok (.aaload, 1) := dk_50 (dk_at dksX1_keep_1 17 rfl rfl)
theorem dX1_keep_40 : decode cX1_keep 40 = .ok (.aload_n 0, 1) := dk_42 (dk_at dksX1_keep_1 18 rfl rfl)
theorem dX1_keep_41 : decode cX1_keep 41 = .ok (.getfield 12, 3) := dk_180 0 12 (dk_at dksX1_keep_1 19 rfl rfl)
theorem dX1_keep_44 : decode cX1_keep 44 = .ok (.invokevirtual 304, 3) := dk_182 1 48 (dk_at dksX1_keep_2 0 rfl rfl)
theorem dX1_keep_47 : decode cX1_keep 47 = .ok (.aload_n 0, 1) := dk_42 (dk_at dksX1_keep_2 3 rfl rfl)
theorem dX1_keep_48 : decode cX1_keep 48 = .ok (.getfield 111, 3) := dk_180 0 111 (dk_at dksX1_keep_2 4 rfl rfl)
theorem dX1_keep_51 : decode cX1_keep 51 = .ok (.iload_n 1, 1) := dk_27 (dk_at dksX1_keep_2 7 rfl rfl)
theorem dX1_keep_52 : decode cX1_keep 52 = .ok (.aload_n 0, 1) := dk_42 (dk_at dksX1_keep_2 8 rfl rfl)
theorem dX1_keep_53 : decode cX1_keep 53 = .ok (.getfield 206, 3) := dk_180 0 206 (dk_at dksX1_keep_2 9 rfl rfl)
theorem dX1_keep_56 : decode cX1_keep 56 = .ok (.iastore, 1) := dk_79 (dk_at dksX1_keep_2 12 rfl rfl)
theorem dX1_keep_57 : decode cX1_keep 57 = .ok (.iconst 1, 1) := dk_4 (dk_at dksX1_keep_2 13 rfl rfl)
theorem dX1_keep_58 : decode cX1_keep 58 = .ok (.ireturn, 1) := dk_172 (dk_at dksX1_keep_2 14 rfl rfl)
abbrev cX1_again : ByteArray := prog_1_method_103_code
def yX1_again : MethodName := ⟨RX1, "again", "(I)Z"⟩
def dkwX1_again_2 : List UInt8 := [3, 181, 0, 203, 4, 172]
abbrev dktX1_again_2 : List UInt8 := dkwX1_again_2 ++ []
def dkwX1_again_1 : List UInt8 := [46, 42, 180, 0, 206, 159, 0, 5, 3, 172, 42, 180, 0, 12, 42, 180, 0, 108, 27, 50, 182, 1, 48, 42]
abbrev dktX1_again_1 : List UInt8 := dkwX1_again_1 ++ dktX1_again_2
def dkwX1_again_0 : List UInt8 := [27, 133, 9, 10, 184, 0, 124, 153, 0, 25, 42, 180, 0, 108, 27, 50, 198, 0, 16, 42, 180, 0, 111, 27]
abbrev dktX1_again_0 : List UInt8 := dkwX1_again_0 ++ dktX1_again_1
theorem dksX1_again_0 : cX1_again.data.toList.drop 0 = dktX1_again_0 := by decide +kernel
theorem dksX1_again_1 : cX1_again.data.toList.drop 24 = dktX1_again_1 := dk_seg dksX1_again_0 24 rfl rfl
theorem dksX1_again_2 : cX1_again.data.toList.drop 48 = dktX1_again_2 := dk_seg dksX1_again_1 24 rfl rfl
theorem dX1_again_0 : decode cX1_again 0 = .ok (.iload_n 1, 1) := dk_27 (dk_at dksX1_again_0 0 rfl rfl)
theorem dX1_again_1 : decode cX1_again 1 = .ok (.i2l, 1) := dk_133 (dk_at dksX1_again_0 1 rfl rfl)
theorem dX1_again_2 : decode cX1_again 2 = .ok (.lconst 0, 1) := dk_9 (dk_at dksX1_again_0 2 rfl rfl)
theorem dX1_again_3 : decode cX1_again 3 = .ok (.lconst 1, 1) := dk_10 (dk_at dksX1_again_0 3 rfl rfl)
theorem dX1_again_4 : decode cX1_again 4 = .ok (.invokestatic 124, 3) := dk_184 0 124 (dk_at dksX1_again_0 4 rfl rfl)
theorem dX1_again_7 : decode cX1_again 7 = .ok (.ifCond .eq 25, 3) := dk_153 0 25 (dk_at dksX1_again_0 7 rfl rfl)
theorem dX1_again_10 : decode cX1_again 10 = .ok (.aload_n 0, 1) := dk_42 (dk_at dksX1_again_0 10 rfl rfl)
theorem dX1_again_11 : decode cX1_again 11 = .ok (.getfield 108, 3) := dk_180 0 108 (dk_at dksX1_again_0 11 rfl rfl)
theorem dX1_again_14 : decode cX1_again 14 = .ok (.iload_n 1, 1) := dk_27 (dk_at dksX1_again_0 14 rfl rfl)
theorem dX1_again_15 : decode cX1_again 15 = .ok (.aaload, 1) := dk_50 (dk_at dksX1_again_0 15 rfl rfl)
theorem dX1_again_16 : decode cX1_again 16 = .ok (.ifnull 16, 3) := dk_198 0 16 (dk_at dksX1_again_0 16 rfl rfl)
theorem dX1_again_19 : decode cX1_again 19 = .ok (.aload_n 0, 1) := dk_42 (dk_at dksX1_again_0 19 rfl rfl)
theorem dX1_again_20 : decode cX1_again 20 = .ok (.getfield 111, 3) := dk_180 0 111 (dk_at dksX1_again_0 20 rfl rfl)
theorem dX1_again_23 : decode cX1_again 23 = .ok (.iload_n 1, 1) := dk_27 (dk_at dksX1_again_0 23 rfl rfl)
theorem dX1_again_24 : decode cX1_again 24 = .ok (.iaload, 1) := dk_46 (dk_at dksX1_again_1 0 rfl rfl)
theorem dX1_again_25 : decode cX1_again 25 = .ok (.aload_n 0, 1) := dk_42 (dk_at dksX1_again_1 1 rfl rfl)
theorem dX1_again_26 : decode cX1_again 26 = .ok (.getfield 206, 3) := dk_180 0 206 (dk_at dksX1_again_1 2 rfl rfl)
theorem dX1_again_29 : decode cX1_again 29 = .ok (.if_icmp .eq 5, 3) := dk_159 0 5 (dk_at dksX1_again_1 5 rfl rfl)
theorem dX1_again_32 : decode cX1_again 32 = .ok (.iconst 0, 1) := dk_3 (dk_at dksX1_again_1 8 rfl rfl)
theorem dX1_again_33 : decode cX1_again 33 = .ok (.ireturn, 1) := dk_172 (dk_at dksX1_again_1 9 rfl rfl)
theorem dX1_again_34 : decode cX1_again 34 = .ok (.aload_n 0, 1) := dk_42 (dk_at dksX1_again_1 10 rfl rfl)
theorem dX1_again_35 : decode cX1_again 35 = .ok (.getfield 12, 3) := dk_180 0 12 (dk_at dksX1_again_1 11 rfl rfl)
theorem dX1_again_38 : decode cX1_again 38 = .ok (.aload_n 0, 1) := dk_42 (dk_at dksX1_again_1 14 rfl rfl)
theorem dX1_again_39 : decode cX1_again 39 = .ok (.getfield 108, 3) := dk_180 0 108 (dk_at dksX1_again_1 15 rfl rfl)
theorem dX1_again_42 : decode cX1_again 42 = .ok (.iload_n 1, 1) := dk_27 (dk_at dksX1_again_1 18 rfl rfl)
theorem dX1_again_43 : decode cX1_again 43 = .ok (.aaload, 1) := dk_50 (dk_at dksX1_again_1 19 rfl rfl)
theorem dX1_again_44 : decode cX1_again 44 = .ok (.invokevirtual 304, 3) := dk_182 1 48 (dk_at dksX1_again_1 20 rfl rfl)
theorem dX1_again_47 : decode cX1_again 47 = .ok (.aload_n 0, 1) := dk_42 (dk_at dksX1_again_1 23 rfl rfl)
theorem dX1_again_48 : decode cX1_again 48 = .ok (.iconst 0, 1) := dk_3 (dk_at dksX1_again_2 0 rfl rfl)
theorem dX1_again_49 : decode cX1_again 49 = .ok (.putfield 203, 3) := dk_181 0 203 (dk_at dksX1_again_2 1 rfl rfl)
theorem dX1_again_52 : decode cX1_again 52 = .ok (.iconst 1, 1) := dk_4 (dk_at dksX1_again_2 4 rfl rfl)
theorem dX1_again_53 : decode cX1_again 53 = .ok (.ireturn, 1) := dk_172 (dk_at dksX1_again_2 5 rfl rfl)
abbrev cX1_count : ByteArray := prog_1_method_104_code
def yX1_count : MethodName := ⟨RX1, "count", "(I)I"⟩
def dkwX1_count_6 : List UInt8 := [180, 0, 12, 180, 1, 58, 27, 16, 20, 100, 46, 167, 0, 5, 16, 156, 172]
abbrev dktX1_count_6 : List UInt8 := dkwX1_count_6 ++ []
def dkwX1_count_5 : List UInt8 := [180, 1, 104, 172, 42, 180, 0, 132, 172, 27, 133, 20, 1, 244, 20, 1, 246, 184, 0, 124, 153, 0, 18, 42]
abbrev dktX1_count_5 : List UInt8 := dkwX1_count_5 ++ dktX1_count_6
def dkwX1_count_4 : List UInt8 := [42, 180, 0, 12, 180, 0, 197, 182, 1, 44, 172, 42, 180, 1, 196, 172, 42, 180, 0, 203, 172, 42]
abbrev dktX1_count_4 : List UInt8 := dkwX1_count_4 ++ dktX1_count_5
def dkwX1_count_3 : List UInt8 := [180, 0, 12, 180, 1, 78, 172, 42, 180, 0, 12, 180, 1, 67, 172, 42, 180, 0, 12, 180, 1, 75, 172, 42]
abbrev dktX1_count_3 : List UInt8 := dkwX1_count_3 ++ dktX1_count_4
def dkwX1_count_2 : List UInt8 := [42, 180, 0, 29, 172, 42, 180, 0, 33, 172, 42, 180, 0, 121, 172, 42, 180, 0, 12, 180, 0, 200, 172, 42]
abbrev dktX1_count_2 : List UInt8 := dkwX1_count_2 ++ dktX1_count_3
def dkwX1_count_1 : List UInt8 := [170, 0, 0, 0, 0, 0, 142, 0, 0, 0, 0, 0, 0, 0, 11, 0, 0, 0, 63, 0, 0, 0, 68, 0, 0, 0, 73, 0, 0, 0, 78, 0, 0, 0, 86, 0, 0, 0, 94, 0, 0, 0, 102, 0, 0, 0, 110, 0, 0, 0, 122, 0, 0, 0, 127, 0, 0, 0, 132, 0, 0, 0, 137]
abbrev dktX1_count_1 : List UInt8 := dkwX1_count_1 ++ dktX1_count_2
def dkwX1_count_0 : List UInt8 := [27]
abbrev dktX1_count_0 : List UInt8 := dkwX1_count_0 ++ dktX1_count_1
theorem dksX1_count_0 : cX1_count.data.toList.drop 0 = dktX1_count_0 := by decide +kernel
theorem dksX1_count_1 : cX1_count.data.toList.drop 1 = dktX1_count_1 := dk_seg dksX1_count_0 1 rfl rfl
theorem dksX1_count_2 : cX1_count.data.toList.drop 64 = dktX1_count_2 := dk_seg dksX1_count_1 63 rfl rfl
theorem dksX1_count_3 : cX1_count.data.toList.drop 88 = dktX1_count_3 := dk_seg dksX1_count_2 24 rfl rfl
theorem dksX1_count_4 : cX1_count.data.toList.drop 112 = dktX1_count_4 := dk_seg dksX1_count_3 24 rfl rfl
theorem dksX1_count_5 : cX1_count.data.toList.drop 134 = dktX1_count_5 := dk_seg dksX1_count_4 22 rfl rfl
theorem dksX1_count_6 : cX1_count.data.toList.drop 158 = dktX1_count_6 := dk_seg dksX1_count_5 24 rfl rfl
theorem dX1_count_0 : decode cX1_count 0 = .ok (.iload_n 1, 1) := dk_27 (dk_at dksX1_count_0 0 rfl rfl)
theorem dX1_count_1 : decode cX1_count 1 = .ok (.tableswitch 142 0 11 #[63, 68, 73, 78, 86, 94, 102, 110, 122, 127, 132, 137], 63) := by decide +kernel
theorem dX1_count_64 : decode cX1_count 64 = .ok (.aload_n 0, 1) := dk_42 (dk_at dksX1_count_2 0 rfl rfl)
theorem dX1_count_65 : decode cX1_count 65 = .ok (.getfield 29, 3) := dk_180 0 29 (dk_at dksX1_count_2 1 rfl rfl)
theorem dX1_count_68 : decode cX1_count 68 = .ok (.ireturn, 1) := dk_172 (dk_at dksX1_count_2 4 rfl rfl)
theorem dX1_count_69 : decode cX1_count 69 = .ok (.aload_n 0, 1) := dk_42 (dk_at dksX1_count_2 5 rfl rfl)
theorem dX1_count_70 : decode cX1_count 70 = .ok (.getfield 33, 3) := dk_180 0 33 (dk_at dksX1_count_2 6 rfl rfl)
theorem dX1_count_73 : decode cX1_count 73 = .ok (.ireturn, 1) := dk_172 (dk_at dksX1_count_2 9 rfl rfl)
theorem dX1_count_74 : decode cX1_count 74 = .ok (.aload_n 0, 1) := dk_42 (dk_at dksX1_count_2 10 rfl rfl)
theorem dX1_count_75 : decode cX1_count 75 = .ok (.getfield 121, 3) := dk_180 0 121 (dk_at dksX1_count_2 11 rfl rfl)
theorem dX1_count_78 : decode cX1_count 78 = .ok (.ireturn, 1) := dk_172 (dk_at dksX1_count_2 14 rfl rfl)
theorem dX1_count_79 : decode cX1_count 79 = .ok (.aload_n 0, 1) := dk_42 (dk_at dksX1_count_2 15 rfl rfl)
theorem dX1_count_80 : decode cX1_count 80 = .ok (.getfield 12, 3) := dk_180 0 12 (dk_at dksX1_count_2 16 rfl rfl)
theorem dX1_count_83 : decode cX1_count 83 = .ok (.getfield 200, 3) := dk_180 0 200 (dk_at dksX1_count_2 19 rfl rfl)
theorem dX1_count_86 : decode cX1_count 86 = .ok (.ireturn, 1) := dk_172 (dk_at dksX1_count_2 22 rfl rfl)
theorem dX1_count_87 : decode cX1_count 87 = .ok (.aload_n 0, 1) := dk_42 (dk_at dksX1_count_2 23 rfl rfl)
theorem dX1_count_88 : decode cX1_count 88 = .ok (.getfield 12, 3) := dk_180 0 12 (dk_at dksX1_count_3 0 rfl rfl)
theorem dX1_count_91 : decode cX1_count 91 = .ok (.getfield 334, 3) := dk_180 1 78 (dk_at dksX1_count_3 3 rfl rfl)
theorem dX1_count_94 : decode cX1_count 94 = .ok (.ireturn, 1) := dk_172 (dk_at dksX1_count_3 6 rfl rfl)
theorem dX1_count_95 : decode cX1_count 95 = .ok (.aload_n 0, 1) := dk_42 (dk_at dksX1_count_3 7 rfl rfl)
theorem dX1_count_96 : decode cX1_count 96 = .ok (.getfield 12, 3) := dk_180 0 12 (dk_at dksX1_count_3 8 rfl rfl)
theorem dX1_count_99 : decode cX1_count 99 = .ok (.getfield 323, 3) := dk_180 1 67 (dk_at dksX1_count_3 11 rfl rfl)
theorem dX1_count_102 : decode cX1_count 102 = .ok (.ireturn, 1) := dk_172 (dk_at dksX1_count_3 14 rfl rfl)
theorem dX1_count_103 : decode cX1_count 103 = .ok (.aload_n 0, 1) := dk_42 (dk_at dksX1_count_3 15 rfl rfl)
theorem dX1_count_104 : decode cX1_count 104 = .ok (.getfield 12, 3) := dk_180 0 12 (dk_at dksX1_count_3 16 rfl rfl)
theorem dX1_count_107 : decode cX1_count 107 = .ok (.getfield 331, 3) := dk_180 1 75 (dk_at dksX1_count_3 19 rfl rfl)
theorem dX1_count_110 : decode cX1_count 110 = .ok (.ireturn, 1) := dk_172 (dk_at dksX1_count_3 22 rfl rfl)
theorem dX1_count_111 : decode cX1_count 111 = .ok (.aload_n 0, 1) := dk_42 (dk_at dksX1_count_3 23 rfl rfl)
theorem dX1_count_112 : decode cX1_count 112 = .ok (.aload_n 0, 1) := dk_42 (dk_at dksX1_count_4 0 rfl rfl)
theorem dX1_count_113 : decode cX1_count 113 = .ok (.getfield 12, 3) := dk_180 0 12 (dk_at dksX1_count_4 1 rfl rfl)
theorem dX1_count_116 : decode cX1_count 116 = .ok (.getfield 197, 3) := dk_180 0 197 (dk_at dksX1_count_4 4 rfl rfl)
theorem dX1_count_119 : decode cX1_count 119 = .ok (.invokevirtual 300, 3) := dk_182 1 44 (dk_at dksX1_count_4 7 rfl rfl)
theorem dX1_count_122 : decode cX1_count 122 = .ok (.ireturn, 1) := dk_172 (dk_at dksX1_count_4 10 rfl rfl)
theorem dX1_count_123 : decode cX1_count 123 = .ok (.aload_n 0, 1) := dk_42 (dk_at dksX1_count_4 11 rfl rfl)
theorem dX1_count_124 : decode cX1_count 124 = .ok (.getfield 452, 3) := dk_180 1 196 (dk_at dksX1_count_4 12 rfl rfl)
theorem dX1_count_127 : decode cX1_count 127 = .ok (.ireturn, 1) := dk_172 (dk_at dksX1_count_4 15 rfl rfl)
theorem dX1_count_128 : decode cX1_count 128 = .ok (.aload_n 0, 1) := dk_42 (dk_at dksX1_count_4 16 rfl rfl)
theorem dX1_count_129 : decode cX1_count 129 = .ok (.getfield 203, 3) := dk_180 0 203 (dk_at dksX1_count_4 17 rfl rfl)
theorem dX1_count_132 : decode cX1_count 132 = .ok (.ireturn, 1) := dk_172 (dk_at dksX1_count_4 20 rfl rfl)
theorem dX1_count_133 : decode cX1_count 133 = .ok (.aload_n 0, 1) := dk_42 (dk_at dksX1_count_4 21 rfl rfl)
theorem dX1_count_134 : decode cX1_count 134 = .ok (.getfield 360, 3) := dk_180 1 104 (dk_at dksX1_count_5 0 rfl rfl)
theorem dX1_count_137 : decode cX1_count 137 = .ok (.ireturn, 1) := dk_172 (dk_at dksX1_count_5 3 rfl rfl)
theorem dX1_count_138 : decode cX1_count 138 = .ok (.aload_n 0, 1) := dk_42 (dk_at dksX1_count_5 4 rfl rfl)
theorem dX1_count_139 : decode cX1_count 139 = .ok (.getfield 132, 3) := dk_180 0 132 (dk_at dksX1_count_5 5 rfl rfl)
theorem dX1_count_142 : decode cX1_count 142 = .ok (.ireturn, 1) := dk_172 (dk_at dksX1_count_5 8 rfl rfl)
theorem dX1_count_143 : decode cX1_count 143 = .ok (.iload_n 1, 1) := dk_27 (dk_at dksX1_count_5 9 rfl rfl)
theorem dX1_count_144 : decode cX1_count 144 = .ok (.i2l, 1) := dk_133 (dk_at dksX1_count_5 10 rfl rfl)
theorem dX1_count_145 : decode cX1_count 145 = .ok (.ldc2_w 500, 3) := dk_20 1 244 (dk_at dksX1_count_5 11 rfl rfl)
theorem dX1_count_148 : decode cX1_count 148 = .ok (.ldc2_w 502, 3) := dk_20 1 246 (dk_at dksX1_count_5 14 rfl rfl)
theorem dX1_count_151 : decode cX1_count 151 = .ok (.invokestatic 124, 3) := dk_184 0 124 (dk_at dksX1_count_5 17 rfl rfl)
theorem dX1_count_154 : decode cX1_count 154 = .ok (.ifCond .eq 18, 3) := dk_153 0 18 (dk_at dksX1_count_5 20 rfl rfl)
theorem dX1_count_157 : decode cX1_count 157 = .ok (.aload_n 0, 1) := dk_42 (dk_at dksX1_count_5 23 rfl rfl)
theorem dX1_count_158 : decode cX1_count 158 = .ok (.getfield 12, 3) := dk_180 0 12 (dk_at dksX1_count_6 0 rfl rfl)
theorem dX1_count_161 : decode cX1_count 161 = .ok (.getfield 314, 3) := dk_180 1 58 (dk_at dksX1_count_6 3 rfl rfl)
theorem dX1_count_164 : decode cX1_count 164 = .ok (.iload_n 1, 1) := dk_27 (dk_at dksX1_count_6 6 rfl rfl)
theorem dX1_count_165 : decode cX1_count 165 = .ok (.bipush 20, 2) := dk_16 20 (dk_at dksX1_count_6 7 rfl rfl)
theorem dX1_count_167 : decode cX1_count 167 = .ok (.isub, 1) := dk_100 (dk_at dksX1_count_6 9 rfl rfl)
theorem dX1_count_168 : decode cX1_count 168 = .ok (.iaload, 1) := dk_46 (dk_at dksX1_count_6 10 rfl rfl)
theorem dX1_count_169 : decode cX1_count 169 = .ok (.goto 5, 3) := dk_167 0 5 (dk_at dksX1_count_6 11 rfl rfl)
theorem dX1_count_172 : decode cX1_count 172 = .ok (.bipush (-100), 2) := dk_16 156 (dk_at dksX1_count_6 14 rfl rfl)
theorem dX1_count_174 : decode cX1_count 174 = .ok (.ireturn, 1) := dk_172 (dk_at dksX1_count_6 16 rfl rfl)
abbrev cX1_rider : ByteArray := prog_1_method_29_code
def yX1_rider : MethodName := ⟨RX1, "rider", "(II)I"⟩
def dkwX1_rider_4 : List UInt8 := [167, 0, 4, 3, 172, 42, 180, 0, 12, 27, 182, 1, 29, 172, 187, 1, 22, 89, 183, 1, 24, 191]
abbrev dktX1_rider_4 : List UInt8 := dkwX1_rider_4 ++ []
def dkwX1_rider_3 : List UInt8 := [180, 0, 12, 180, 0, 197, 27, 46, 172, 42, 180, 0, 12, 180, 0, 200, 27, 184, 1, 25, 153, 0, 7, 4]
abbrev dktX1_rider_3 : List UInt8 := dkwX1_rider_3 ++ dktX1_rider_4
def dkwX1_rider_2 : List UInt8 := [42, 180, 0, 19, 27, 46, 172, 42, 180, 0, 23, 27, 46, 172, 42, 180, 0, 26, 27, 46, 172, 42]
abbrev dktX1_rider_2 : List UInt8 := dkwX1_rider_2 ++ dktX1_rider_3
def dkwX1_rider_1 : List UInt8 := [170, 0, 0, 0, 0, 0, 99, 0, 0, 0, 0, 0, 0, 0, 5, 0, 0, 0, 39, 0, 0, 0, 46, 0, 0, 0, 53, 0, 0, 0, 60, 0, 0, 0, 70, 0, 0, 0, 90]
abbrev dktX1_rider_1 : List UInt8 := dkwX1_rider_1 ++ dktX1_rider_2
def dkwX1_rider_0 : List UInt8 := [42, 27, 182, 0, 128, 154, 0, 11, 187, 1, 22, 89, 183, 1, 24, 191, 28]
abbrev dktX1_rider_0 : List UInt8 := dkwX1_rider_0 ++ dktX1_rider_1
theorem dksX1_rider_0 : cX1_rider.data.toList.drop 0 = dktX1_rider_0 := by decide +kernel
theorem dksX1_rider_1 : cX1_rider.data.toList.drop 17 = dktX1_rider_1 := dk_seg dksX1_rider_0 17 rfl rfl
theorem dksX1_rider_2 : cX1_rider.data.toList.drop 56 = dktX1_rider_2 := dk_seg dksX1_rider_1 39 rfl rfl
theorem dksX1_rider_3 : cX1_rider.data.toList.drop 78 = dktX1_rider_3 := dk_seg dksX1_rider_2 22 rfl rfl
theorem dksX1_rider_4 : cX1_rider.data.toList.drop 102 = dktX1_rider_4 := dk_seg dksX1_rider_3 24 rfl rfl
theorem dX1_rider_0 : decode cX1_rider 0 = .ok (.aload_n 0, 1) := dk_42 (dk_at dksX1_rider_0 0 rfl rfl)
theorem dX1_rider_1 : decode cX1_rider 1 = .ok (.iload_n 1, 1) := dk_27 (dk_at dksX1_rider_0 1 rfl rfl)
theorem dX1_rider_2 : decode cX1_rider 2 = .ok (.invokevirtual 128, 3) := dk_182 0 128 (dk_at dksX1_rider_0 2 rfl rfl)
theorem dX1_rider_5 : decode cX1_rider 5 = .ok (.ifCond .ne 11, 3) := dk_154 0 11 (dk_at dksX1_rider_0 5 rfl rfl)
theorem dX1_rider_8 : decode cX1_rider 8 = .ok (.new 278, 3) := dk_187 1 22 (dk_at dksX1_rider_0 8 rfl rfl)
theorem dX1_rider_11 : decode cX1_rider 11 = .ok (.dup, 1) := dk_89 (dk_at dksX1_rider_0 11 rfl rfl)
theorem dX1_rider_12 : decode cX1_rider 12 = .ok (.invokespecial 280, 3) := dk_183 1 24 (dk_at dksX1_rider_0 12 rfl rfl)
theorem dX1_rider_15 : decode cX1_rider 15 = .ok (.athrow, 1) := dk_191 (dk_at dksX1_rider_0 15 rfl rfl)
theorem dX1_rider_16 : decode cX1_rider 16 = .ok (.iload_n 2, 1) := dk_28 (dk_at dksX1_rider_0 16 rfl rfl)
theorem dX1_rider_17 : decode cX1_rider 17 = .ok (.tableswitch 99 0 5 #[39, 46, 53, 60, 70, 90], 39) := by decide +kernel
theorem dX1_rider_56 : decode cX1_rider 56 = .ok (.aload_n 0, 1) := dk_42 (dk_at dksX1_rider_2 0 rfl rfl)
theorem dX1_rider_57 : decode cX1_rider 57 = .ok (.getfield 19, 3) := dk_180 0 19 (dk_at dksX1_rider_2 1 rfl rfl)
theorem dX1_rider_60 : decode cX1_rider 60 = .ok (.iload_n 1, 1) := dk_27 (dk_at dksX1_rider_2 4 rfl rfl)
theorem dX1_rider_61 : decode cX1_rider 61 = .ok (.iaload, 1) := dk_46 (dk_at dksX1_rider_2 5 rfl rfl)
theorem dX1_rider_62 : decode cX1_rider 62 = .ok (.ireturn, 1) := dk_172 (dk_at dksX1_rider_2 6 rfl rfl)
theorem dX1_rider_63 : decode cX1_rider 63 = .ok (.aload_n 0, 1) := dk_42 (dk_at dksX1_rider_2 7 rfl rfl)
theorem dX1_rider_64 : decode cX1_rider 64 = .ok (.getfield 23, 3) := dk_180 0 23 (dk_at dksX1_rider_2 8 rfl rfl)
theorem dX1_rider_67 : decode cX1_rider 67 = .ok (.iload_n 1, 1) := dk_27 (dk_at dksX1_rider_2 11 rfl rfl)
theorem dX1_rider_68 : decode cX1_rider 68 = .ok (.iaload, 1) := dk_46 (dk_at dksX1_rider_2 12 rfl rfl)
theorem dX1_rider_69 : decode cX1_rider 69 = .ok (.ireturn, 1) := dk_172 (dk_at dksX1_rider_2 13 rfl rfl)
theorem dX1_rider_70 : decode cX1_rider 70 = .ok (.aload_n 0, 1) := dk_42 (dk_at dksX1_rider_2 14 rfl rfl)
theorem dX1_rider_71 : decode cX1_rider 71 = .ok (.getfield 26, 3) := dk_180 0 26 (dk_at dksX1_rider_2 15 rfl rfl)
theorem dX1_rider_74 : decode cX1_rider 74 = .ok (.iload_n 1, 1) := dk_27 (dk_at dksX1_rider_2 18 rfl rfl)
theorem dX1_rider_75 : decode cX1_rider 75 = .ok (.iaload, 1) := dk_46 (dk_at dksX1_rider_2 19 rfl rfl)
theorem dX1_rider_76 : decode cX1_rider 76 = .ok (.ireturn, 1) := dk_172 (dk_at dksX1_rider_2 20 rfl rfl)
theorem dX1_rider_77 : decode cX1_rider 77 = .ok (.aload_n 0, 1) := dk_42 (dk_at dksX1_rider_2 21 rfl rfl)
theorem dX1_rider_78 : decode cX1_rider 78 = .ok (.getfield 12, 3) := dk_180 0 12 (dk_at dksX1_rider_3 0 rfl rfl)
theorem dX1_rider_81 : decode cX1_rider 81 = .ok (.getfield 197, 3) := dk_180 0 197 (dk_at dksX1_rider_3 3 rfl rfl)
theorem dX1_rider_84 : decode cX1_rider 84 = .ok (.iload_n 1, 1) := dk_27 (dk_at dksX1_rider_3 6 rfl rfl)
theorem dX1_rider_85 : decode cX1_rider 85 = .ok (.iaload, 1) := dk_46 (dk_at dksX1_rider_3 7 rfl rfl)
theorem dX1_rider_86 : decode cX1_rider 86 = .ok (.ireturn, 1) := dk_172 (dk_at dksX1_rider_3 8 rfl rfl)
theorem dX1_rider_87 : decode cX1_rider 87 = .ok (.aload_n 0, 1) := dk_42 (dk_at dksX1_rider_3 9 rfl rfl)
theorem dX1_rider_88 : decode cX1_rider 88 = .ok (.getfield 12, 3) := dk_180 0 12 (dk_at dksX1_rider_3 10 rfl rfl)
theorem dX1_rider_91 : decode cX1_rider 91 = .ok (.getfield 200, 3) := dk_180 0 200 (dk_at dksX1_rider_3 13 rfl rfl)
theorem dX1_rider_94 : decode cX1_rider 94 = .ok (.iload_n 1, 1) := dk_27 (dk_at dksX1_rider_3 16 rfl rfl)
theorem dX1_rider_95 : decode cX1_rider 95 = .ok (.invokestatic 281, 3) := dk_184 1 25 (dk_at dksX1_rider_3 17 rfl rfl)
theorem dX1_rider_98 : decode cX1_rider 98 = .ok (.ifCond .eq 7, 3) := dk_153 0 7 (dk_at dksX1_rider_3 20 rfl rfl)
theorem dX1_rider_101 : decode cX1_rider 101 = .ok (.iconst 1, 1) := dk_4 (dk_at dksX1_rider_3 23 rfl rfl)
theorem dX1_rider_102 : decode cX1_rider 102 = .ok (.goto 4, 3) := dk_167 0 4 (dk_at dksX1_rider_4 0 rfl rfl)
theorem dX1_rider_105 : decode cX1_rider 105 = .ok (.iconst 0, 1) := dk_3 (dk_at dksX1_rider_4 3 rfl rfl)
theorem dX1_rider_106 : decode cX1_rider 106 = .ok (.ireturn, 1) := dk_172 (dk_at dksX1_rider_4 4 rfl rfl)
theorem dX1_rider_107 : decode cX1_rider 107 = .ok (.aload_n 0, 1) := dk_42 (dk_at dksX1_rider_4 5 rfl rfl)
theorem dX1_rider_108 : decode cX1_rider 108 = .ok (.getfield 12, 3) := dk_180 0 12 (dk_at dksX1_rider_4 6 rfl rfl)
theorem dX1_rider_111 : decode cX1_rider 111 = .ok (.iload_n 1, 1) := dk_27 (dk_at dksX1_rider_4 9 rfl rfl)
theorem dX1_rider_112 : decode cX1_rider 112 = .ok (.invokevirtual 285, 3) := dk_182 1 29 (dk_at dksX1_rider_4 10 rfl rfl)
theorem dX1_rider_115 : decode cX1_rider 115 = .ok (.ireturn, 1) := dk_172 (dk_at dksX1_rider_4 13 rfl rfl)
theorem dX1_rider_116 : decode cX1_rider 116 = .ok (.new 278, 3) := dk_187 1 22 (dk_at dksX1_rider_4 14 rfl rfl)
theorem dX1_rider_119 : decode cX1_rider 119 = .ok (.dup, 1) := dk_89 (dk_at dksX1_rider_4 17 rfl rfl)
theorem dX1_rider_120 : decode cX1_rider 120 = .ok (.invokespecial 280, 3) := dk_183 1 24 (dk_at dksX1_rider_4 18 rfl rfl)
theorem dX1_rider_123 : decode cX1_rider 123 = .ok (.athrow, 1) := dk_191 (dk_at dksX1_rider_4 21 rfl rfl)
abbrev cX1_row : ByteArray := prog_1_method_106_code
def yX1_row : MethodName := ⟨RX1, "row", "(I)J"⟩
def dkwX1_row_1 : List UInt8 := [42, 180, 0, 114, 27, 47, 173]
abbrev dktX1_row_1 : List UInt8 := dkwX1_row_1 ++ []
def dkwX1_row_0 : List UInt8 := [27, 133, 9, 42, 180, 1, 104, 4, 100, 133, 184, 0, 124, 154, 0, 11, 187, 1, 22, 89, 183, 1, 24, 191]
abbrev dktX1_row_0 : List UInt8 := dkwX1_row_0 ++ dktX1_row_1
theorem dksX1_row_0 : cX1_row.data.toList.drop 0 = dktX1_row_0 := by decide +kernel
theorem dksX1_row_1 : cX1_row.data.toList.drop 24 = dktX1_row_1 := dk_seg dksX1_row_0 24 rfl rfl
theorem dX1_row_0 : decode cX1_row 0 = .ok (.iload_n 1, 1) := dk_27 (dk_at dksX1_row_0 0 rfl rfl)
theorem dX1_row_1 : decode cX1_row 1 = .ok (.i2l, 1) := dk_133 (dk_at dksX1_row_0 1 rfl rfl)
theorem dX1_row_2 : decode cX1_row 2 = .ok (.lconst 0, 1) := dk_9 (dk_at dksX1_row_0 2 rfl rfl)
theorem dX1_row_3 : decode cX1_row 3 = .ok (.aload_n 0, 1) := dk_42 (dk_at dksX1_row_0 3 rfl rfl)
theorem dX1_row_4 : decode cX1_row 4 = .ok (.getfield 360, 3) := dk_180 1 104 (dk_at dksX1_row_0 4 rfl rfl)
theorem dX1_row_7 : decode cX1_row 7 = .ok (.iconst 1, 1) := dk_4 (dk_at dksX1_row_0 7 rfl rfl)
theorem dX1_row_8 : decode cX1_row 8 = .ok (.isub, 1) := dk_100 (dk_at dksX1_row_0 8 rfl rfl)
theorem dX1_row_9 : decode cX1_row 9 = .ok (.i2l, 1) := dk_133 (dk_at dksX1_row_0 9 rfl rfl)
theorem dX1_row_10 : decode cX1_row 10 = .ok (.invokestatic 124, 3) := dk_184 0 124 (dk_at dksX1_row_0 10 rfl rfl)
theorem dX1_row_13 : decode cX1_row 13 = .ok (.ifCond .ne 11, 3) := dk_154 0 11 (dk_at dksX1_row_0 13 rfl rfl)
theorem dX1_row_16 : decode cX1_row 16 = .ok (.new 278, 3) := dk_187 1 22 (dk_at dksX1_row_0 16 rfl rfl)
theorem dX1_row_19 : decode cX1_row 19 = .ok (.dup, 1) := dk_89 (dk_at dksX1_row_0 19 rfl rfl)
theorem dX1_row_20 : decode cX1_row 20 = .ok (.invokespecial 280, 3) := dk_183 1 24 (dk_at dksX1_row_0 20 rfl rfl)
theorem dX1_row_23 : decode cX1_row 23 = .ok (.athrow, 1) := dk_191 (dk_at dksX1_row_0 23 rfl rfl)
theorem dX1_row_24 : decode cX1_row 24 = .ok (.aload_n 0, 1) := dk_42 (dk_at dksX1_row_1 0 rfl rfl)
theorem dX1_row_25 : decode cX1_row 25 = .ok (.getfield 114, 3) := dk_180 0 114 (dk_at dksX1_row_1 1 rfl rfl)
theorem dX1_row_28 : decode cX1_row 28 = .ok (.iload_n 1, 1) := dk_27 (dk_at dksX1_row_1 4 rfl rfl)
theorem dX1_row_29 : decode cX1_row 29 = .ok (.laload, 1) := dk_47 (dk_at dksX1_row_1 5 rfl rfl)
theorem dX1_row_30 : decode cX1_row 30 = .ok (.lreturn, 1) := dk_173 (dk_at dksX1_row_1 6 rfl rfl)
theorem q107 : (Jvm.Cond.initialized "RockingHorse") ∈ lw_all := lw_g (lw_at lw_m1 1 rfl) rfl
theorem q128 : (Jvm.Cond.instantiable "RockingHorse" (53 : Nat)) ∈ lw_all := lw_g (lw_at lw_m1 22 rfl) rfl
theorem q130 : (Jvm.Cond.instanceMethod ({ cls := "RockingHorse", name := "<init>", desc := "()V" } : Jvm.MethodName)) ∈ lw_all := lw_g (lw_at lw_m1 24 rfl) rfl
theorem q131 : (Jvm.Cond.code ({ cls := "RockingHorse", name := "<init>", desc := "()V" } : Jvm.MethodName) prog_1_method_1_code (1 : Nat) (Option.none : Option Jvm.ClassFile.FieldType)) ∈ lw_all := lw_g (lw_at lw_m1 25 rfl) rfl
theorem q132 : (Jvm.Cond.methodLink "RockingHorse" (3 : Nat) ({ cls := "java/lang/Object", name := "<init>", desc := "()V" } : Jvm.MethodName)) ∈ lw_all := lw_g (lw_at lw_m1 26 rfl) rfl
theorem q135 : (Jvm.Cond.classLink "RockingHorse" (9 : Nat) "RockingHorse$Horse") ∈ lw_all := lw_g (lw_at lw_m1 29 rfl) rfl
theorem q137 : (Jvm.Cond.methodLinkNest "RockingHorse" (11 : Nat) ({ cls := "RockingHorse$Horse", name := "<init>", desc := "()V" } : Jvm.MethodName) "RockingHorse") ∈ lw_tbl := lw_at lw_m1 31 rfl
theorem q142 : (Jvm.Cond.fieldLinkNest "RockingHorse" (314 : Nat) "RockingHorse$Horse" "rota" "[I" "RockingHorse") ∈ lw_tbl := lw_at lw_m1 36 rfl
theorem q145 : (Jvm.Cond.fieldLinkNest "RockingHorse" (197 : Nat) "RockingHorse$Horse" "tired" "[I" "RockingHorse") ∈ lw_tbl := lw_at lw_m1 39 rfl
theorem q147 : (Jvm.Cond.fieldLinkNest "RockingHorse" (200 : Nat) "RockingHorse$Horse" "ill" "I" "RockingHorse") ∈ lw_tbl := lw_at lw_m1 41 rfl
theorem q150 : (Jvm.Cond.fieldLinkNest "RockingHorse" (334 : Nat) "RockingHorse$Horse" "night" "I" "RockingHorse") ∈ lw_tbl := lw_at lw_m1 44 rfl
theorem q152 : (Jvm.Cond.fieldLinkNest "RockingHorse" (323 : Nat) "RockingHorse$Horse" "gaps" "I" "RockingHorse") ∈ lw_tbl := lw_at lw_m1 46 rfl
theorem q154 : (Jvm.Cond.fieldLinkNest "RockingHorse" (331 : Nat) "RockingHorse$Horse" "ridden" "I" "RockingHorse") ∈ lw_tbl := lw_at lw_m1 48 rfl
theorem q170 : (Jvm.Cond.constant "RockingHorse" (95 : Nat) (1000000 : Int32)) ∈ lw_all := lw_g (lw_at lw_m1 64 rfl) rfl
theorem q171 : (Jvm.Cond.fieldLink "RockingHorse" (12 : Nat) "RockingHorse" "now" "LRockingHorse$Horse;") ∈ lw_all := lw_g (lw_at lw_m1 65 rfl) rfl
theorem q172 : (Jvm.Cond.fieldLink "RockingHorse" (16 : Nat) "RockingHorse" "tried" "LRockingHorse$Horse;") ∈ lw_all := lw_g (lw_at lw_m1 66 rfl) rfl
theorem q173 : (Jvm.Cond.fieldLink "RockingHorse" (19 : Nat) "RockingHorse" "most" "[I") ∈ lw_all := lw_g (lw_at lw_m1 67 rfl) rfl
theorem q175 : (Jvm.Cond.fieldLink "RockingHorse" (23 : Nat) "RockingHorse" "width" "[I") ∈ lw_all := lw_g (lw_at lw_m1 69 rfl) rfl
theorem q177 : (Jvm.Cond.fieldLink "RockingHorse" (26 : Nat) "RockingHorse" "can" "[I") ∈ lw_all := lw_g (lw_at lw_m1 71 rfl) rfl
theorem q179 : (Jvm.Cond.fieldLink "RockingHorse" (121 : Nat) "RockingHorse" "riders" "I") ∈ lw_all := lw_g (lw_at lw_m1 73 rfl) rfl
theorem q180 : (Jvm.Cond.fieldLink "RockingHorse" (29 : Nat) "RockingHorse" "hours" "I") ∈ lw_all := lw_g (lw_at lw_m1 74 rfl) rfl
theorem q181 : (Jvm.Cond.fieldLink "RockingHorse" (33 : Nat) "RockingHorse" "beats" "I") ∈ lw_all := lw_g (lw_at lw_m1 75 rfl) rfl
theorem q182 : (Jvm.Cond.fieldLink "RockingHorse" (206 : Nat) "RockingHorse" "changes" "I") ∈ lw_all := lw_g (lw_at lw_m1 76 rfl) rfl
theorem q183 : (Jvm.Cond.fieldLink "RockingHorse" (36 : Nat) "RockingHorse" "text" "[I") ∈ lw_all := lw_g (lw_at lw_m1 77 rfl) rfl
theorem q184 : (Jvm.Cond.fieldLink "RockingHorse" (132 : Nat) "RockingHorse" "signMany" "I") ∈ lw_all := lw_g (lw_at lw_m1 78 rfl) rfl
theorem q185 : (Jvm.Cond.fieldLink "RockingHorse" (135 : Nat) "RockingHorse" "at" "I") ∈ lw_all := lw_g (lw_at lw_m1 79 rfl) rfl
theorem q186 : (Jvm.Cond.fieldLink "RockingHorse" (147 : Nat) "RockingHorse" "end" "I") ∈ lw_all := lw_g (lw_at lw_m1 80 rfl) rfl
theorem q187 : (Jvm.Cond.fieldLink "RockingHorse" (138 : Nat) "RockingHorse" "nest" "I") ∈ lw_all := lw_g (lw_at lw_m1 81 rfl) rfl
theorem q188 : (Jvm.Cond.fieldLink "RockingHorse" (39 : Nat) "RockingHorse" "readMost" "[I") ∈ lw_all := lw_g (lw_at lw_m1 82 rfl) rfl
theorem q189 : (Jvm.Cond.fieldLink "RockingHorse" (42 : Nat) "RockingHorse" "readWidth" "[I") ∈ lw_all := lw_g (lw_at lw_m1 83 rfl) rfl
theorem q190 : (Jvm.Cond.fieldLink "RockingHorse" (45 : Nat) "RockingHorse" "readCan" "[I") ∈ lw_all := lw_g (lw_at lw_m1 84 rfl) rfl
theorem q191 : (Jvm.Cond.fieldLink "RockingHorse" (172 : Nat) "RockingHorse" "readMany" "I") ∈ lw_all := lw_g (lw_at lw_m1 85 rfl) rfl
theorem q193 : (Jvm.Cond.fieldLink "RockingHorse" (261 : Nat) "RockingHorse" "askedHorse" "LRockingHorse$Horse;") ∈ lw_all := lw_g (lw_at lw_m1 87 rfl) rfl
theorem q195 : (Jvm.Cond.fieldLink "RockingHorse" (264 : Nat) "RockingHorse" "askedRider" "I") ∈ lw_all := lw_g (lw_at lw_m1 89 rfl) rfl
theorem q197 : (Jvm.Cond.fieldLink "RockingHorse" (267 : Nat) "RockingHorse" "askedHour" "I") ∈ lw_all := lw_g (lw_at lw_m1 91 rfl) rfl
theorem q198 : (Jvm.Cond.fieldLink "RockingHorse" (258 : Nat) "RockingHorse" "rule" "LRockingHorse$Node;") ∈ lw_all := lw_g (lw_at lw_m1 92 rfl) rfl
theorem q199 : (Jvm.Cond.fieldLink "RockingHorse" (250 : Nat) "RockingHorse" "readRule" "LRockingHorse$Node;") ∈ lw_all := lw_g (lw_at lw_m1 93 rfl) rfl
theorem q200 : (Jvm.Cond.fieldLink "RockingHorse" (48 : Nat) "RockingHorse" "undone" "[LRockingHorse$Horse;") ∈ lw_all := lw_g (lw_at lw_m1 94 rfl) rfl
theorem q201 : (Jvm.Cond.fieldLink "RockingHorse" (52 : Nat) "RockingHorse" "wasAhead" "LRockingHorse$Horse;") ∈ lw_all := lw_g (lw_at lw_m1 95 rfl) rfl
theorem q202 : (Jvm.Cond.fieldLink "RockingHorse" (203 : Nat) "RockingHorse" "undoMany" "I") ∈ lw_all := lw_g (lw_at lw_m1 96 rfl) rfl
theorem q203 : (Jvm.Cond.fieldLink "RockingHorse" (55 : Nat) "RockingHorse" "rode" "[I") ∈ lw_all := lw_g (lw_at lw_m1 97 rfl) rfl
theorem q204 : (Jvm.Cond.fieldLink "RockingHorse" (58 : Nat) "RockingHorse" "hardship" "[I") ∈ lw_all := lw_g (lw_at lw_m1 98 rfl) rfl
theorem q205 : (Jvm.Cond.fieldLink "RockingHorse" (308 : Nat) "RockingHorse" "gapBits" "I") ∈ lw_all := lw_g (lw_at lw_m1 99 rfl) rfl
theorem q206 : (Jvm.Cond.fieldLink "RockingHorse" (311 : Nat) "RockingHorse" "riddenBits" "I") ∈ lw_all := lw_g (lw_at lw_m1 100 rfl) rfl
theorem q207 : (Jvm.Cond.fieldLink "RockingHorse" (61 : Nat) "RockingHorse" "readRota" "[I") ∈ lw_all := lw_g (lw_at lw_m1 101 rfl) rfl
theorem q208 : (Jvm.Cond.fieldLink "RockingHorse" (64 : Nat) "RockingHorse" "actSign" "[I") ∈ lw_all := lw_g (lw_at lw_m1 102 rfl) rfl
theorem q209 : (Jvm.Cond.fieldLink "RockingHorse" (67 : Nat) "RockingHorse" "actOne" "[I") ∈ lw_all := lw_g (lw_at lw_m1 103 rfl) rfl
theorem q210 : (Jvm.Cond.fieldLink "RockingHorse" (70 : Nat) "RockingHorse" "actTwo" "[I") ∈ lw_all := lw_g (lw_at lw_m1 104 rfl) rfl
theorem q211 : (Jvm.Cond.fieldLink "RockingHorse" (367 : Nat) "RockingHorse" "actMany" "I") ∈ lw_all := lw_g (lw_at lw_m1 105 rfl) rfl
theorem q212 : (Jvm.Cond.fieldLink "RockingHorse" (73 : Nat) "RockingHorse" "may" "[I") ∈ lw_all := lw_g (lw_at lw_m1 106 rfl) rfl
theorem q213 : (Jvm.Cond.fieldLink "RockingHorse" (76 : Nat) "RockingHorse" "wasMay" "[I") ∈ lw_all := lw_g (lw_at lw_m1 107 rfl) rfl
theorem q214 : (Jvm.Cond.fieldLink "RockingHorse" (79 : Nat) "RockingHorse" "price" "[I") ∈ lw_all := lw_g (lw_at lw_m1 108 rfl) rfl
theorem q215 : (Jvm.Cond.fieldLink "RockingHorse" (82 : Nat) "RockingHorse" "setPrice" "[I") ∈ lw_all := lw_g (lw_at lw_m1 109 rfl) rfl
theorem q216 : (Jvm.Cond.fieldLink "RockingHorse" (85 : Nat) "RockingHorse" "least" "[I") ∈ lw_all := lw_g (lw_at lw_m1 110 rfl) rfl
theorem q217 : (Jvm.Cond.fieldLink "RockingHorse" (88 : Nat) "RockingHorse" "turn" "[I") ∈ lw_all := lw_g (lw_at lw_m1 111 rfl) rfl
theorem q218 : (Jvm.Cond.fieldLink "RockingHorse" (91 : Nat) "RockingHorse" "ways" "[J") ∈ lw_all := lw_g (lw_at lw_m1 112 rfl) rfl
theorem q219 : (Jvm.Cond.fieldLink "RockingHorse" (96 : Nat) "RockingHorse" "limit" "I") ∈ lw_all := lw_g (lw_at lw_m1 113 rfl) rfl
theorem q220 : (Jvm.Cond.fieldLink "RockingHorse" (442 : Nat) "RockingHorse" "smooth" "I") ∈ lw_all := lw_g (lw_at lw_m1 114 rfl) rfl
theorem q221 : (Jvm.Cond.fieldLink "RockingHorse" (452 : Nat) "RockingHorse" "foundMany" "I") ∈ lw_all := lw_g (lw_at lw_m1 115 rfl) rfl
theorem q222 : (Jvm.Cond.fieldLink "RockingHorse" (99 : Nat) "RockingHorse" "foundHour" "[I") ∈ lw_all := lw_g (lw_at lw_m1 116 rfl) rfl
theorem q223 : (Jvm.Cond.fieldLink "RockingHorse" (102 : Nat) "RockingHorse" "foundRider" "[I") ∈ lw_all := lw_g (lw_at lw_m1 117 rfl) rfl
theorem q224 : (Jvm.Cond.fieldLink "RockingHorse" (105 : Nat) "RockingHorse" "foundIs" "[I") ∈ lw_all := lw_g (lw_at lw_m1 118 rfl) rfl
theorem q225 : (Jvm.Cond.fieldLink "RockingHorse" (493 : Nat) "RockingHorse" "random" "I") ∈ lw_all := lw_g (lw_at lw_m1 119 rfl) rfl
theorem q226 : (Jvm.Cond.fieldLink "RockingHorse" (108 : Nat) "RockingHorse" "kept" "[LRockingHorse$Horse;") ∈ lw_all := lw_g (lw_at lw_m1 120 rfl) rfl
theorem q227 : (Jvm.Cond.fieldLink "RockingHorse" (111 : Nat) "RockingHorse" "keptChanges" "[I") ∈ lw_all := lw_g (lw_at lw_m1 121 rfl) rfl
theorem q228 : (Jvm.Cond.fieldLink "RockingHorse" (114 : Nat) "RockingHorse" "row" "[J") ∈ lw_all := lw_g (lw_at lw_m1 122 rfl) rfl
theorem q229 : (Jvm.Cond.fieldLink "RockingHorse" (360 : Nat) "RockingHorse" "rowMany" "I") ∈ lw_all := lw_g (lw_at lw_m1 123 rfl) rfl
theorem q230 : (Jvm.Cond.laysFinal "RockingHorse" "RockingHorse" "now" "LRockingHorse$Horse;") ∈ lw_all := lw_g (lw_at lw_m1 124 rfl) rfl
theorem q231 : (Jvm.Cond.soleField "RockingHorse" "now") ∈ lw_all := lw_g (lw_at lw_m1 125 rfl) rfl
theorem q232 : (Jvm.Cond.laysFinal "RockingHorse" "RockingHorse" "tried" "LRockingHorse$Horse;") ∈ lw_all := lw_g (lw_at lw_m1 126 rfl) rfl
theorem q233 : (Jvm.Cond.soleField "RockingHorse" "tried") ∈ lw_all := lw_g (lw_at lw_m1 127 rfl) rfl
theorem q234 : (Jvm.Cond.laysFinal "RockingHorse" "RockingHorse" "most" "[I") ∈ lw_all := lw_g (lw_at lw_m1 128 rfl) rfl
theorem q235 : (Jvm.Cond.soleField "RockingHorse" "most") ∈ lw_all := lw_g (lw_at lw_m1 129 rfl) rfl
theorem q236 : (Jvm.Cond.laysFinal "RockingHorse" "RockingHorse" "width" "[I") ∈ lw_all := lw_g (lw_at lw_m1 130 rfl) rfl
theorem q237 : (Jvm.Cond.soleField "RockingHorse" "width") ∈ lw_all := lw_g (lw_at lw_m1 131 rfl) rfl
theorem q238 : (Jvm.Cond.laysFinal "RockingHorse" "RockingHorse" "can" "[I") ∈ lw_all := lw_g (lw_at lw_m1 132 rfl) rfl
theorem q239 : (Jvm.Cond.soleField "RockingHorse" "can") ∈ lw_all := lw_g (lw_at lw_m1 133 rfl) rfl
theorem q240 : (Jvm.Cond.lays "RockingHorse" "RockingHorse" "riders" "I") ∈ lw_all := lw_g (lw_at lw_m1 134 rfl) rfl
theorem q241 : (Jvm.Cond.soleField "RockingHorse" "riders") ∈ lw_all := lw_g (lw_at lw_m1 135 rfl) rfl
theorem q242 : (Jvm.Cond.lays "RockingHorse" "RockingHorse" "hours" "I") ∈ lw_all := lw_g (lw_at lw_m1 136 rfl) rfl
theorem q243 : (Jvm.Cond.soleField "RockingHorse" "hours") ∈ lw_all := lw_g (lw_at lw_m1 137 rfl) rfl
theorem q244 : (Jvm.Cond.lays "RockingHorse" "RockingHorse" "beats" "I") ∈ lw_all := lw_g (lw_at lw_m1 138 rfl) rfl
theorem q245 : (Jvm.Cond.soleField "RockingHorse" "beats") ∈ lw_all := lw_g (lw_at lw_m1 139 rfl) rfl
theorem q246 : (Jvm.Cond.lays "RockingHorse" "RockingHorse" "changes" "I") ∈ lw_all := lw_g (lw_at lw_m1 140 rfl) rfl
theorem q247 : (Jvm.Cond.soleField "RockingHorse" "changes") ∈ lw_all := lw_g (lw_at lw_m1 141 rfl) rfl
theorem q248 : (Jvm.Cond.laysFinal "RockingHorse" "RockingHorse" "text" "[I") ∈ lw_all := lw_g (lw_at lw_m1 142 rfl) rfl
theorem q249 : (Jvm.Cond.soleField "RockingHorse" "text") ∈ lw_all := lw_g (lw_at lw_m1 143 rfl) rfl
theorem q250 : (Jvm.Cond.lays "RockingHorse" "RockingHorse" "signMany" "I") ∈ lw_all := lw_g (lw_at lw_m1 144 rfl) rfl
theorem q251 : (Jvm.Cond.soleField "RockingHorse" "signMany") ∈ lw_all := lw_g (lw_at lw_m1 145 rfl) rfl
theorem q252 : (Jvm.Cond.lays "RockingHorse" "RockingHorse" "at" "I") ∈ lw_all := lw_g (lw_at lw_m1 146 rfl) rfl
theorem q253 : (Jvm.Cond.soleField "RockingHorse" "at") ∈ lw_all := lw_g (lw_at lw_m1 147 rfl) rfl
theorem q254 : (Jvm.Cond.lays "RockingHorse" "RockingHorse" "end" "I") ∈ lw_all := lw_g (lw_at lw_m1 148 rfl) rfl
theorem q255 : (Jvm.Cond.soleField "RockingHorse" "end") ∈ lw_all := lw_g (lw_at lw_m1 149 rfl) rfl
theorem q256 : (Jvm.Cond.lays "RockingHorse" "RockingHorse" "nest" "I") ∈ lw_all := lw_g (lw_at lw_m1 150 rfl) rfl
theorem q257 : (Jvm.Cond.soleField "RockingHorse" "nest") ∈ lw_all := lw_g (lw_at lw_m1 151 rfl) rfl
theorem q258 : (Jvm.Cond.laysFinal "RockingHorse" "RockingHorse" "readMost" "[I") ∈ lw_all := lw_g (lw_at lw_m1 152 rfl) rfl
theorem q259 : (Jvm.Cond.soleField "RockingHorse" "readMost") ∈ lw_all := lw_g (lw_at lw_m1 153 rfl) rfl
theorem q260 : (Jvm.Cond.laysFinal "RockingHorse" "RockingHorse" "readWidth" "[I") ∈ lw_all := lw_g (lw_at lw_m1 154 rfl) rfl
theorem q261 : (Jvm.Cond.soleField "RockingHorse" "readWidth") ∈ lw_all := lw_g (lw_at lw_m1 155 rfl) rfl
theorem q262 : (Jvm.Cond.laysFinal "RockingHorse" "RockingHorse" "readCan" "[I") ∈ lw_all := lw_g (lw_at lw_m1 156 rfl) rfl
theorem q263 : (Jvm.Cond.soleField "RockingHorse" "readCan") ∈ lw_all := lw_g (lw_at lw_m1 157 rfl) rfl
theorem q264 : (Jvm.Cond.lays "RockingHorse" "RockingHorse" "readMany" "I") ∈ lw_all := lw_g (lw_at lw_m1 158 rfl) rfl
theorem q265 : (Jvm.Cond.soleField "RockingHorse" "readMany") ∈ lw_all := lw_g (lw_at lw_m1 159 rfl) rfl
theorem q266 : (Jvm.Cond.lays "RockingHorse" "RockingHorse" "askedHorse" "LRockingHorse$Horse;") ∈ lw_all := lw_g (lw_at lw_m1 160 rfl) rfl
theorem q267 : (Jvm.Cond.soleField "RockingHorse" "askedHorse") ∈ lw_all := lw_g (lw_at lw_m1 161 rfl) rfl
theorem q268 : (Jvm.Cond.lays "RockingHorse" "RockingHorse" "askedRider" "I") ∈ lw_all := lw_g (lw_at lw_m1 162 rfl) rfl
theorem q269 : (Jvm.Cond.soleField "RockingHorse" "askedRider") ∈ lw_all := lw_g (lw_at lw_m1 163 rfl) rfl
theorem q270 : (Jvm.Cond.lays "RockingHorse" "RockingHorse" "askedHour" "I") ∈ lw_all := lw_g (lw_at lw_m1 164 rfl) rfl
theorem q271 : (Jvm.Cond.soleField "RockingHorse" "askedHour") ∈ lw_all := lw_g (lw_at lw_m1 165 rfl) rfl
theorem q272 : (Jvm.Cond.lays "RockingHorse" "RockingHorse" "rule" "LRockingHorse$Node;") ∈ lw_all := lw_g (lw_at lw_m1 166 rfl) rfl
theorem q273 : (Jvm.Cond.soleField "RockingHorse" "rule") ∈ lw_all := lw_g (lw_at lw_m1 167 rfl) rfl
theorem q274 : (Jvm.Cond.lays "RockingHorse" "RockingHorse" "readRule" "LRockingHorse$Node;") ∈ lw_all := lw_g (lw_at lw_m1 168 rfl) rfl
theorem q275 : (Jvm.Cond.soleField "RockingHorse" "readRule") ∈ lw_all := lw_g (lw_at lw_m1 169 rfl) rfl
theorem q276 : (Jvm.Cond.laysFinal "RockingHorse" "RockingHorse" "undone" "[LRockingHorse$Horse;") ∈ lw_all := lw_g (lw_at lw_m1 170 rfl) rfl
theorem q277 : (Jvm.Cond.soleField "RockingHorse" "undone") ∈ lw_all := lw_g (lw_at lw_m1 171 rfl) rfl
theorem q278 : (Jvm.Cond.laysFinal "RockingHorse" "RockingHorse" "wasAhead" "LRockingHorse$Horse;") ∈ lw_all := lw_g (lw_at lw_m1 172 rfl) rfl
theorem q279 : (Jvm.Cond.soleField "RockingHorse" "wasAhead") ∈ lw_all := lw_g (lw_at lw_m1 173 rfl) rfl
theorem q280 : (Jvm.Cond.lays "RockingHorse" "RockingHorse" "undoMany" "I") ∈ lw_all := lw_g (lw_at lw_m1 174 rfl) rfl
theorem q281 : (Jvm.Cond.soleField "RockingHorse" "undoMany") ∈ lw_all := lw_g (lw_at lw_m1 175 rfl) rfl
theorem q282 : (Jvm.Cond.laysFinal "RockingHorse" "RockingHorse" "rode" "[I") ∈ lw_all := lw_g (lw_at lw_m1 176 rfl) rfl
theorem q283 : (Jvm.Cond.soleField "RockingHorse" "rode") ∈ lw_all := lw_g (lw_at lw_m1 177 rfl) rfl
theorem q284 : (Jvm.Cond.laysFinal "RockingHorse" "RockingHorse" "hardship" "[I") ∈ lw_all := lw_g (lw_at lw_m1 178 rfl) rfl
theorem q285 : (Jvm.Cond.soleField "RockingHorse" "hardship") ∈ lw_all := lw_g (lw_at lw_m1 179 rfl) rfl
theorem q286 : (Jvm.Cond.lays "RockingHorse" "RockingHorse" "gapBits" "I") ∈ lw_all := lw_g (lw_at lw_m1 180 rfl) rfl
theorem q287 : (Jvm.Cond.soleField "RockingHorse" "gapBits") ∈ lw_all := lw_g (lw_at lw_m1 181 rfl) rfl
theorem q288 : (Jvm.Cond.lays "RockingHorse" "RockingHorse" "riddenBits" "I") ∈ lw_all := lw_g (lw_at lw_m1 182 rfl) rfl
theorem q289 : (Jvm.Cond.soleField "RockingHorse" "riddenBits") ∈ lw_all := lw_g (lw_at lw_m1 183 rfl) rfl
theorem q290 : (Jvm.Cond.laysFinal "RockingHorse" "RockingHorse" "readRota" "[I") ∈ lw_all := lw_g (lw_at lw_m1 184 rfl) rfl
theorem q291 : (Jvm.Cond.soleField "RockingHorse" "readRota") ∈ lw_all := lw_g (lw_at lw_m1 185 rfl) rfl
theorem q292 : (Jvm.Cond.laysFinal "RockingHorse" "RockingHorse" "actSign" "[I") ∈ lw_all := lw_g (lw_at lw_m1 186 rfl) rfl
theorem q293 : (Jvm.Cond.soleField "RockingHorse" "actSign") ∈ lw_all := lw_g (lw_at lw_m1 187 rfl) rfl
theorem q294 : (Jvm.Cond.laysFinal "RockingHorse" "RockingHorse" "actOne" "[I") ∈ lw_all := lw_g (lw_at lw_m1 188 rfl) rfl
theorem q295 : (Jvm.Cond.soleField "RockingHorse" "actOne") ∈ lw_all := lw_g (lw_at lw_m1 189 rfl) rfl
theorem q296 : (Jvm.Cond.laysFinal "RockingHorse" "RockingHorse" "actTwo" "[I") ∈ lw_all := lw_g (lw_at lw_m1 190 rfl) rfl
theorem q297 : (Jvm.Cond.soleField "RockingHorse" "actTwo") ∈ lw_all := lw_g (lw_at lw_m1 191 rfl) rfl
theorem q298 : (Jvm.Cond.lays "RockingHorse" "RockingHorse" "actMany" "I") ∈ lw_all := lw_g (lw_at lw_m1 192 rfl) rfl
theorem q299 : (Jvm.Cond.soleField "RockingHorse" "actMany") ∈ lw_all := lw_g (lw_at lw_m1 193 rfl) rfl
theorem q300 : (Jvm.Cond.laysFinal "RockingHorse" "RockingHorse" "may" "[I") ∈ lw_all := lw_g (lw_at lw_m1 194 rfl) rfl
theorem q301 : (Jvm.Cond.soleField "RockingHorse" "may") ∈ lw_all := lw_g (lw_at lw_m1 195 rfl) rfl
theorem q302 : (Jvm.Cond.laysFinal "RockingHorse" "RockingHorse" "wasMay" "[I") ∈ lw_all := lw_g (lw_at lw_m1 196 rfl) rfl
theorem q303 : (Jvm.Cond.soleField "RockingHorse" "wasMay") ∈ lw_all := lw_g (lw_at lw_m1 197 rfl) rfl
theorem q304 : (Jvm.Cond.laysFinal "RockingHorse" "RockingHorse" "price" "[I") ∈ lw_all := lw_g (lw_at lw_m1 198 rfl) rfl
theorem q305 : (Jvm.Cond.soleField "RockingHorse" "price") ∈ lw_all := lw_g (lw_at lw_m1 199 rfl) rfl
theorem q306 : (Jvm.Cond.laysFinal "RockingHorse" "RockingHorse" "setPrice" "[I") ∈ lw_all := lw_g (lw_at lw_m1 200 rfl) rfl
theorem q307 : (Jvm.Cond.soleField "RockingHorse" "setPrice") ∈ lw_all := lw_g (lw_at lw_m1 201 rfl) rfl
theorem q308 : (Jvm.Cond.laysFinal "RockingHorse" "RockingHorse" "least" "[I") ∈ lw_all := lw_g (lw_at lw_m1 202 rfl) rfl
theorem q309 : (Jvm.Cond.soleField "RockingHorse" "least") ∈ lw_all := lw_g (lw_at lw_m1 203 rfl) rfl
theorem q310 : (Jvm.Cond.laysFinal "RockingHorse" "RockingHorse" "turn" "[I") ∈ lw_all := lw_g (lw_at lw_m1 204 rfl) rfl
theorem q311 : (Jvm.Cond.soleField "RockingHorse" "turn") ∈ lw_all := lw_g (lw_at lw_m1 205 rfl) rfl
theorem q312 : (Jvm.Cond.laysFinal "RockingHorse" "RockingHorse" "ways" "[J") ∈ lw_all := lw_g (lw_at lw_m1 206 rfl) rfl
theorem q313 : (Jvm.Cond.soleField "RockingHorse" "ways") ∈ lw_all := lw_g (lw_at lw_m1 207 rfl) rfl
theorem q314 : (Jvm.Cond.lays "RockingHorse" "RockingHorse" "limit" "I") ∈ lw_all := lw_g (lw_at lw_m1 208 rfl) rfl
theorem q315 : (Jvm.Cond.soleField "RockingHorse" "limit") ∈ lw_all := lw_g (lw_at lw_m1 209 rfl) rfl
theorem q316 : (Jvm.Cond.lays "RockingHorse" "RockingHorse" "smooth" "I") ∈ lw_all := lw_g (lw_at lw_m1 210 rfl) rfl
theorem q317 : (Jvm.Cond.soleField "RockingHorse" "smooth") ∈ lw_all := lw_g (lw_at lw_m1 211 rfl) rfl
theorem q318 : (Jvm.Cond.lays "RockingHorse" "RockingHorse" "foundMany" "I") ∈ lw_all := lw_g (lw_at lw_m1 212 rfl) rfl
theorem q319 : (Jvm.Cond.soleField "RockingHorse" "foundMany") ∈ lw_all := lw_g (lw_at lw_m1 213 rfl) rfl
theorem q320 : (Jvm.Cond.laysFinal "RockingHorse" "RockingHorse" "foundHour" "[I") ∈ lw_all := lw_g (lw_at lw_m1 214 rfl) rfl
theorem q321 : (Jvm.Cond.soleField "RockingHorse" "foundHour") ∈ lw_all := lw_g (lw_at lw_m1 215 rfl) rfl
theorem q322 : (Jvm.Cond.laysFinal "RockingHorse" "RockingHorse" "foundRider" "[I") ∈ lw_all := lw_g (lw_at lw_m1 216 rfl) rfl
theorem q323 : (Jvm.Cond.soleField "RockingHorse" "foundRider") ∈ lw_all := lw_g (lw_at lw_m1 217 rfl) rfl
theorem q324 : (Jvm.Cond.laysFinal "RockingHorse" "RockingHorse" "foundIs" "[I") ∈ lw_all := lw_g (lw_at lw_m1 218 rfl) rfl
theorem q325 : (Jvm.Cond.soleField "RockingHorse" "foundIs") ∈ lw_all := lw_g (lw_at lw_m1 219 rfl) rfl
theorem q326 : (Jvm.Cond.lays "RockingHorse" "RockingHorse" "random" "I") ∈ lw_all := lw_g (lw_at lw_m1 220 rfl) rfl
theorem q327 : (Jvm.Cond.soleField "RockingHorse" "random") ∈ lw_all := lw_g (lw_at lw_m1 221 rfl) rfl
theorem q328 : (Jvm.Cond.laysFinal "RockingHorse" "RockingHorse" "kept" "[LRockingHorse$Horse;") ∈ lw_all := lw_g (lw_at lw_m1 222 rfl) rfl
theorem q329 : (Jvm.Cond.soleField "RockingHorse" "kept") ∈ lw_all := lw_g (lw_at lw_m1 223 rfl) rfl
theorem q330 : (Jvm.Cond.laysFinal "RockingHorse" "RockingHorse" "keptChanges" "[I") ∈ lw_all := lw_g (lw_at lw_m1 224 rfl) rfl
theorem q331 : (Jvm.Cond.soleField "RockingHorse" "keptChanges") ∈ lw_all := lw_g (lw_at lw_m1 225 rfl) rfl
theorem q332 : (Jvm.Cond.laysFinal "RockingHorse" "RockingHorse" "row" "[J") ∈ lw_all := lw_g (lw_at lw_m1 226 rfl) rfl
theorem q333 : (Jvm.Cond.soleField "RockingHorse" "row") ∈ lw_all := lw_g (lw_at lw_m1 227 rfl) rfl
theorem q334 : (Jvm.Cond.lays "RockingHorse" "RockingHorse" "rowMany" "I") ∈ lw_all := lw_g (lw_at lw_m1 228 rfl) rfl
theorem q335 : (Jvm.Cond.soleField "RockingHorse" "rowMany") ∈ lw_all := lw_g (lw_at lw_m1 229 rfl) rfl
theorem q336 : (Jvm.Cond.superclass "RockingHorse" "java/lang/Object") ∈ lw_all := lw_g (lw_at lw_m1 230 rfl) rfl
theorem q339 : (Jvm.Cond.instanceMethod ({ cls := "RockingHorse", name := "sign", desc := "(I)I" } : Jvm.MethodName)) ∈ lw_all := lw_g (lw_at lw_m1 233 rfl) rfl
theorem q340 : (Jvm.Cond.selects "RockingHorse" ({ cls := "RockingHorse", name := "sign", desc := "(I)I" } : Jvm.MethodName) ({ cls := "RockingHorse", name := "sign", desc := "(I)I" } : Jvm.MethodName)) ∈ lw_all := lw_g (lw_at lw_m1 234 rfl) rfl
theorem q341 : (Jvm.Cond.code ({ cls := "RockingHorse", name := "sign", desc := "(I)I" } : Jvm.MethodName) prog_1_method_11_code (3 : Nat) (Option.some Jvm.ClassFile.FieldType.int)) ∈ lw_all := lw_g (lw_at lw_m1 235 rfl) rfl
theorem q343 : (Jvm.Cond.instanceMethod ({ cls := "RockingHorse", name := "end", desc := "(I)Z" } : Jvm.MethodName)) ∈ lw_all := lw_g (lw_at lw_m1 237 rfl) rfl
theorem q344 : (Jvm.Cond.selects "RockingHorse" ({ cls := "RockingHorse", name := "end", desc := "(I)Z" } : Jvm.MethodName) ({ cls := "RockingHorse", name := "end", desc := "(I)Z" } : Jvm.MethodName)) ∈ lw_all := lw_g (lw_at lw_m1 238 rfl) rfl
theorem q345 : (Jvm.Cond.code ({ cls := "RockingHorse", name := "end", desc := "(I)Z" } : Jvm.MethodName) prog_1_method_12_code (2 : Nat) (Option.some Jvm.ClassFile.FieldType.boolean)) ∈ lw_all := lw_g (lw_at lw_m1 239 rfl) rfl
theorem q346 : (Jvm.Cond.methodLink "RockingHorse" (124 : Nat) ({ cls := "RockingHorse", name := "in", desc := "(JJJ)Z" } : Jvm.MethodName)) ∈ lw_all := lw_g (lw_at lw_m2 0 rfl) rfl
theorem q347 : (Jvm.Cond.static ({ cls := "RockingHorse", name := "in", desc := "(JJJ)Z" } : Jvm.MethodName)) ∈ lw_all := lw_g (lw_at lw_m2 1 rfl) rfl
theorem q348 : (Jvm.Cond.code ({ cls := "RockingHorse", name := "in", desc := "(JJJ)Z" } : Jvm.MethodName) prog_1_method_2_code (6 : Nat) (Option.some Jvm.ClassFile.FieldType.boolean)) ∈ lw_all := lw_g (lw_at lw_m2 2 rfl) rfl
theorem q350 : (Jvm.Cond.instanceMethod ({ cls := "RockingHorse", name := "riders", desc := "()I" } : Jvm.MethodName)) ∈ lw_all := lw_g (lw_at lw_m2 4 rfl) rfl
theorem q351 : (Jvm.Cond.selects "RockingHorse" ({ cls := "RockingHorse", name := "riders", desc := "()I" } : Jvm.MethodName) ({ cls := "RockingHorse", name := "riders", desc := "()I" } : Jvm.MethodName)) ∈ lw_all := lw_g (lw_at lw_m2 5 rfl) rfl
theorem q352 : (Jvm.Cond.code ({ cls := "RockingHorse", name := "riders", desc := "()I" } : Jvm.MethodName) prog_1_method_22_code (6 : Nat) (Option.some Jvm.ClassFile.FieldType.int)) ∈ lw_all := lw_g (lw_at lw_m2 6 rfl) rfl
theorem q353 : (Jvm.Cond.methodLink "RockingHorse" (184 : Nat) ({ cls := "RockingHorse", name := "begins", desc := "(I)I" } : Jvm.MethodName)) ∈ lw_all := lw_g (lw_at lw_m2 7 rfl) rfl
theorem q354 : (Jvm.Cond.privateMethod ({ cls := "RockingHorse", name := "begins", desc := "(I)I" } : Jvm.MethodName)) ∈ lw_tbl := lw_at lw_m2 8 rfl
theorem q355 : (Jvm.Cond.instanceMethod ({ cls := "RockingHorse", name := "begins", desc := "(I)I" } : Jvm.MethodName)) ∈ lw_all := lw_g (lw_at lw_m2 9 rfl) rfl
theorem q356 : (Jvm.Cond.code ({ cls := "RockingHorse", name := "begins", desc := "(I)I" } : Jvm.MethodName) prog_1_method_13_code (3 : Nat) (Option.some Jvm.ClassFile.FieldType.int)) ∈ lw_all := lw_g (lw_at lw_m2 10 rfl) rfl
theorem q357 : (Jvm.Cond.methodLink "RockingHorse" (141 : Nat) ({ cls := "java/lang/Math", name := "min", desc := "(II)I" } : Jvm.MethodName)) ∈ lw_all := lw_g (lw_at lw_m2 11 rfl) rfl
theorem q360 : (Jvm.Cond.methodLink "RockingHorse" (187 : Nat) ({ cls := "RockingHorse", name := "readsRider", desc := "()Z" } : Jvm.MethodName)) ∈ lw_all := lw_g (lw_at lw_m2 14 rfl) rfl
theorem q361 : (Jvm.Cond.privateMethod ({ cls := "RockingHorse", name := "readsRider", desc := "()Z" } : Jvm.MethodName)) ∈ lw_tbl := lw_at lw_m2 15 rfl
theorem q362 : (Jvm.Cond.instanceMethod ({ cls := "RockingHorse", name := "readsRider", desc := "()Z" } : Jvm.MethodName)) ∈ lw_all := lw_g (lw_at lw_m2 16 rfl) rfl
theorem q363 : (Jvm.Cond.code ({ cls := "RockingHorse", name := "readsRider", desc := "()Z" } : Jvm.MethodName) prog_1_method_21_code (3 : Nat) (Option.some Jvm.ClassFile.FieldType.boolean)) ∈ lw_all := lw_g (lw_at lw_m2 17 rfl) rfl
theorem q364 : (Jvm.Cond.stringRef "RockingHorse" (175 : Nat) "1234") ∈ lw_tbl := lw_at lw_m2 18 rfl
theorem q365 : (Jvm.Cond.methodLink "RockingHorse" (177 : Nat) ({ cls := "RockingHorse", name := "takesOf", desc := "(Ljava/lang/String;)I" } : Jvm.MethodName)) ∈ lw_all := lw_g (lw_at lw_m2 19 rfl) rfl
theorem q366 : (Jvm.Cond.privateMethod ({ cls := "RockingHorse", name := "takesOf", desc := "(Ljava/lang/String;)I" } : Jvm.MethodName)) ∈ lw_tbl := lw_at lw_m2 20 rfl
theorem q367 : (Jvm.Cond.instanceMethod ({ cls := "RockingHorse", name := "takesOf", desc := "(Ljava/lang/String;)I" } : Jvm.MethodName)) ∈ lw_all := lw_g (lw_at lw_m2 21 rfl) rfl
theorem q368 : (Jvm.Cond.code ({ cls := "RockingHorse", name := "takesOf", desc := "(Ljava/lang/String;)I" } : Jvm.MethodName) prog_1_method_17_code (3 : Nat) (Option.some Jvm.ClassFile.FieldType.int)) ∈ lw_all := lw_g (lw_at lw_m2 22 rfl) rfl
theorem q369 : (Jvm.Cond.methodLink "RockingHorse" (160 : Nat) ({ cls := "RockingHorse", name := "among", desc := "(Ljava/lang/String;)I" } : Jvm.MethodName)) ∈ lw_all := lw_g (lw_at lw_m2 23 rfl) rfl
theorem q370 : (Jvm.Cond.privateMethod ({ cls := "RockingHorse", name := "among", desc := "(Ljava/lang/String;)I" } : Jvm.MethodName)) ∈ lw_tbl := lw_at lw_m2 24 rfl
theorem q371 : (Jvm.Cond.instanceMethod ({ cls := "RockingHorse", name := "among", desc := "(Ljava/lang/String;)I" } : Jvm.MethodName)) ∈ lw_all := lw_g (lw_at lw_m2 25 rfl) rfl
theorem q372 : (Jvm.Cond.code ({ cls := "RockingHorse", name := "among", desc := "(Ljava/lang/String;)I" } : Jvm.MethodName) prog_1_method_16_code (2 : Nat) (Option.some Jvm.ClassFile.FieldType.int)) ∈ lw_all := lw_g (lw_at lw_m2 26 rfl) rfl
theorem q373 : (Jvm.Cond.methodLink "RockingHorse" (154 : Nat) ({ cls := "java/lang/String", name := "indexOf", desc := "(I)I" } : Jvm.MethodName)) ∈ lw_all := lw_g (lw_at lw_m2 27 rfl) rfl
theorem q457 : (Jvm.Cond.stringRef "RockingHorse" (180 : Nat) "123456789") ∈ lw_tbl := lw_at lw_m2 111 rfl
theorem q458 : (Jvm.Cond.stringRef "RockingHorse" (182 : Nat) "abcdefgh") ∈ lw_tbl := lw_at lw_m2 112 rfl
theorem q459 : (Jvm.Cond.methodLink "RockingHorse" (190 : Nat) ({ cls := "RockingHorse", name := "takes", desc := "(C)Z" } : Jvm.MethodName)) ∈ lw_all := lw_g (lw_at lw_m2 113 rfl) rfl
theorem q460 : (Jvm.Cond.privateMethod ({ cls := "RockingHorse", name := "takes", desc := "(C)Z" } : Jvm.MethodName)) ∈ lw_tbl := lw_at lw_m2 114 rfl
theorem q461 : (Jvm.Cond.instanceMethod ({ cls := "RockingHorse", name := "takes", desc := "(C)Z" } : Jvm.MethodName)) ∈ lw_all := lw_g (lw_at lw_m2 115 rfl) rfl
theorem q462 : (Jvm.Cond.code ({ cls := "RockingHorse", name := "takes", desc := "(C)Z" } : Jvm.MethodName) prog_1_method_15_code (3 : Nat) (Option.some Jvm.ClassFile.FieldType.boolean)) ∈ lw_all := lw_g (lw_at lw_m2 116 rfl) rfl
theorem q463 : (Jvm.Cond.methodLink "RockingHorse" (150 : Nat) ({ cls := "RockingHorse", name := "isAt", desc := "(C)Z" } : Jvm.MethodName)) ∈ lw_all := lw_g (lw_at lw_m2 117 rfl) rfl
theorem q464 : (Jvm.Cond.privateMethod ({ cls := "RockingHorse", name := "isAt", desc := "(C)Z" } : Jvm.MethodName)) ∈ lw_tbl := lw_at lw_m2 118 rfl
theorem q465 : (Jvm.Cond.instanceMethod ({ cls := "RockingHorse", name := "isAt", desc := "(C)Z" } : Jvm.MethodName)) ∈ lw_all := lw_g (lw_at lw_m2 119 rfl) rfl
theorem q466 : (Jvm.Cond.code ({ cls := "RockingHorse", name := "isAt", desc := "(C)Z" } : Jvm.MethodName) prog_1_method_14_code (2 : Nat) (Option.some Jvm.ClassFile.FieldType.boolean)) ∈ lw_all := lw_g (lw_at lw_m2 120 rfl) rfl
theorem q467 : (Jvm.Cond.methodLink "RockingHorse" (193 : Nat) ({ cls := "RockingHorse", name := "faultOf", desc := "(IZ)I" } : Jvm.MethodName)) ∈ lw_all := lw_g (lw_at lw_m2 121 rfl) rfl
theorem q468 : (Jvm.Cond.privateMethod ({ cls := "RockingHorse", name := "faultOf", desc := "(IZ)I" } : Jvm.MethodName)) ∈ lw_tbl := lw_at lw_m2 122 rfl
theorem q469 : (Jvm.Cond.instanceMethod ({ cls := "RockingHorse", name := "faultOf", desc := "(IZ)I" } : Jvm.MethodName)) ∈ lw_all := lw_g (lw_at lw_m2 123 rfl) rfl
theorem q470 : (Jvm.Cond.code ({ cls := "RockingHorse", name := "faultOf", desc := "(IZ)I" } : Jvm.MethodName) prog_1_method_20_code (4 : Nat) (Option.some Jvm.ClassFile.FieldType.int)) ∈ lw_all := lw_g (lw_at lw_m2 124 rfl) rfl
theorem q473 : (Jvm.Cond.instanceMethod ({ cls := "RockingHorse", name := "rule", desc := "()I" } : Jvm.MethodName)) ∈ lw_all := lw_g (lw_at lw_m2 127 rfl) rfl
theorem q474 : (Jvm.Cond.selects "RockingHorse" ({ cls := "RockingHorse", name := "rule", desc := "()I" } : Jvm.MethodName) ({ cls := "RockingHorse", name := "rule", desc := "()I" } : Jvm.MethodName)) ∈ lw_all := lw_g (lw_at lw_m2 128 rfl) rfl
theorem q475 : (Jvm.Cond.code ({ cls := "RockingHorse", name := "rule", desc := "()I" } : Jvm.MethodName) prog_1_method_27_code (2 : Nat) (Option.some Jvm.ClassFile.FieldType.int)) ∈ lw_all := lw_g (lw_at lw_m2 129 rfl) rfl
theorem q476 : (Jvm.Cond.methodLink "RockingHorse" (254 : Nat) ({ cls := "RockingHorse", name := "readsRule", desc := "()I" } : Jvm.MethodName)) ∈ lw_all := lw_g (lw_at lw_m2 130 rfl) rfl
theorem q477 : (Jvm.Cond.privateMethod ({ cls := "RockingHorse", name := "readsRule", desc := "()I" } : Jvm.MethodName)) ∈ lw_tbl := lw_at lw_m2 131 rfl
theorem q478 : (Jvm.Cond.instanceMethod ({ cls := "RockingHorse", name := "readsRule", desc := "()I" } : Jvm.MethodName)) ∈ lw_all := lw_g (lw_at lw_m2 132 rfl) rfl
theorem q479 : (Jvm.Cond.code ({ cls := "RockingHorse", name := "readsRule", desc := "()I" } : Jvm.MethodName) prog_1_method_26_code (2 : Nat) (Option.some Jvm.ClassFile.FieldType.int)) ∈ lw_all := lw_g (lw_at lw_m2 133 rfl) rfl
theorem q480 : (Jvm.Cond.methodLink "RockingHorse" (231 : Nat) ({ cls := "RockingHorse", name := "reads", desc := "(I)LRockingHorse$Node;" } : Jvm.MethodName)) ∈ lw_all := lw_g (lw_at lw_m2 134 rfl) rfl
theorem q481 : (Jvm.Cond.privateMethod ({ cls := "RockingHorse", name := "reads", desc := "(I)LRockingHorse$Node;" } : Jvm.MethodName)) ∈ lw_tbl := lw_at lw_m2 135 rfl
theorem q482 : (Jvm.Cond.instanceMethod ({ cls := "RockingHorse", name := "reads", desc := "(I)LRockingHorse$Node;" } : Jvm.MethodName)) ∈ lw_all := lw_g (lw_at lw_m2 136 rfl) rfl
theorem q483 : (Jvm.Cond.code ({ cls := "RockingHorse", name := "reads", desc := "(I)LRockingHorse$Node;" } : Jvm.MethodName) prog_1_method_25_code (6 : Nat) (Option.some (Jvm.ClassFile.FieldType.object "RockingHorse$Node"))) ∈ lw_all := lw_g (lw_at lw_m2 137 rfl) rfl
theorem q484 : (Jvm.Cond.methodLink "RockingHorse" (209 : Nat) ({ cls := "RockingHorse", name := "readsThing", desc := "()LRockingHorse$Node;" } : Jvm.MethodName)) ∈ lw_all := lw_g (lw_at lw_m2 138 rfl) rfl
theorem q485 : (Jvm.Cond.privateMethod ({ cls := "RockingHorse", name := "readsThing", desc := "()LRockingHorse$Node;" } : Jvm.MethodName)) ∈ lw_tbl := lw_at lw_m2 139 rfl
theorem q486 : (Jvm.Cond.instanceMethod ({ cls := "RockingHorse", name := "readsThing", desc := "()LRockingHorse$Node;" } : Jvm.MethodName)) ∈ lw_all := lw_g (lw_at lw_m2 140 rfl) rfl
theorem q487 : (Jvm.Cond.code ({ cls := "RockingHorse", name := "readsThing", desc := "()LRockingHorse$Node;" } : Jvm.MethodName) prog_1_method_23_code (2 : Nat) (Option.some (Jvm.ClassFile.FieldType.object "RockingHorse$Node"))) ∈ lw_all := lw_g (lw_at lw_m2 141 rfl) rfl
theorem q488 : (Jvm.Cond.classLink "RockingHorse" (213 : Nat) "RockingHorse$Less") ∈ lw_all := lw_g (lw_at lw_m2 142 rfl) rfl
theorem q490 : (Jvm.Cond.methodLink "RockingHorse" (215 : Nat) ({ cls := "RockingHorse$Less", name := "<init>", desc := "(LRockingHorse;LRockingHorse$Node;)V" } : Jvm.MethodName)) ∈ lw_all := lw_g (lw_at lw_m2 144 rfl) rfl
theorem q507 : (Jvm.Cond.methodLink "RockingHorse" (168 : Nat) ({ cls := "RockingHorse", name := "isDigit", desc := "()Z" } : Jvm.MethodName)) ∈ lw_all := lw_g (lw_at lw_m2 161 rfl) rfl
theorem q508 : (Jvm.Cond.privateMethod ({ cls := "RockingHorse", name := "isDigit", desc := "()Z" } : Jvm.MethodName)) ∈ lw_tbl := lw_at lw_m2 162 rfl
theorem q509 : (Jvm.Cond.instanceMethod ({ cls := "RockingHorse", name := "isDigit", desc := "()Z" } : Jvm.MethodName)) ∈ lw_all := lw_g (lw_at lw_m2 163 rfl) rfl
theorem q510 : (Jvm.Cond.code ({ cls := "RockingHorse", name := "isDigit", desc := "()Z" } : Jvm.MethodName) prog_1_method_18_code (1 : Nat) (Option.some Jvm.ClassFile.FieldType.boolean)) ∈ lw_all := lw_g (lw_at lw_m2 164 rfl) rfl
theorem q511 : (Jvm.Cond.constantLong "RockingHorse" (164 : Nat) (48 : Int64)) ∈ lw_all := lw_g (lw_at lw_m2 165 rfl) rfl
theorem q512 : (Jvm.Cond.constantLong "RockingHorse" (166 : Nat) (57 : Int64)) ∈ lw_all := lw_g (lw_at lw_m2 166 rfl) rfl
theorem q513 : (Jvm.Cond.classLink "RockingHorse" (218 : Nat) "RockingHorse$Number") ∈ lw_all := lw_g (lw_at lw_m2 167 rfl) rfl
theorem q515 : (Jvm.Cond.methodLink "RockingHorse" (220 : Nat) ({ cls := "RockingHorse", name := "number", desc := "(I)I" } : Jvm.MethodName)) ∈ lw_all := lw_g (lw_at lw_m2 169 rfl) rfl
theorem q516 : (Jvm.Cond.privateMethod ({ cls := "RockingHorse", name := "number", desc := "(I)I" } : Jvm.MethodName)) ∈ lw_tbl := lw_at lw_m2 170 rfl
theorem q517 : (Jvm.Cond.instanceMethod ({ cls := "RockingHorse", name := "number", desc := "(I)I" } : Jvm.MethodName)) ∈ lw_all := lw_g (lw_at lw_m2 171 rfl) rfl
theorem q518 : (Jvm.Cond.code ({ cls := "RockingHorse", name := "number", desc := "(I)I" } : Jvm.MethodName) prog_1_method_19_code (4 : Nat) (Option.some Jvm.ClassFile.FieldType.int)) ∈ lw_all := lw_g (lw_at lw_m2 172 rfl) rfl
theorem q519 : (Jvm.Cond.methodLink "RockingHorse" (223 : Nat) ({ cls := "RockingHorse$Number", name := "<init>", desc := "(LRockingHorse;I)V" } : Jvm.MethodName)) ∈ lw_all := lw_g (lw_at lw_m2 173 rfl) rfl
theorem q531 : (Jvm.Cond.stringRef "RockingHorse" (226 : Nat) "htwminc") ∈ lw_tbl := lw_at lw_m2 185 rfl
theorem q532 : (Jvm.Cond.classLink "RockingHorse" (228 : Nat) "RockingHorse$Sign") ∈ lw_all := lw_g (lw_at lw_m2 186 rfl) rfl
theorem q534 : (Jvm.Cond.methodLink "RockingHorse" (230 : Nat) ({ cls := "RockingHorse$Sign", name := "<init>", desc := "(LRockingHorse;I)V" } : Jvm.MethodName)) ∈ lw_all := lw_g (lw_at lw_m2 188 rfl) rfl
theorem q546 : (Jvm.Cond.methodLink "RockingHorse" (241 : Nat) ({ cls := "RockingHorse", name := "acts", desc := "(I)Ljava/lang/String;" } : Jvm.MethodName)) ∈ lw_all := lw_g (lw_at lw_m2 200 rfl) rfl
theorem q547 : (Jvm.Cond.static ({ cls := "RockingHorse", name := "acts", desc := "(I)Ljava/lang/String;" } : Jvm.MethodName)) ∈ lw_all := lw_g (lw_at lw_m2 201 rfl) rfl
theorem q548 : (Jvm.Cond.code ({ cls := "RockingHorse", name := "acts", desc := "(I)Ljava/lang/String;" } : Jvm.MethodName) prog_1_method_24_code (1 : Nat) (Option.some (Jvm.ClassFile.FieldType.object "java/lang/String"))) ∈ lw_all := lw_g (lw_at lw_m2 202 rfl) rfl
theorem q549 : (Jvm.Cond.stringRef "RockingHorse" (235 : Nat) "<>=") ∈ lw_tbl := lw_at lw_m2 203 rfl
theorem q550 : (Jvm.Cond.stringRef "RockingHorse" (237 : Nat) "+-") ∈ lw_tbl := lw_at lw_m2 204 rfl
theorem q551 : (Jvm.Cond.stringRef "RockingHorse" (239 : Nat) "*/") ∈ lw_tbl := lw_at lw_m2 205 rfl
theorem q552 : (Jvm.Cond.classLink "RockingHorse" (245 : Nat) "RockingHorse$Act") ∈ lw_all := lw_g (lw_at lw_m2 206 rfl) rfl
theorem q554 : (Jvm.Cond.methodLink "RockingHorse" (247 : Nat) ({ cls := "RockingHorse$Act", name := "<init>", desc := "(LRockingHorse;CLRockingHorse$Node;LRockingHorse$Node;)V" } : Jvm.MethodName)) ∈ lw_all := lw_g (lw_at lw_m2 208 rfl) rfl
theorem q573 : (Jvm.Cond.instanceMethod ({ cls := "RockingHorse", name := "hard", desc := "(II)I" } : Jvm.MethodName)) ∈ lw_all := lw_g (lw_at lw_m2 227 rfl) rfl
theorem q574 : (Jvm.Cond.selects "RockingHorse" ({ cls := "RockingHorse", name := "hard", desc := "(II)I" } : Jvm.MethodName) ({ cls := "RockingHorse", name := "hard", desc := "(II)I" } : Jvm.MethodName)) ∈ lw_all := lw_g (lw_at lw_m2 228 rfl) rfl
theorem q575 : (Jvm.Cond.code ({ cls := "RockingHorse", name := "hard", desc := "(II)I" } : Jvm.MethodName) prog_1_method_30_code (3 : Nat) (Option.some Jvm.ClassFile.FieldType.int)) ∈ lw_all := lw_g (lw_at lw_m2 229 rfl) rfl
theorem q576 : (Jvm.Cond.methodLink "RockingHorse" (128 : Nat) ({ cls := "RockingHorse", name := "isRider", desc := "(I)Z" } : Jvm.MethodName)) ∈ lw_all := lw_g (lw_at lw_m2 230 rfl) rfl
theorem q577 : (Jvm.Cond.privateMethod ({ cls := "RockingHorse", name := "isRider", desc := "(I)Z" } : Jvm.MethodName)) ∈ lw_tbl := lw_at lw_m2 231 rfl
theorem q578 : (Jvm.Cond.instanceMethod ({ cls := "RockingHorse", name := "isRider", desc := "(I)Z" } : Jvm.MethodName)) ∈ lw_all := lw_g (lw_at lw_m2 232 rfl) rfl
theorem q579 : (Jvm.Cond.code ({ cls := "RockingHorse", name := "isRider", desc := "(I)Z" } : Jvm.MethodName) prog_1_method_5_code (2 : Nat) (Option.some Jvm.ClassFile.FieldType.boolean)) ∈ lw_all := lw_g (lw_at lw_m2 233 rfl) rfl
theorem q580 : (Jvm.Cond.constantLong "RockingHorse" (288 : Nat) (7 : Int64)) ∈ lw_all := lw_g (lw_at lw_m2 234 rfl) rfl
theorem q581 : (Jvm.Cond.methodLink "RockingHorse" (290 : Nat) ({ cls := "RockingHorse", name := "hardOf", desc := "(LRockingHorse$Horse;II)I" } : Jvm.MethodName)) ∈ lw_all := lw_g (lw_at lw_m2 235 rfl) rfl
theorem q582 : (Jvm.Cond.privateMethod ({ cls := "RockingHorse", name := "hardOf", desc := "(LRockingHorse$Horse;II)I" } : Jvm.MethodName)) ∈ lw_tbl := lw_at lw_m2 236 rfl
theorem q583 : (Jvm.Cond.instanceMethod ({ cls := "RockingHorse", name := "hardOf", desc := "(LRockingHorse$Horse;II)I" } : Jvm.MethodName)) ∈ lw_all := lw_g (lw_at lw_m2 237 rfl) rfl
theorem q584 : (Jvm.Cond.code ({ cls := "RockingHorse", name := "hardOf", desc := "(LRockingHorse$Horse;II)I" } : Jvm.MethodName) prog_1_method_28_code (5 : Nat) (Option.some Jvm.ClassFile.FieldType.int)) ∈ lw_all := lw_g (lw_at lw_m2 238 rfl) rfl
theorem q585 : (Jvm.Cond.methodLink "RockingHorse" (270 : Nat) ({ cls := "RockingHorse$Node", name := "value", desc := "()I" } : Jvm.MethodName)) ∈ lw_all := lw_g (lw_at lw_m2 239 rfl) rfl
theorem q608 : (Jvm.Cond.methodLink "RockingHorse" (275 : Nat) ({ cls := "java/lang/Math", name := "max", desc := "(II)I" } : Jvm.MethodName)) ∈ lw_all := lw_g (lw_at lw_m3 22 rfl) rfl
theorem q610 : (Jvm.Cond.instanceMethod ({ cls := "RockingHorse", name := "set", desc := "(II)I" } : Jvm.MethodName)) ∈ lw_all := lw_g (lw_at lw_m3 24 rfl) rfl
theorem q611 : (Jvm.Cond.selects "RockingHorse" ({ cls := "RockingHorse", name := "set", desc := "(II)I" } : Jvm.MethodName) ({ cls := "RockingHorse", name := "set", desc := "(II)I" } : Jvm.MethodName)) ∈ lw_all := lw_g (lw_at lw_m3 25 rfl) rfl
theorem q612 : (Jvm.Cond.code ({ cls := "RockingHorse", name := "set", desc := "(II)I" } : Jvm.MethodName) prog_1_method_31_code (4 : Nat) (Option.some Jvm.ClassFile.FieldType.int)) ∈ lw_all := lw_g (lw_at lw_m3 26 rfl) rfl
theorem q613 : (Jvm.Cond.constantLong "RockingHorse" (294 : Nat) (8 : Int64)) ∈ lw_all := lw_g (lw_at lw_m3 27 rfl) rfl
theorem q614 : (Jvm.Cond.constantLong "RockingHorse" (296 : Nat) (9 : Int64)) ∈ lw_all := lw_g (lw_at lw_m3 28 rfl) rfl
theorem q616 : (Jvm.Cond.instanceMethod ({ cls := "RockingHorse", name := "sheet", desc := "(IIII)I" } : Jvm.MethodName)) ∈ lw_all := lw_g (lw_at lw_m3 30 rfl) rfl
theorem q617 : (Jvm.Cond.selects "RockingHorse" ({ cls := "RockingHorse", name := "sheet", desc := "(IIII)I" } : Jvm.MethodName) ({ cls := "RockingHorse", name := "sheet", desc := "(IIII)I" } : Jvm.MethodName)) ∈ lw_all := lw_g (lw_at lw_m3 31 rfl) rfl
theorem q618 : (Jvm.Cond.code ({ cls := "RockingHorse", name := "sheet", desc := "(IIII)I" } : Jvm.MethodName) prog_1_method_32_code (8 : Nat) (Option.some Jvm.ClassFile.FieldType.int)) ∈ lw_all := lw_g (lw_at lw_m3 32 rfl) rfl
theorem q619 : (Jvm.Cond.constantLong "RockingHorse" (298 : Nat) (3 : Int64)) ∈ lw_all := lw_g (lw_at lw_m3 33 rfl) rfl
theorem q620 : (Jvm.Cond.methodLink "RockingHorse" (300 : Nat) ({ cls := "RockingHorse", name := "sumOf", desc := "([I)I" } : Jvm.MethodName)) ∈ lw_all := lw_g (lw_at lw_m3 34 rfl) rfl
theorem q621 : (Jvm.Cond.privateMethod ({ cls := "RockingHorse", name := "sumOf", desc := "([I)I" } : Jvm.MethodName)) ∈ lw_tbl := lw_at lw_m3 35 rfl
theorem q622 : (Jvm.Cond.instanceMethod ({ cls := "RockingHorse", name := "sumOf", desc := "([I)I" } : Jvm.MethodName)) ∈ lw_all := lw_g (lw_at lw_m3 36 rfl) rfl
theorem q623 : (Jvm.Cond.code ({ cls := "RockingHorse", name := "sumOf", desc := "([I)I" } : Jvm.MethodName) prog_1_method_10_code (4 : Nat) (Option.some Jvm.ClassFile.FieldType.int)) ∈ lw_all := lw_g (lw_at lw_m3 37 rfl) rfl
theorem q625 : (Jvm.Cond.instanceMethod ({ cls := "RockingHorse", name := "undo", desc := "()I" } : Jvm.MethodName)) ∈ lw_all := lw_g (lw_at lw_m3 39 rfl) rfl
theorem q626 : (Jvm.Cond.selects "RockingHorse" ({ cls := "RockingHorse", name := "undo", desc := "()I" } : Jvm.MethodName) ({ cls := "RockingHorse", name := "undo", desc := "()I" } : Jvm.MethodName)) ∈ lw_all := lw_g (lw_at lw_m3 40 rfl) rfl
theorem q627 : (Jvm.Cond.code ({ cls := "RockingHorse", name := "undo", desc := "()I" } : Jvm.MethodName) prog_1_method_34_code (1 : Nat) (Option.some Jvm.ClassFile.FieldType.int)) ∈ lw_all := lw_g (lw_at lw_m3 41 rfl) rfl
theorem q628 : (Jvm.Cond.methodLink "RockingHorse" (304 : Nat) ({ cls := "RockingHorse$Horse", name := "becomes", desc := "(LRockingHorse$Horse;)V" } : Jvm.MethodName)) ∈ lw_all := lw_g (lw_at lw_m3 42 rfl) rfl
theorem q636 : (Jvm.Cond.instanceMethod ({ cls := "RockingHorse", name := "rota", desc := "()I" } : Jvm.MethodName)) ∈ lw_all := lw_g (lw_at lw_m3 50 rfl) rfl
theorem q637 : (Jvm.Cond.selects "RockingHorse" ({ cls := "RockingHorse", name := "rota", desc := "()I" } : Jvm.MethodName) ({ cls := "RockingHorse", name := "rota", desc := "()I" } : Jvm.MethodName)) ∈ lw_all := lw_g (lw_at lw_m3 51 rfl) rfl
theorem q638 : (Jvm.Cond.code ({ cls := "RockingHorse", name := "rota", desc := "()I" } : Jvm.MethodName) prog_1_method_41_code (4 : Nat) (Option.some Jvm.ClassFile.FieldType.int)) ∈ lw_all := lw_g (lw_at lw_m3 52 rfl) rfl
theorem q639 : (Jvm.Cond.methodLink "RockingHorse" (343 : Nat) ({ cls := "RockingHorse", name := "putsBy", desc := "(LRockingHorse$Horse;)V" } : Jvm.MethodName)) ∈ lw_all := lw_g (lw_at lw_m3 53 rfl) rfl
theorem q640 : (Jvm.Cond.privateMethod ({ cls := "RockingHorse", name := "putsBy", desc := "(LRockingHorse$Horse;)V" } : Jvm.MethodName)) ∈ lw_tbl := lw_at lw_m3 54 rfl
theorem q641 : (Jvm.Cond.instanceMethod ({ cls := "RockingHorse", name := "putsBy", desc := "(LRockingHorse$Horse;)V" } : Jvm.MethodName)) ∈ lw_all := lw_g (lw_at lw_m3 55 rfl) rfl
theorem q642 : (Jvm.Cond.code ({ cls := "RockingHorse", name := "putsBy", desc := "(LRockingHorse$Horse;)V" } : Jvm.MethodName) prog_1_method_33_code (4 : Nat) (Option.none : Option Jvm.ClassFile.FieldType)) ∈ lw_all := lw_g (lw_at lw_m3 56 rfl) rfl
theorem q644 : (Jvm.Cond.instanceMethod ({ cls := "RockingHorse", name := "give", desc := "(II)I" } : Jvm.MethodName)) ∈ lw_all := lw_g (lw_at lw_m3 58 rfl) rfl
theorem q645 : (Jvm.Cond.selects "RockingHorse" ({ cls := "RockingHorse", name := "give", desc := "(II)I" } : Jvm.MethodName) ({ cls := "RockingHorse", name := "give", desc := "(II)I" } : Jvm.MethodName)) ∈ lw_all := lw_g (lw_at lw_m3 59 rfl) rfl
theorem q646 : (Jvm.Cond.code ({ cls := "RockingHorse", name := "give", desc := "(II)I" } : Jvm.MethodName) prog_1_method_42_code (4 : Nat) (Option.some Jvm.ClassFile.FieldType.int)) ∈ lw_all := lw_g (lw_at lw_m3 60 rfl) rfl
theorem q647 : (Jvm.Cond.methodLink "RockingHorse" (346 : Nat) ({ cls := "RockingHorse", name := "gives", desc := "(LRockingHorse$Horse;II)Z" } : Jvm.MethodName)) ∈ lw_all := lw_g (lw_at lw_m3 61 rfl) rfl
theorem q648 : (Jvm.Cond.privateMethod ({ cls := "RockingHorse", name := "gives", desc := "(LRockingHorse$Horse;II)Z" } : Jvm.MethodName)) ∈ lw_tbl := lw_at lw_m3 62 rfl
theorem q649 : (Jvm.Cond.instanceMethod ({ cls := "RockingHorse", name := "gives", desc := "(LRockingHorse$Horse;II)Z" } : Jvm.MethodName)) ∈ lw_all := lw_g (lw_at lw_m3 63 rfl) rfl
theorem q650 : (Jvm.Cond.code ({ cls := "RockingHorse", name := "gives", desc := "(LRockingHorse$Horse;II)Z" } : Jvm.MethodName) prog_1_method_38_code (4 : Nat) (Option.some Jvm.ClassFile.FieldType.boolean)) ∈ lw_all := lw_g (lw_at lw_m3 64 rfl) rfl
theorem q652 : (Jvm.Cond.instanceMethod ({ cls := "RockingHorse", name := "ill", desc := "(I)I" } : Jvm.MethodName)) ∈ lw_all := lw_g (lw_at lw_m3 66 rfl) rfl
theorem q653 : (Jvm.Cond.selects "RockingHorse" ({ cls := "RockingHorse", name := "ill", desc := "(I)I" } : Jvm.MethodName) ({ cls := "RockingHorse", name := "ill", desc := "(I)I" } : Jvm.MethodName)) ∈ lw_all := lw_g (lw_at lw_m3 67 rfl) rfl
theorem q654 : (Jvm.Cond.code ({ cls := "RockingHorse", name := "ill", desc := "(I)I" } : Jvm.MethodName) prog_1_method_43_code (2 : Nat) (Option.some Jvm.ClassFile.FieldType.int)) ∈ lw_all := lw_g (lw_at lw_m3 68 rfl) rfl
theorem q655 : (Jvm.Cond.methodLink "RockingHorse" (350 : Nat) ({ cls := "RockingHorse", name := "falls", desc := "(LRockingHorse$Horse;I)I" } : Jvm.MethodName)) ∈ lw_all := lw_g (lw_at lw_m3 69 rfl) rfl
theorem q656 : (Jvm.Cond.privateMethod ({ cls := "RockingHorse", name := "falls", desc := "(LRockingHorse$Horse;I)I" } : Jvm.MethodName)) ∈ lw_tbl := lw_at lw_m3 70 rfl
theorem q657 : (Jvm.Cond.instanceMethod ({ cls := "RockingHorse", name := "falls", desc := "(LRockingHorse$Horse;I)I" } : Jvm.MethodName)) ∈ lw_all := lw_g (lw_at lw_m3 71 rfl) rfl
theorem q658 : (Jvm.Cond.code ({ cls := "RockingHorse", name := "falls", desc := "(LRockingHorse$Horse;I)I" } : Jvm.MethodName) prog_1_method_39_code (3 : Nat) (Option.some Jvm.ClassFile.FieldType.int)) ∈ lw_all := lw_g (lw_at lw_m3 72 rfl) rfl
theorem q659 : (Jvm.Cond.methodLink "RockingHorse" (326 : Nat) ({ cls := "java/lang/Integer", name := "bitCount", desc := "(I)I" } : Jvm.MethodName)) ∈ lw_all := lw_g (lw_at lw_m3 73 rfl) rfl
theorem q661 : (Jvm.Cond.instanceMethod ({ cls := "RockingHorse", name := "nights", desc := "(I)I" } : Jvm.MethodName)) ∈ lw_all := lw_g (lw_at lw_m3 75 rfl) rfl
theorem q662 : (Jvm.Cond.selects "RockingHorse" ({ cls := "RockingHorse", name := "nights", desc := "(I)I" } : Jvm.MethodName) ({ cls := "RockingHorse", name := "nights", desc := "(I)I" } : Jvm.MethodName)) ∈ lw_all := lw_g (lw_at lw_m3 76 rfl) rfl
theorem q663 : (Jvm.Cond.code ({ cls := "RockingHorse", name := "nights", desc := "(I)I" } : Jvm.MethodName) prog_1_method_44_code (4 : Nat) (Option.some Jvm.ClassFile.FieldType.int)) ∈ lw_all := lw_g (lw_at lw_m3 77 rfl) rfl
theorem q664 : (Jvm.Cond.constantLong "RockingHorse" (354 : Nat) (30 : Int64)) ∈ lw_all := lw_g (lw_at lw_m3 78 rfl) rfl
theorem q665 : (Jvm.Cond.methodLink "RockingHorse" (356 : Nat) ({ cls := "RockingHorse", name := "nightsGo", desc := "(LRockingHorse$Horse;I)V" } : Jvm.MethodName)) ∈ lw_all := lw_g (lw_at lw_m3 79 rfl) rfl
theorem q666 : (Jvm.Cond.privateMethod ({ cls := "RockingHorse", name := "nightsGo", desc := "(LRockingHorse$Horse;I)V" } : Jvm.MethodName)) ∈ lw_tbl := lw_at lw_m3 80 rfl
theorem q667 : (Jvm.Cond.instanceMethod ({ cls := "RockingHorse", name := "nightsGo", desc := "(LRockingHorse$Horse;I)V" } : Jvm.MethodName)) ∈ lw_all := lw_g (lw_at lw_m3 81 rfl) rfl
theorem q668 : (Jvm.Cond.code ({ cls := "RockingHorse", name := "nightsGo", desc := "(LRockingHorse$Horse;I)V" } : Jvm.MethodName) prog_1_method_37_code (4 : Nat) (Option.none : Option Jvm.ClassFile.FieldType)) ∈ lw_all := lw_g (lw_at lw_m3 82 rfl) rfl
theorem q669 : (Jvm.Cond.methodLink "RockingHorse" (337 : Nat) ({ cls := "RockingHorse", name := "nightGoes", desc := "(LRockingHorse$Horse;)V" } : Jvm.MethodName)) ∈ lw_all := lw_g (lw_at lw_m3 83 rfl) rfl
theorem q670 : (Jvm.Cond.privateMethod ({ cls := "RockingHorse", name := "nightGoes", desc := "(LRockingHorse$Horse;)V" } : Jvm.MethodName)) ∈ lw_tbl := lw_at lw_m3 84 rfl
theorem q671 : (Jvm.Cond.instanceMethod ({ cls := "RockingHorse", name := "nightGoes", desc := "(LRockingHorse$Horse;)V" } : Jvm.MethodName)) ∈ lw_all := lw_g (lw_at lw_m3 85 rfl) rfl
theorem q672 : (Jvm.Cond.code ({ cls := "RockingHorse", name := "nightGoes", desc := "(LRockingHorse$Horse;)V" } : Jvm.MethodName) prog_1_method_36_code (3 : Nat) (Option.none : Option Jvm.ClassFile.FieldType)) ∈ lw_all := lw_g (lw_at lw_m3 86 rfl) rfl
theorem q673 : (Jvm.Cond.methodLink "RockingHorse" (320 : Nat) ({ cls := "RockingHorse", name := "rides", desc := "(LRockingHorse$Horse;)V" } : Jvm.MethodName)) ∈ lw_all := lw_g (lw_at lw_m3 87 rfl) rfl
theorem q674 : (Jvm.Cond.privateMethod ({ cls := "RockingHorse", name := "rides", desc := "(LRockingHorse$Horse;)V" } : Jvm.MethodName)) ∈ lw_tbl := lw_at lw_m3 88 rfl
theorem q675 : (Jvm.Cond.instanceMethod ({ cls := "RockingHorse", name := "rides", desc := "(LRockingHorse$Horse;)V" } : Jvm.MethodName)) ∈ lw_all := lw_g (lw_at lw_m3 89 rfl) rfl
theorem q676 : (Jvm.Cond.code ({ cls := "RockingHorse", name := "rides", desc := "(LRockingHorse$Horse;)V" } : Jvm.MethodName) prog_1_method_35_code (7 : Nat) (Option.none : Option Jvm.ClassFile.FieldType)) ∈ lw_all := lw_g (lw_at lw_m3 90 rfl) rfl
theorem q677 : (Jvm.Cond.methodLink "RockingHorse" (281 : Nat) ({ cls := "RockingHorse", name := "has", desc := "(II)Z" } : Jvm.MethodName)) ∈ lw_all := lw_g (lw_at lw_m3 91 rfl) rfl
theorem q678 : (Jvm.Cond.static ({ cls := "RockingHorse", name := "has", desc := "(II)Z" } : Jvm.MethodName)) ∈ lw_all := lw_g (lw_at lw_m3 92 rfl) rfl
theorem q679 : (Jvm.Cond.code ({ cls := "RockingHorse", name := "has", desc := "(II)Z" } : Jvm.MethodName) prog_1_method_3_code (2 : Nat) (Option.some Jvm.ClassFile.FieldType.boolean)) ∈ lw_all := lw_g (lw_at lw_m3 93 rfl) rfl
theorem q680 : (Jvm.Cond.methodLink "RockingHorse" (317 : Nat) ({ cls := "java/lang/Math", name := "abs", desc := "(I)I" } : Jvm.MethodName)) ∈ lw_all := lw_g (lw_at lw_m3 94 rfl) rfl
theorem q683 : (Jvm.Cond.methodLink "RockingHorse" (363 : Nat) ({ cls := "RockingHorse", name := "tells", desc := "(J)V" } : Jvm.MethodName)) ∈ lw_all := lw_g (lw_at lw_m3 97 rfl) rfl
theorem q684 : (Jvm.Cond.privateMethod ({ cls := "RockingHorse", name := "tells", desc := "(J)V" } : Jvm.MethodName)) ∈ lw_tbl := lw_at lw_m3 98 rfl
theorem q685 : (Jvm.Cond.instanceMethod ({ cls := "RockingHorse", name := "tells", desc := "(J)V" } : Jvm.MethodName)) ∈ lw_all := lw_g (lw_at lw_m3 99 rfl) rfl
theorem q686 : (Jvm.Cond.code ({ cls := "RockingHorse", name := "tells", desc := "(J)V" } : Jvm.MethodName) prog_1_method_105_code (3 : Nat) (Option.none : Option Jvm.ClassFile.FieldType)) ∈ lw_all := lw_g (lw_at lw_m3 100 rfl) rfl
theorem q688 : (Jvm.Cond.instanceMethod ({ cls := "RockingHorse", name := "year", desc := "()I" } : Jvm.MethodName)) ∈ lw_all := lw_g (lw_at lw_m3 102 rfl) rfl
theorem q689 : (Jvm.Cond.selects "RockingHorse" ({ cls := "RockingHorse", name := "year", desc := "()I" } : Jvm.MethodName) ({ cls := "RockingHorse", name := "year", desc := "()I" } : Jvm.MethodName)) ∈ lw_all := lw_g (lw_at lw_m3 103 rfl) rfl
theorem q690 : (Jvm.Cond.code ({ cls := "RockingHorse", name := "year", desc := "()I" } : Jvm.MethodName) prog_1_method_47_code (5 : Nat) (Option.some Jvm.ClassFile.FieldType.int)) ∈ lw_all := lw_g (lw_at lw_m3 104 rfl) rfl
theorem q691 : (Jvm.Cond.methodLink "RockingHorse" (375 : Nat) ({ cls := "RockingHorse", name := "readsAct", desc := "()Z" } : Jvm.MethodName)) ∈ lw_all := lw_g (lw_at lw_m3 105 rfl) rfl
theorem q692 : (Jvm.Cond.privateMethod ({ cls := "RockingHorse", name := "readsAct", desc := "()Z" } : Jvm.MethodName)) ∈ lw_tbl := lw_at lw_m3 106 rfl
theorem q693 : (Jvm.Cond.instanceMethod ({ cls := "RockingHorse", name := "readsAct", desc := "()Z" } : Jvm.MethodName)) ∈ lw_all := lw_g (lw_at lw_m3 107 rfl) rfl
theorem q694 : (Jvm.Cond.code ({ cls := "RockingHorse", name := "readsAct", desc := "()Z" } : Jvm.MethodName) prog_1_method_45_code (4 : Nat) (Option.some Jvm.ClassFile.FieldType.boolean)) ∈ lw_all := lw_g (lw_at lw_m3 108 rfl) rfl
theorem q695 : (Jvm.Cond.stringRef "RockingHorse" (370 : Nat) "nigx") ∈ lw_tbl := lw_at lw_m3 109 rfl
theorem q696 : (Jvm.Cond.methodLink "RockingHorse" (378 : Nat) ({ cls := "RockingHorse", name := "does", desc := "(I)Z" } : Jvm.MethodName)) ∈ lw_all := lw_g (lw_at lw_m3 110 rfl) rfl
theorem q697 : (Jvm.Cond.privateMethod ({ cls := "RockingHorse", name := "does", desc := "(I)Z" } : Jvm.MethodName)) ∈ lw_tbl := lw_at lw_m3 111 rfl
theorem q698 : (Jvm.Cond.instanceMethod ({ cls := "RockingHorse", name := "does", desc := "(I)Z" } : Jvm.MethodName)) ∈ lw_all := lw_g (lw_at lw_m3 112 rfl) rfl
theorem q699 : (Jvm.Cond.code ({ cls := "RockingHorse", name := "does", desc := "(I)Z" } : Jvm.MethodName) prog_1_method_46_code (3 : Nat) (Option.some Jvm.ClassFile.FieldType.boolean)) ∈ lw_all := lw_g (lw_at lw_m3 113 rfl) rfl
theorem q700 : (Jvm.Cond.methodLink "RockingHorse" (372 : Nat) ({ cls := "RockingHorse", name := "exchanges", desc := "(LRockingHorse$Horse;II)Z" } : Jvm.MethodName)) ∈ lw_all := lw_g (lw_at lw_m3 114 rfl) rfl
theorem q701 : (Jvm.Cond.privateMethod ({ cls := "RockingHorse", name := "exchanges", desc := "(LRockingHorse$Horse;II)Z" } : Jvm.MethodName)) ∈ lw_tbl := lw_at lw_m3 115 rfl
theorem q702 : (Jvm.Cond.instanceMethod ({ cls := "RockingHorse", name := "exchanges", desc := "(LRockingHorse$Horse;II)Z" } : Jvm.MethodName)) ∈ lw_all := lw_g (lw_at lw_m3 116 rfl) rfl
theorem q703 : (Jvm.Cond.code ({ cls := "RockingHorse", name := "exchanges", desc := "(LRockingHorse$Horse;II)Z" } : Jvm.MethodName) prog_1_method_40_code (5 : Nat) (Option.some Jvm.ClassFile.FieldType.boolean)) ∈ lw_all := lw_g (lw_at lw_m3 117 rfl) rfl
theorem q704 : (Jvm.Cond.methodLink "RockingHorse" (340 : Nat) ({ cls := "RockingHorse", name := "isPair", desc := "(II)Z" } : Jvm.MethodName)) ∈ lw_all := lw_g (lw_at lw_m3 118 rfl) rfl
theorem q705 : (Jvm.Cond.privateMethod ({ cls := "RockingHorse", name := "isPair", desc := "(II)Z" } : Jvm.MethodName)) ∈ lw_tbl := lw_at lw_m3 119 rfl
theorem q706 : (Jvm.Cond.instanceMethod ({ cls := "RockingHorse", name := "isPair", desc := "(II)Z" } : Jvm.MethodName)) ∈ lw_all := lw_g (lw_at lw_m3 120 rfl) rfl
theorem q707 : (Jvm.Cond.code ({ cls := "RockingHorse", name := "isPair", desc := "(II)Z" } : Jvm.MethodName) prog_1_method_6_code (3 : Nat) (Option.some Jvm.ClassFile.FieldType.boolean)) ∈ lw_all := lw_g (lw_at lw_m3 121 rfl) rfl
theorem q709 : (Jvm.Cond.instanceMethod ({ cls := "RockingHorse", name := "gaps", desc := "()I" } : Jvm.MethodName)) ∈ lw_all := lw_g (lw_at lw_m3 123 rfl) rfl
theorem q710 : (Jvm.Cond.selects "RockingHorse" ({ cls := "RockingHorse", name := "gaps", desc := "()I" } : Jvm.MethodName) ({ cls := "RockingHorse", name := "gaps", desc := "()I" } : Jvm.MethodName)) ∈ lw_all := lw_g (lw_at lw_m3 124 rfl) rfl
theorem q711 : (Jvm.Cond.code ({ cls := "RockingHorse", name := "gaps", desc := "()I" } : Jvm.MethodName) prog_1_method_48_code (1 : Nat) (Option.some Jvm.ClassFile.FieldType.int)) ∈ lw_all := lw_g (lw_at lw_m3 125 rfl) rfl
theorem q713 : (Jvm.Cond.instanceMethod ({ cls := "RockingHorse", name := "first", desc := "(I)I" } : Jvm.MethodName)) ∈ lw_all := lw_g (lw_at lw_m3 127 rfl) rfl
theorem q714 : (Jvm.Cond.selects "RockingHorse" ({ cls := "RockingHorse", name := "first", desc := "(I)I" } : Jvm.MethodName) ({ cls := "RockingHorse", name := "first", desc := "(I)I" } : Jvm.MethodName)) ∈ lw_all := lw_g (lw_at lw_m3 128 rfl) rfl
theorem q715 : (Jvm.Cond.code ({ cls := "RockingHorse", name := "first", desc := "(I)I" } : Jvm.MethodName) prog_1_method_49_code (3 : Nat) (Option.some Jvm.ClassFile.FieldType.int)) ∈ lw_all := lw_g (lw_at lw_m3 129 rfl) rfl
theorem q716 : (Jvm.Cond.constantLong "RockingHorse" (381 : Nat) (60 : Int64)) ∈ lw_all := lw_g (lw_at lw_m3 130 rfl) rfl
theorem q717 : (Jvm.Cond.methodLink "RockingHorse" (383 : Nat) ({ cls := "java/lang/Integer", name := "numberOfTrailingZeros", desc := "(I)I" } : Jvm.MethodName)) ∈ lw_all := lw_g (lw_at lw_m3 131 rfl) rfl
theorem q722 : (Jvm.Cond.instanceMethod ({ cls := "RockingHorse", name := "later", desc := "(I)I" } : Jvm.MethodName)) ∈ lw_all := lw_g (lw_at lw_m3 136 rfl) rfl
theorem q723 : (Jvm.Cond.selects "RockingHorse" ({ cls := "RockingHorse", name := "later", desc := "(I)I" } : Jvm.MethodName) ({ cls := "RockingHorse", name := "later", desc := "(I)I" } : Jvm.MethodName)) ∈ lw_all := lw_g (lw_at lw_m3 137 rfl) rfl
theorem q724 : (Jvm.Cond.code ({ cls := "RockingHorse", name := "later", desc := "(I)I" } : Jvm.MethodName) prog_1_method_50_code (4 : Nat) (Option.some Jvm.ClassFile.FieldType.int)) ∈ lw_all := lw_g (lw_at lw_m3 138 rfl) rfl
theorem q726 : (Jvm.Cond.instanceMethod ({ cls := "RockingHorse", name := "vigil", desc := "(I)I" } : Jvm.MethodName)) ∈ lw_all := lw_g (lw_at lw_m3 140 rfl) rfl
theorem q727 : (Jvm.Cond.selects "RockingHorse" ({ cls := "RockingHorse", name := "vigil", desc := "(I)I" } : Jvm.MethodName) ({ cls := "RockingHorse", name := "vigil", desc := "(I)I" } : Jvm.MethodName)) ∈ lw_all := lw_g (lw_at lw_m3 141 rfl) rfl
theorem q728 : (Jvm.Cond.code ({ cls := "RockingHorse", name := "vigil", desc := "(I)I" } : Jvm.MethodName) prog_1_method_51_code (6 : Nat) (Option.some Jvm.ClassFile.FieldType.int)) ∈ lw_all := lw_g (lw_at lw_m3 142 rfl) rfl
theorem q730 : (Jvm.Cond.instanceMethod ({ cls := "RockingHorse", name := "trade", desc := "()I" } : Jvm.MethodName)) ∈ lw_all := lw_g (lw_at lw_m3 144 rfl) rfl
theorem q731 : (Jvm.Cond.selects "RockingHorse" ({ cls := "RockingHorse", name := "trade", desc := "()I" } : Jvm.MethodName) ({ cls := "RockingHorse", name := "trade", desc := "()I" } : Jvm.MethodName)) ∈ lw_all := lw_g (lw_at lw_m3 145 rfl) rfl
theorem q732 : (Jvm.Cond.code ({ cls := "RockingHorse", name := "trade", desc := "()I" } : Jvm.MethodName) prog_1_method_52_code (8 : Nat) (Option.some Jvm.ClassFile.FieldType.int)) ∈ lw_all := lw_g (lw_at lw_m3 146 rfl) rfl
theorem q734 : (Jvm.Cond.instanceMethod ({ cls := "RockingHorse", name := "easiest", desc := "()I" } : Jvm.MethodName)) ∈ lw_all := lw_g (lw_at lw_m3 148 rfl) rfl
theorem q735 : (Jvm.Cond.selects "RockingHorse" ({ cls := "RockingHorse", name := "easiest", desc := "()I" } : Jvm.MethodName) ({ cls := "RockingHorse", name := "easiest", desc := "()I" } : Jvm.MethodName)) ∈ lw_all := lw_g (lw_at lw_m3 149 rfl) rfl
theorem q736 : (Jvm.Cond.code ({ cls := "RockingHorse", name := "easiest", desc := "()I" } : Jvm.MethodName) prog_1_method_62_code (2 : Nat) (Option.some Jvm.ClassFile.FieldType.int)) ∈ lw_all := lw_g (lw_at lw_m3 150 rfl) rfl
theorem q737 : (Jvm.Cond.methodLink "RockingHorse" (412 : Nat) ({ cls := "RockingHorse", name := "easiestBut", desc := "(I)I" } : Jvm.MethodName)) ∈ lw_all := lw_g (lw_at lw_m3 151 rfl) rfl
theorem q738 : (Jvm.Cond.privateMethod ({ cls := "RockingHorse", name := "easiestBut", desc := "(I)I" } : Jvm.MethodName)) ∈ lw_tbl := lw_at lw_m3 152 rfl
theorem q739 : (Jvm.Cond.instanceMethod ({ cls := "RockingHorse", name := "easiestBut", desc := "(I)I" } : Jvm.MethodName)) ∈ lw_all := lw_g (lw_at lw_m3 153 rfl) rfl
theorem q740 : (Jvm.Cond.code ({ cls := "RockingHorse", name := "easiestBut", desc := "(I)I" } : Jvm.MethodName) prog_1_method_61_code (2 : Nat) (Option.some Jvm.ClassFile.FieldType.int)) ∈ lw_all := lw_g (lw_at lw_m3 154 rfl) rfl
theorem q741 : (Jvm.Cond.methodLink "RockingHorse" (406 : Nat) ({ cls := "RockingHorse", name := "opens", desc := "(I)V" } : Jvm.MethodName)) ∈ lw_all := lw_g (lw_at lw_m3 155 rfl) rfl
theorem q742 : (Jvm.Cond.privateMethod ({ cls := "RockingHorse", name := "opens", desc := "(I)V" } : Jvm.MethodName)) ∈ lw_tbl := lw_at lw_m3 156 rfl
theorem q743 : (Jvm.Cond.instanceMethod ({ cls := "RockingHorse", name := "opens", desc := "(I)V" } : Jvm.MethodName)) ∈ lw_all := lw_g (lw_at lw_m3 157 rfl) rfl
theorem q744 : (Jvm.Cond.code ({ cls := "RockingHorse", name := "opens", desc := "(I)V" } : Jvm.MethodName) prog_1_method_53_code (3 : Nat) (Option.none : Option Jvm.ClassFile.FieldType)) ∈ lw_all := lw_g (lw_at lw_m3 158 rfl) rfl
theorem q745 : (Jvm.Cond.methodLink "RockingHorse" (386 : Nat) ({ cls := "RockingHorse", name := "wholeNight", desc := "()I" } : Jvm.MethodName)) ∈ lw_all := lw_g (lw_at lw_m3 159 rfl) rfl
theorem q746 : (Jvm.Cond.privateMethod ({ cls := "RockingHorse", name := "wholeNight", desc := "()I" } : Jvm.MethodName)) ∈ lw_tbl := lw_at lw_m3 160 rfl
theorem q747 : (Jvm.Cond.instanceMethod ({ cls := "RockingHorse", name := "wholeNight", desc := "()I" } : Jvm.MethodName)) ∈ lw_all := lw_g (lw_at lw_m3 161 rfl) rfl
theorem q748 : (Jvm.Cond.code ({ cls := "RockingHorse", name := "wholeNight", desc := "()I" } : Jvm.MethodName) prog_1_method_9_code (1 : Nat) (Option.some Jvm.ClassFile.FieldType.int)) ∈ lw_all := lw_g (lw_at lw_m3 162 rfl) rfl
theorem q749 : (Jvm.Cond.methodLink "RockingHorse" (409 : Nat) ({ cls := "RockingHorse", name := "pricesHard", desc := "()V" } : Jvm.MethodName)) ∈ lw_all := lw_g (lw_at lw_m3 163 rfl) rfl
theorem q750 : (Jvm.Cond.privateMethod ({ cls := "RockingHorse", name := "pricesHard", desc := "()V" } : Jvm.MethodName)) ∈ lw_tbl := lw_at lw_m3 164 rfl
theorem q751 : (Jvm.Cond.instanceMethod ({ cls := "RockingHorse", name := "pricesHard", desc := "()V" } : Jvm.MethodName)) ∈ lw_all := lw_g (lw_at lw_m3 165 rfl) rfl
theorem q752 : (Jvm.Cond.code ({ cls := "RockingHorse", name := "pricesHard", desc := "()V" } : Jvm.MethodName) prog_1_method_54_code (3 : Nat) (Option.none : Option Jvm.ClassFile.FieldType)) ∈ lw_all := lw_g (lw_at lw_m3 166 rfl) rfl
theorem q753 : (Jvm.Cond.methodLink "RockingHorse" (403 : Nat) ({ cls := "RockingHorse", name := "laysLeast", desc := "()I" } : Jvm.MethodName)) ∈ lw_all := lw_g (lw_at lw_m3 167 rfl) rfl
theorem q754 : (Jvm.Cond.privateMethod ({ cls := "RockingHorse", name := "laysLeast", desc := "()I" } : Jvm.MethodName)) ∈ lw_tbl := lw_at lw_m3 168 rfl
theorem q755 : (Jvm.Cond.instanceMethod ({ cls := "RockingHorse", name := "laysLeast", desc := "()I" } : Jvm.MethodName)) ∈ lw_all := lw_g (lw_at lw_m3 169 rfl) rfl
theorem q756 : (Jvm.Cond.code ({ cls := "RockingHorse", name := "laysLeast", desc := "()I" } : Jvm.MethodName) prog_1_method_56_code (5 : Nat) (Option.some Jvm.ClassFile.FieldType.int)) ∈ lw_all := lw_g (lw_at lw_m3 170 rfl) rfl
theorem q757 : (Jvm.Cond.methodLink "RockingHorse" (389 : Nat) ({ cls := "RockingHorse", name := "pricesSets", desc := "(I)V" } : Jvm.MethodName)) ∈ lw_all := lw_g (lw_at lw_m3 171 rfl) rfl
theorem q758 : (Jvm.Cond.privateMethod ({ cls := "RockingHorse", name := "pricesSets", desc := "(I)V" } : Jvm.MethodName)) ∈ lw_tbl := lw_at lw_m3 172 rfl
theorem q759 : (Jvm.Cond.instanceMethod ({ cls := "RockingHorse", name := "pricesSets", desc := "(I)V" } : Jvm.MethodName)) ∈ lw_all := lw_g (lw_at lw_m3 173 rfl) rfl
theorem q760 : (Jvm.Cond.code ({ cls := "RockingHorse", name := "pricesSets", desc := "(I)V" } : Jvm.MethodName) prog_1_method_55_code (4 : Nat) (Option.none : Option Jvm.ClassFile.FieldType)) ∈ lw_all := lw_g (lw_at lw_m3 174 rfl) rfl
theorem q761 : (Jvm.Cond.methodLink "RockingHorse" (415 : Nat) ({ cls := "RockingHorse", name := "laysTurn", desc := "(I)V" } : Jvm.MethodName)) ∈ lw_all := lw_g (lw_at lw_m3 175 rfl) rfl
theorem q762 : (Jvm.Cond.privateMethod ({ cls := "RockingHorse", name := "laysTurn", desc := "(I)V" } : Jvm.MethodName)) ∈ lw_tbl := lw_at lw_m3 176 rfl
theorem q763 : (Jvm.Cond.instanceMethod ({ cls := "RockingHorse", name := "laysTurn", desc := "(I)V" } : Jvm.MethodName)) ∈ lw_all := lw_g (lw_at lw_m3 177 rfl) rfl
theorem q764 : (Jvm.Cond.code ({ cls := "RockingHorse", name := "laysTurn", desc := "(I)V" } : Jvm.MethodName) prog_1_method_59_code (5 : Nat) (Option.none : Option Jvm.ClassFile.FieldType)) ∈ lw_all := lw_g (lw_at lw_m3 178 rfl) rfl
theorem q765 : (Jvm.Cond.methodLink "RockingHorse" (393 : Nat) ({ cls := "java/lang/System", name := "arraycopy", desc := "(Ljava/lang/Object;ILjava/lang/Object;II)V" } : Jvm.MethodName)) ∈ lw_all := lw_g (lw_at lw_m3 179 rfl) rfl
theorem q766 : (Jvm.Cond.methodLink "RockingHorse" (399 : Nat) ({ cls := "RockingHorse", name := "fixes", desc := "(II)V" } : Jvm.MethodName)) ∈ lw_all := lw_g (lw_at lw_m3 180 rfl) rfl
theorem q767 : (Jvm.Cond.privateMethod ({ cls := "RockingHorse", name := "fixes", desc := "(II)V" } : Jvm.MethodName)) ∈ lw_tbl := lw_at lw_m3 181 rfl
theorem q768 : (Jvm.Cond.instanceMethod ({ cls := "RockingHorse", name := "fixes", desc := "(II)V" } : Jvm.MethodName)) ∈ lw_all := lw_g (lw_at lw_m3 182 rfl) rfl
theorem q769 : (Jvm.Cond.code ({ cls := "RockingHorse", name := "fixes", desc := "(II)V" } : Jvm.MethodName) prog_1_method_58_code (4 : Nat) (Option.none : Option Jvm.ClassFile.FieldType)) ∈ lw_all := lw_g (lw_at lw_m3 183 rfl) rfl
theorem q770 : (Jvm.Cond.methodLink "RockingHorse" (418 : Nat) ({ cls := "RockingHorse", name := "tellsTurn", desc := "()V" } : Jvm.MethodName)) ∈ lw_all := lw_g (lw_at lw_m3 184 rfl) rfl
theorem q771 : (Jvm.Cond.privateMethod ({ cls := "RockingHorse", name := "tellsTurn", desc := "()V" } : Jvm.MethodName)) ∈ lw_tbl := lw_at lw_m3 185 rfl
theorem q772 : (Jvm.Cond.instanceMethod ({ cls := "RockingHorse", name := "tellsTurn", desc := "()V" } : Jvm.MethodName)) ∈ lw_all := lw_g (lw_at lw_m3 186 rfl) rfl
theorem q773 : (Jvm.Cond.code ({ cls := "RockingHorse", name := "tellsTurn", desc := "()V" } : Jvm.MethodName) prog_1_method_60_code (2 : Nat) (Option.none : Option Jvm.ClassFile.FieldType)) ∈ lw_all := lw_g (lw_at lw_m3 187 rfl) rfl
theorem q775 : (Jvm.Cond.instanceMethod ({ cls := "RockingHorse", name := "takes", desc := "()I" } : Jvm.MethodName)) ∈ lw_all := lw_g (lw_at lw_m3 189 rfl) rfl
theorem q776 : (Jvm.Cond.selects "RockingHorse" ({ cls := "RockingHorse", name := "takes", desc := "()I" } : Jvm.MethodName) ({ cls := "RockingHorse", name := "takes", desc := "()I" } : Jvm.MethodName)) ∈ lw_all := lw_g (lw_at lw_m3 190 rfl) rfl
theorem q777 : (Jvm.Cond.code ({ cls := "RockingHorse", name := "takes", desc := "()I" } : Jvm.MethodName) prog_1_method_63_code (4 : Nat) (Option.some Jvm.ClassFile.FieldType.int)) ∈ lw_all := lw_g (lw_at lw_m3 191 rfl) rfl
theorem q779 : (Jvm.Cond.instanceMethod ({ cls := "RockingHorse", name := "fewest", desc := "()I" } : Jvm.MethodName)) ∈ lw_all := lw_g (lw_at lw_m3 193 rfl) rfl
theorem q780 : (Jvm.Cond.selects "RockingHorse" ({ cls := "RockingHorse", name := "fewest", desc := "()I" } : Jvm.MethodName) ({ cls := "RockingHorse", name := "fewest", desc := "()I" } : Jvm.MethodName)) ∈ lw_all := lw_g (lw_at lw_m3 194 rfl) rfl
theorem q781 : (Jvm.Cond.code ({ cls := "RockingHorse", name := "fewest", desc := "()I" } : Jvm.MethodName) prog_1_method_66_code (4 : Nat) (Option.some Jvm.ClassFile.FieldType.int)) ∈ lw_all := lw_g (lw_at lw_m3 195 rfl) rfl
theorem q782 : (Jvm.Cond.methodLink "RockingHorse" (421 : Nat) ({ cls := "RockingHorse", name := "all", desc := "()I" } : Jvm.MethodName)) ∈ lw_all := lw_g (lw_at lw_m3 196 rfl) rfl
theorem q783 : (Jvm.Cond.privateMethod ({ cls := "RockingHorse", name := "all", desc := "()I" } : Jvm.MethodName)) ∈ lw_tbl := lw_at lw_m3 197 rfl
theorem q784 : (Jvm.Cond.instanceMethod ({ cls := "RockingHorse", name := "all", desc := "()I" } : Jvm.MethodName)) ∈ lw_all := lw_g (lw_at lw_m3 198 rfl) rfl
theorem q785 : (Jvm.Cond.code ({ cls := "RockingHorse", name := "all", desc := "()I" } : Jvm.MethodName) prog_1_method_8_code (1 : Nat) (Option.some Jvm.ClassFile.FieldType.int)) ∈ lw_all := lw_g (lw_at lw_m3 199 rfl) rfl
theorem q786 : (Jvm.Cond.methodLink "RockingHorse" (424 : Nat) ({ cls := "RockingHorse", name := "lacking", desc := "(I)I" } : Jvm.MethodName)) ∈ lw_all := lw_g (lw_at lw_m3 200 rfl) rfl
theorem q787 : (Jvm.Cond.privateMethod ({ cls := "RockingHorse", name := "lacking", desc := "(I)I" } : Jvm.MethodName)) ∈ lw_tbl := lw_at lw_m3 201 rfl
theorem q788 : (Jvm.Cond.instanceMethod ({ cls := "RockingHorse", name := "lacking", desc := "(I)I" } : Jvm.MethodName)) ∈ lw_all := lw_g (lw_at lw_m3 202 rfl) rfl
theorem q789 : (Jvm.Cond.code ({ cls := "RockingHorse", name := "lacking", desc := "(I)I" } : Jvm.MethodName) prog_1_method_64_code (6 : Nat) (Option.some Jvm.ClassFile.FieldType.int)) ∈ lw_all := lw_g (lw_at lw_m3 203 rfl) rfl
theorem q791 : (Jvm.Cond.instanceMethod ({ cls := "RockingHorse", name := "bare", desc := "()I" } : Jvm.MethodName)) ∈ lw_all := lw_g (lw_at lw_m3 205 rfl) rfl
theorem q792 : (Jvm.Cond.selects "RockingHorse" ({ cls := "RockingHorse", name := "bare", desc := "()I" } : Jvm.MethodName) ({ cls := "RockingHorse", name := "bare", desc := "()I" } : Jvm.MethodName)) ∈ lw_all := lw_g (lw_at lw_m3 206 rfl) rfl
theorem q793 : (Jvm.Cond.code ({ cls := "RockingHorse", name := "bare", desc := "()I" } : Jvm.MethodName) prog_1_method_67_code (2 : Nat) (Option.some Jvm.ClassFile.FieldType.int)) ∈ lw_all := lw_g (lw_at lw_m3 207 rfl) rfl
theorem q794 : (Jvm.Cond.methodLink "RockingHorse" (427 : Nat) ({ cls := "RockingHorse", name := "well", desc := "()I" } : Jvm.MethodName)) ∈ lw_all := lw_g (lw_at lw_m3 208 rfl) rfl
theorem q795 : (Jvm.Cond.privateMethod ({ cls := "RockingHorse", name := "well", desc := "()I" } : Jvm.MethodName)) ∈ lw_tbl := lw_at lw_m3 209 rfl
theorem q796 : (Jvm.Cond.instanceMethod ({ cls := "RockingHorse", name := "well", desc := "()I" } : Jvm.MethodName)) ∈ lw_all := lw_g (lw_at lw_m3 210 rfl) rfl
theorem q797 : (Jvm.Cond.code ({ cls := "RockingHorse", name := "well", desc := "()I" } : Jvm.MethodName) prog_1_method_65_code (1 : Nat) (Option.some Jvm.ClassFile.FieldType.int)) ∈ lw_all := lw_g (lw_at lw_m3 211 rfl) rfl
theorem q799 : (Jvm.Cond.instanceMethod ({ cls := "RockingHorse", name := "rotas", desc := "()I" } : Jvm.MethodName)) ∈ lw_all := lw_g (lw_at lw_m3 213 rfl) rfl
theorem q800 : (Jvm.Cond.selects "RockingHorse" ({ cls := "RockingHorse", name := "rotas", desc := "()I" } : Jvm.MethodName) ({ cls := "RockingHorse", name := "rotas", desc := "()I" } : Jvm.MethodName)) ∈ lw_all := lw_g (lw_at lw_m3 214 rfl) rfl
theorem q801 : (Jvm.Cond.code ({ cls := "RockingHorse", name := "rotas", desc := "()I" } : Jvm.MethodName) prog_1_method_69_code (1 : Nat) (Option.some Jvm.ClassFile.FieldType.int)) ∈ lw_all := lw_g (lw_at lw_m3 215 rfl) rfl
theorem q802 : (Jvm.Cond.methodLink "RockingHorse" (434 : Nat) ({ cls := "RockingHorse", name := "tellsWays", desc := "()I" } : Jvm.MethodName)) ∈ lw_all := lw_g (lw_at lw_m3 216 rfl) rfl
theorem q803 : (Jvm.Cond.privateMethod ({ cls := "RockingHorse", name := "tellsWays", desc := "()I" } : Jvm.MethodName)) ∈ lw_tbl := lw_at lw_m3 217 rfl
theorem q804 : (Jvm.Cond.instanceMethod ({ cls := "RockingHorse", name := "tellsWays", desc := "()I" } : Jvm.MethodName)) ∈ lw_all := lw_g (lw_at lw_m3 218 rfl) rfl
theorem q805 : (Jvm.Cond.code ({ cls := "RockingHorse", name := "tellsWays", desc := "()I" } : Jvm.MethodName) prog_1_method_68_code (3 : Nat) (Option.some Jvm.ClassFile.FieldType.int)) ∈ lw_all := lw_g (lw_at lw_m3 219 rfl) rfl
theorem q806 : (Jvm.Cond.methodLink "RockingHorse" (430 : Nat) ({ cls := "RockingHorse", name := "laysWays", desc := "()J" } : Jvm.MethodName)) ∈ lw_all := lw_g (lw_at lw_m3 220 rfl) rfl
theorem q807 : (Jvm.Cond.privateMethod ({ cls := "RockingHorse", name := "laysWays", desc := "()J" } : Jvm.MethodName)) ∈ lw_tbl := lw_at lw_m3 221 rfl
theorem q808 : (Jvm.Cond.instanceMethod ({ cls := "RockingHorse", name := "laysWays", desc := "()J" } : Jvm.MethodName)) ∈ lw_all := lw_g (lw_at lw_m3 222 rfl) rfl
theorem q809 : (Jvm.Cond.code ({ cls := "RockingHorse", name := "laysWays", desc := "()J" } : Jvm.MethodName) prog_1_method_57_code (5 : Nat) (Option.some Jvm.ClassFile.FieldType.long)) ∈ lw_all := lw_g (lw_at lw_m3 223 rfl) rfl
theorem q811 : (Jvm.Cond.instanceMethod ({ cls := "RockingHorse", name := "mended", desc := "(I)I" } : Jvm.MethodName)) ∈ lw_all := lw_g (lw_at lw_m3 225 rfl) rfl
theorem q812 : (Jvm.Cond.selects "RockingHorse" ({ cls := "RockingHorse", name := "mended", desc := "(I)I" } : Jvm.MethodName) ({ cls := "RockingHorse", name := "mended", desc := "(I)I" } : Jvm.MethodName)) ∈ lw_all := lw_g (lw_at lw_m3 226 rfl) rfl
theorem q813 : (Jvm.Cond.code ({ cls := "RockingHorse", name := "mended", desc := "(I)I" } : Jvm.MethodName) prog_1_method_70_code (4 : Nat) (Option.some Jvm.ClassFile.FieldType.int)) ∈ lw_all := lw_g (lw_at lw_m3 227 rfl) rfl
theorem q815 : (Jvm.Cond.instanceMethod ({ cls := "RockingHorse", name := "missed", desc := "(I)I" } : Jvm.MethodName)) ∈ lw_all := lw_g (lw_at lw_m3 229 rfl) rfl
theorem q816 : (Jvm.Cond.selects "RockingHorse" ({ cls := "RockingHorse", name := "missed", desc := "(I)I" } : Jvm.MethodName) ({ cls := "RockingHorse", name := "missed", desc := "(I)I" } : Jvm.MethodName)) ∈ lw_all := lw_g (lw_at lw_m3 230 rfl) rfl
theorem q817 : (Jvm.Cond.code ({ cls := "RockingHorse", name := "missed", desc := "(I)I" } : Jvm.MethodName) prog_1_method_71_code (4 : Nat) (Option.some Jvm.ClassFile.FieldType.int)) ∈ lw_all := lw_g (lw_at lw_m3 231 rfl) rfl
theorem q819 : (Jvm.Cond.instanceMethod ({ cls := "RockingHorse", name := "paid", desc := "(I)I" } : Jvm.MethodName)) ∈ lw_all := lw_g (lw_at lw_m3 233 rfl) rfl
theorem q820 : (Jvm.Cond.selects "RockingHorse" ({ cls := "RockingHorse", name := "paid", desc := "(I)I" } : Jvm.MethodName) ({ cls := "RockingHorse", name := "paid", desc := "(I)I" } : Jvm.MethodName)) ∈ lw_all := lw_g (lw_at lw_m3 234 rfl) rfl
theorem q821 : (Jvm.Cond.code ({ cls := "RockingHorse", name := "paid", desc := "(I)I" } : Jvm.MethodName) prog_1_method_72_code (6 : Nat) (Option.some Jvm.ClassFile.FieldType.int)) ∈ lw_all := lw_g (lw_at lw_m3 235 rfl) rfl
theorem q823 : (Jvm.Cond.instanceMethod ({ cls := "RockingHorse", name := "fairest", desc := "()I" } : Jvm.MethodName)) ∈ lw_all := lw_g (lw_at lw_m3 237 rfl) rfl
theorem q824 : (Jvm.Cond.selects "RockingHorse" ({ cls := "RockingHorse", name := "fairest", desc := "()I" } : Jvm.MethodName) ({ cls := "RockingHorse", name := "fairest", desc := "()I" } : Jvm.MethodName)) ∈ lw_all := lw_g (lw_at lw_m3 238 rfl) rfl
theorem q825 : (Jvm.Cond.code ({ cls := "RockingHorse", name := "fairest", desc := "()I" } : Jvm.MethodName) prog_1_method_73_code (5 : Nat) (Option.some Jvm.ClassFile.FieldType.int)) ∈ lw_all := lw_g (lw_at lw_m3 239 rfl) rfl
theorem q827 : (Jvm.Cond.instanceMethod ({ cls := "RockingHorse", name := "away", desc := "()I" } : Jvm.MethodName)) ∈ lw_all := lw_g (lw_at lw_m4 1 rfl) rfl
theorem q828 : (Jvm.Cond.selects "RockingHorse" ({ cls := "RockingHorse", name := "away", desc := "()I" } : Jvm.MethodName) ({ cls := "RockingHorse", name := "away", desc := "()I" } : Jvm.MethodName)) ∈ lw_all := lw_g (lw_at lw_m4 2 rfl) rfl
theorem q829 : (Jvm.Cond.code ({ cls := "RockingHorse", name := "away", desc := "()I" } : Jvm.MethodName) prog_1_method_74_code (4 : Nat) (Option.some Jvm.ClassFile.FieldType.int)) ∈ lw_all := lw_g (lw_at lw_m4 3 rfl) rfl
theorem q831 : (Jvm.Cond.instanceMethod ({ cls := "RockingHorse", name := "able", desc := "(I)I" } : Jvm.MethodName)) ∈ lw_all := lw_g (lw_at lw_m4 5 rfl) rfl
theorem q832 : (Jvm.Cond.selects "RockingHorse" ({ cls := "RockingHorse", name := "able", desc := "(I)I" } : Jvm.MethodName) ({ cls := "RockingHorse", name := "able", desc := "(I)I" } : Jvm.MethodName)) ∈ lw_all := lw_g (lw_at lw_m4 6 rfl) rfl
theorem q833 : (Jvm.Cond.code ({ cls := "RockingHorse", name := "able", desc := "(I)I" } : Jvm.MethodName) prog_1_method_75_code (5 : Nat) (Option.some Jvm.ClassFile.FieldType.int)) ∈ lw_all := lw_g (lw_at lw_m4 7 rfl) rfl
theorem q835 : (Jvm.Cond.instanceMethod ({ cls := "RockingHorse", name := "spent", desc := "(I)I" } : Jvm.MethodName)) ∈ lw_all := lw_g (lw_at lw_m4 9 rfl) rfl
theorem q836 : (Jvm.Cond.selects "RockingHorse" ({ cls := "RockingHorse", name := "spent", desc := "(I)I" } : Jvm.MethodName) ({ cls := "RockingHorse", name := "spent", desc := "(I)I" } : Jvm.MethodName)) ∈ lw_all := lw_g (lw_at lw_m4 10 rfl) rfl
theorem q837 : (Jvm.Cond.code ({ cls := "RockingHorse", name := "spent", desc := "(I)I" } : Jvm.MethodName) prog_1_method_76_code (7 : Nat) (Option.some Jvm.ClassFile.FieldType.int)) ∈ lw_all := lw_g (lw_at lw_m4 11 rfl) rfl
theorem q838 : (Jvm.Cond.constantLong "RockingHorse" (437 : Nat) (999 : Int64)) ∈ lw_all := lw_g (lw_at lw_m4 12 rfl) rfl
theorem q840 : (Jvm.Cond.instanceMethod ({ cls := "RockingHorse", name := "shared", desc := "(II)I" } : Jvm.MethodName)) ∈ lw_all := lw_g (lw_at lw_m4 14 rfl) rfl
theorem q841 : (Jvm.Cond.selects "RockingHorse" ({ cls := "RockingHorse", name := "shared", desc := "(II)I" } : Jvm.MethodName) ({ cls := "RockingHorse", name := "shared", desc := "(II)I" } : Jvm.MethodName)) ∈ lw_all := lw_g (lw_at lw_m4 15 rfl) rfl
theorem q842 : (Jvm.Cond.code ({ cls := "RockingHorse", name := "shared", desc := "(II)I" } : Jvm.MethodName) prog_1_method_77_code (3 : Nat) (Option.some Jvm.ClassFile.FieldType.int)) ∈ lw_all := lw_g (lw_at lw_m4 16 rfl) rfl
theorem q844 : (Jvm.Cond.instanceMethod ({ cls := "RockingHorse", name := "thin", desc := "()I" } : Jvm.MethodName)) ∈ lw_all := lw_g (lw_at lw_m4 18 rfl) rfl
theorem q845 : (Jvm.Cond.selects "RockingHorse" ({ cls := "RockingHorse", name := "thin", desc := "()I" } : Jvm.MethodName) ({ cls := "RockingHorse", name := "thin", desc := "()I" } : Jvm.MethodName)) ∈ lw_all := lw_g (lw_at lw_m4 19 rfl) rfl
theorem q846 : (Jvm.Cond.code ({ cls := "RockingHorse", name := "thin", desc := "()I" } : Jvm.MethodName) prog_1_method_79_code (3 : Nat) (Option.some Jvm.ClassFile.FieldType.int)) ∈ lw_all := lw_g (lw_at lw_m4 20 rfl) rfl
theorem q847 : (Jvm.Cond.methodLink "RockingHorse" (439 : Nat) ({ cls := "RockingHorse", name := "manyWho", desc := "(I)I" } : Jvm.MethodName)) ∈ lw_all := lw_g (lw_at lw_m4 21 rfl) rfl
theorem q848 : (Jvm.Cond.privateMethod ({ cls := "RockingHorse", name := "manyWho", desc := "(I)I" } : Jvm.MethodName)) ∈ lw_tbl := lw_at lw_m4 22 rfl
theorem q849 : (Jvm.Cond.instanceMethod ({ cls := "RockingHorse", name := "manyWho", desc := "(I)I" } : Jvm.MethodName)) ∈ lw_all := lw_g (lw_at lw_m4 23 rfl) rfl
theorem q850 : (Jvm.Cond.code ({ cls := "RockingHorse", name := "manyWho", desc := "(I)I" } : Jvm.MethodName) prog_1_method_78_code (4 : Nat) (Option.some Jvm.ClassFile.FieldType.int)) ∈ lw_all := lw_g (lw_at lw_m4 24 rfl) rfl
theorem q852 : (Jvm.Cond.instanceMethod ({ cls := "RockingHorse", name := "changes", desc := "()I" } : Jvm.MethodName)) ∈ lw_all := lw_g (lw_at lw_m4 26 rfl) rfl
theorem q853 : (Jvm.Cond.selects "RockingHorse" ({ cls := "RockingHorse", name := "changes", desc := "()I" } : Jvm.MethodName) ({ cls := "RockingHorse", name := "changes", desc := "()I" } : Jvm.MethodName)) ∈ lw_all := lw_g (lw_at lw_m4 27 rfl) rfl
theorem q854 : (Jvm.Cond.code ({ cls := "RockingHorse", name := "changes", desc := "()I" } : Jvm.MethodName) prog_1_method_80_code (8 : Nat) (Option.some Jvm.ClassFile.FieldType.int)) ∈ lw_all := lw_g (lw_at lw_m4 28 rfl) rfl
theorem q856 : (Jvm.Cond.instanceMethod ({ cls := "RockingHorse", name := "smoothest", desc := "()I" } : Jvm.MethodName)) ∈ lw_all := lw_g (lw_at lw_m4 30 rfl) rfl
theorem q857 : (Jvm.Cond.selects "RockingHorse" ({ cls := "RockingHorse", name := "smoothest", desc := "()I" } : Jvm.MethodName) ({ cls := "RockingHorse", name := "smoothest", desc := "()I" } : Jvm.MethodName)) ∈ lw_all := lw_g (lw_at lw_m4 31 rfl) rfl
theorem q858 : (Jvm.Cond.code ({ cls := "RockingHorse", name := "smoothest", desc := "()I" } : Jvm.MethodName) prog_1_method_82_code (2 : Nat) (Option.some Jvm.ClassFile.FieldType.int)) ∈ lw_all := lw_g (lw_at lw_m4 32 rfl) rfl
theorem q859 : (Jvm.Cond.methodLink "RockingHorse" (445 : Nat) ({ cls := "RockingHorse", name := "smoothsFrom", desc := "(II)V" } : Jvm.MethodName)) ∈ lw_all := lw_g (lw_at lw_m4 33 rfl) rfl
theorem q860 : (Jvm.Cond.privateMethod ({ cls := "RockingHorse", name := "smoothsFrom", desc := "(II)V" } : Jvm.MethodName)) ∈ lw_tbl := lw_at lw_m4 34 rfl
theorem q861 : (Jvm.Cond.instanceMethod ({ cls := "RockingHorse", name := "smoothsFrom", desc := "(II)V" } : Jvm.MethodName)) ∈ lw_all := lw_g (lw_at lw_m4 35 rfl) rfl
theorem q862 : (Jvm.Cond.code ({ cls := "RockingHorse", name := "smoothsFrom", desc := "(II)V" } : Jvm.MethodName) prog_1_method_81_code (4 : Nat) (Option.none : Option Jvm.ClassFile.FieldType)) ∈ lw_all := lw_g (lw_at lw_m4 36 rfl) rfl
theorem q864 : (Jvm.Cond.instanceMethod ({ cls := "RockingHorse", name := "meets", desc := "(III)I" } : Jvm.MethodName)) ∈ lw_all := lw_g (lw_at lw_m4 38 rfl) rfl
theorem q865 : (Jvm.Cond.selects "RockingHorse" ({ cls := "RockingHorse", name := "meets", desc := "(III)I" } : Jvm.MethodName) ({ cls := "RockingHorse", name := "meets", desc := "(III)I" } : Jvm.MethodName)) ∈ lw_all := lw_g (lw_at lw_m4 39 rfl) rfl
theorem q866 : (Jvm.Cond.code ({ cls := "RockingHorse", name := "meets", desc := "(III)I" } : Jvm.MethodName) prog_1_method_83_code (7 : Nat) (Option.some Jvm.ClassFile.FieldType.int)) ∈ lw_all := lw_g (lw_at lw_m4 40 rfl) rfl
theorem q867 : (Jvm.Cond.constantLong "RockingHorse" (448 : Nat) (2 : Int64)) ∈ lw_all := lw_g (lw_at lw_m4 41 rfl) rfl
theorem q868 : (Jvm.Cond.constantLong "RockingHorse" (450 : Nat) (40 : Int64)) ∈ lw_all := lw_g (lw_at lw_m4 42 rfl) rfl
theorem q870 : (Jvm.Cond.instanceMethod ({ cls := "RockingHorse", name := "found", desc := "(III)I" } : Jvm.MethodName)) ∈ lw_all := lw_g (lw_at lw_m4 44 rfl) rfl
theorem q871 : (Jvm.Cond.selects "RockingHorse" ({ cls := "RockingHorse", name := "found", desc := "(III)I" } : Jvm.MethodName) ({ cls := "RockingHorse", name := "found", desc := "(III)I" } : Jvm.MethodName)) ∈ lw_all := lw_g (lw_at lw_m4 45 rfl) rfl
theorem q872 : (Jvm.Cond.code ({ cls := "RockingHorse", name := "found", desc := "(III)I" } : Jvm.MethodName) prog_1_method_84_code (4 : Nat) (Option.some Jvm.ClassFile.FieldType.int)) ∈ lw_all := lw_g (lw_at lw_m4 46 rfl) rfl
theorem q874 : (Jvm.Cond.instanceMethod ({ cls := "RockingHorse", name := "forget", desc := "()I" } : Jvm.MethodName)) ∈ lw_all := lw_g (lw_at lw_m4 48 rfl) rfl
theorem q875 : (Jvm.Cond.selects "RockingHorse" ({ cls := "RockingHorse", name := "forget", desc := "()I" } : Jvm.MethodName) ({ cls := "RockingHorse", name := "forget", desc := "()I" } : Jvm.MethodName)) ∈ lw_all := lw_g (lw_at lw_m4 49 rfl) rfl
theorem q876 : (Jvm.Cond.code ({ cls := "RockingHorse", name := "forget", desc := "()I" } : Jvm.MethodName) prog_1_method_85_code (2 : Nat) (Option.some Jvm.ClassFile.FieldType.int)) ∈ lw_all := lw_g (lw_at lw_m4 50 rfl) rfl
theorem q878 : (Jvm.Cond.instanceMethod ({ cls := "RockingHorse", name := "fits", desc := "()I" } : Jvm.MethodName)) ∈ lw_all := lw_g (lw_at lw_m4 52 rfl) rfl
theorem q879 : (Jvm.Cond.selects "RockingHorse" ({ cls := "RockingHorse", name := "fits", desc := "()I" } : Jvm.MethodName) ({ cls := "RockingHorse", name := "fits", desc := "()I" } : Jvm.MethodName)) ∈ lw_all := lw_g (lw_at lw_m4 53 rfl) rfl
theorem q880 : (Jvm.Cond.code ({ cls := "RockingHorse", name := "fits", desc := "()I" } : Jvm.MethodName) prog_1_method_88_code (1 : Nat) (Option.some Jvm.ClassFile.FieldType.int)) ∈ lw_all := lw_g (lw_at lw_m4 54 rfl) rfl
theorem q881 : (Jvm.Cond.methodLink "RockingHorse" (458 : Nat) ({ cls := "RockingHorse", name := "opensFound", desc := "()V" } : Jvm.MethodName)) ∈ lw_all := lw_g (lw_at lw_m4 55 rfl) rfl
theorem q882 : (Jvm.Cond.privateMethod ({ cls := "RockingHorse", name := "opensFound", desc := "()V" } : Jvm.MethodName)) ∈ lw_tbl := lw_at lw_m4 56 rfl
theorem q883 : (Jvm.Cond.instanceMethod ({ cls := "RockingHorse", name := "opensFound", desc := "()V" } : Jvm.MethodName)) ∈ lw_all := lw_g (lw_at lw_m4 57 rfl) rfl
theorem q884 : (Jvm.Cond.code ({ cls := "RockingHorse", name := "opensFound", desc := "()V" } : Jvm.MethodName) prog_1_method_86_code (2 : Nat) (Option.none : Option Jvm.ClassFile.FieldType)) ∈ lw_all := lw_g (lw_at lw_m4 58 rfl) rfl
theorem q885 : (Jvm.Cond.methodLink "RockingHorse" (455 : Nat) ({ cls := "RockingHorse", name := "isHour", desc := "(I)Z" } : Jvm.MethodName)) ∈ lw_all := lw_g (lw_at lw_m4 59 rfl) rfl
theorem q886 : (Jvm.Cond.privateMethod ({ cls := "RockingHorse", name := "isHour", desc := "(I)Z" } : Jvm.MethodName)) ∈ lw_tbl := lw_at lw_m4 60 rfl
theorem q887 : (Jvm.Cond.instanceMethod ({ cls := "RockingHorse", name := "isHour", desc := "(I)Z" } : Jvm.MethodName)) ∈ lw_all := lw_g (lw_at lw_m4 61 rfl) rfl
theorem q888 : (Jvm.Cond.code ({ cls := "RockingHorse", name := "isHour", desc := "(I)Z" } : Jvm.MethodName) prog_1_method_7_code (2 : Nat) (Option.some Jvm.ClassFile.FieldType.boolean)) ∈ lw_all := lw_g (lw_at lw_m4 62 rfl) rfl
theorem q890 : (Jvm.Cond.instanceMethod ({ cls := "RockingHorse", name := "sure", desc := "(II)I" } : Jvm.MethodName)) ∈ lw_all := lw_g (lw_at lw_m4 64 rfl) rfl
theorem q891 : (Jvm.Cond.selects "RockingHorse" ({ cls := "RockingHorse", name := "sure", desc := "(II)I" } : Jvm.MethodName) ({ cls := "RockingHorse", name := "sure", desc := "(II)I" } : Jvm.MethodName)) ∈ lw_all := lw_g (lw_at lw_m4 65 rfl) rfl
theorem q892 : (Jvm.Cond.code ({ cls := "RockingHorse", name := "sure", desc := "(II)I" } : Jvm.MethodName) prog_1_method_89_code (7 : Nat) (Option.some Jvm.ClassFile.FieldType.int)) ∈ lw_all := lw_g (lw_at lw_m4 66 rfl) rfl
theorem q893 : (Jvm.Cond.methodLink "RockingHorse" (461 : Nat) ({ cls := "RockingHorse", name := "fitsIf", desc := "(II)J" } : Jvm.MethodName)) ∈ lw_all := lw_g (lw_at lw_m4 67 rfl) rfl
theorem q894 : (Jvm.Cond.privateMethod ({ cls := "RockingHorse", name := "fitsIf", desc := "(II)J" } : Jvm.MethodName)) ∈ lw_tbl := lw_at lw_m4 68 rfl
theorem q895 : (Jvm.Cond.instanceMethod ({ cls := "RockingHorse", name := "fitsIf", desc := "(II)J" } : Jvm.MethodName)) ∈ lw_all := lw_g (lw_at lw_m4 69 rfl) rfl
theorem q896 : (Jvm.Cond.code ({ cls := "RockingHorse", name := "fitsIf", desc := "(II)J" } : Jvm.MethodName) prog_1_method_87_code (3 : Nat) (Option.some Jvm.ClassFile.FieldType.long)) ∈ lw_all := lw_g (lw_at lw_m4 70 rfl) rfl
theorem q897 : (Jvm.Cond.methodLink "RockingHorse" (465 : Nat) ({ cls := "RockingHorse", name := "tellsFraction", desc := "(JJ)V" } : Jvm.MethodName)) ∈ lw_all := lw_g (lw_at lw_m4 71 rfl) rfl
theorem q898 : (Jvm.Cond.privateMethod ({ cls := "RockingHorse", name := "tellsFraction", desc := "(JJ)V" } : Jvm.MethodName)) ∈ lw_tbl := lw_at lw_m4 72 rfl
theorem q899 : (Jvm.Cond.instanceMethod ({ cls := "RockingHorse", name := "tellsFraction", desc := "(JJ)V" } : Jvm.MethodName)) ∈ lw_all := lw_g (lw_at lw_m4 73 rfl) rfl
theorem q900 : (Jvm.Cond.code ({ cls := "RockingHorse", name := "tellsFraction", desc := "(JJ)V" } : Jvm.MethodName) prog_1_method_91_code (7 : Nat) (Option.none : Option Jvm.ClassFile.FieldType)) ∈ lw_all := lw_g (lw_at lw_m4 74 rfl) rfl
theorem q901 : (Jvm.Cond.methodLink "RockingHorse" (117 : Nat) ({ cls := "RockingHorse", name := "common", desc := "(JJ)J" } : Jvm.MethodName)) ∈ lw_all := lw_g (lw_at lw_m4 75 rfl) rfl
theorem q902 : (Jvm.Cond.static ({ cls := "RockingHorse", name := "common", desc := "(JJ)J" } : Jvm.MethodName)) ∈ lw_all := lw_g (lw_at lw_m4 76 rfl) rfl
theorem q903 : (Jvm.Cond.code ({ cls := "RockingHorse", name := "common", desc := "(JJ)J" } : Jvm.MethodName) prog_1_method_4_code (4 : Nat) (Option.some Jvm.ClassFile.FieldType.long)) ∈ lw_all := lw_g (lw_at lw_m4 77 rfl) rfl
theorem q905 : (Jvm.Cond.instanceMethod ({ cls := "RockingHorse", name := "ask", desc := "()I" } : Jvm.MethodName)) ∈ lw_all := lw_g (lw_at lw_m4 79 rfl) rfl
theorem q906 : (Jvm.Cond.selects "RockingHorse" ({ cls := "RockingHorse", name := "ask", desc := "()I" } : Jvm.MethodName) ({ cls := "RockingHorse", name := "ask", desc := "()I" } : Jvm.MethodName)) ∈ lw_all := lw_g (lw_at lw_m4 80 rfl) rfl
theorem q907 : (Jvm.Cond.code ({ cls := "RockingHorse", name := "ask", desc := "()I" } : Jvm.MethodName) prog_1_method_90_code (8 : Nat) (Option.some Jvm.ClassFile.FieldType.int)) ∈ lw_all := lw_g (lw_at lw_m4 81 rfl) rfl
theorem q908 : (Jvm.Cond.constantLong "RockingHorse" (471 : Nat) (9223372036854775807 : Int64)) ∈ lw_all := lw_g (lw_at lw_m4 82 rfl) rfl
theorem q909 : (Jvm.Cond.methodLink "RockingHorse" (473 : Nat) ({ cls := "java/lang/Math", name := "max", desc := "(JJ)J" } : Jvm.MethodName)) ∈ lw_all := lw_g (lw_at lw_m4 83 rfl) rfl
theorem q912 : (Jvm.Cond.methodLink "RockingHorse" (475 : Nat) ({ cls := "java/lang/Math", name := "min", desc := "(JJ)J" } : Jvm.MethodName)) ∈ lw_all := lw_g (lw_at lw_m4 86 rfl) rfl
theorem q916 : (Jvm.Cond.instanceMethod ({ cls := "RockingHorse", name := "held", desc := "(I)I" } : Jvm.MethodName)) ∈ lw_all := lw_g (lw_at lw_m4 90 rfl) rfl
theorem q917 : (Jvm.Cond.selects "RockingHorse" ({ cls := "RockingHorse", name := "held", desc := "(I)I" } : Jvm.MethodName) ({ cls := "RockingHorse", name := "held", desc := "(I)I" } : Jvm.MethodName)) ∈ lw_all := lw_g (lw_at lw_m4 91 rfl) rfl
theorem q918 : (Jvm.Cond.code ({ cls := "RockingHorse", name := "held", desc := "(I)I" } : Jvm.MethodName) prog_1_method_94_code (2 : Nat) (Option.some Jvm.ClassFile.FieldType.int)) ∈ lw_all := lw_g (lw_at lw_m4 92 rfl) rfl
theorem q919 : (Jvm.Cond.constantLong "RockingHorse" (477 : Nat) (10 : Int64)) ∈ lw_all := lw_g (lw_at lw_m4 93 rfl) rfl
theorem q920 : (Jvm.Cond.methodLink "RockingHorse" (479 : Nat) ({ cls := "RockingHorse", name := "heldBy", desc := "(II)J" } : Jvm.MethodName)) ∈ lw_all := lw_g (lw_at lw_m4 94 rfl) rfl
theorem q921 : (Jvm.Cond.privateMethod ({ cls := "RockingHorse", name := "heldBy", desc := "(II)J" } : Jvm.MethodName)) ∈ lw_tbl := lw_at lw_m4 95 rfl
theorem q922 : (Jvm.Cond.instanceMethod ({ cls := "RockingHorse", name := "heldBy", desc := "(II)J" } : Jvm.MethodName)) ∈ lw_all := lw_g (lw_at lw_m4 96 rfl) rfl
theorem q923 : (Jvm.Cond.code ({ cls := "RockingHorse", name := "heldBy", desc := "(II)J" } : Jvm.MethodName) prog_1_method_93_code (9 : Nat) (Option.some Jvm.ClassFile.FieldType.long)) ∈ lw_all := lw_g (lw_at lw_m4 97 rfl) rfl
theorem q924 : (Jvm.Cond.methodLink "RockingHorse" (482 : Nat) ({ cls := "RockingHorse", name := "tenTo", desc := "(I)J" } : Jvm.MethodName)) ∈ lw_all := lw_g (lw_at lw_m4 98 rfl) rfl
theorem q925 : (Jvm.Cond.static ({ cls := "RockingHorse", name := "tenTo", desc := "(I)J" } : Jvm.MethodName)) ∈ lw_all := lw_g (lw_at lw_m4 99 rfl) rfl
theorem q926 : (Jvm.Cond.code ({ cls := "RockingHorse", name := "tenTo", desc := "(I)J" } : Jvm.MethodName) prog_1_method_92_code (4 : Nat) (Option.some Jvm.ClassFile.FieldType.long)) ∈ lw_all := lw_g (lw_at lw_m4 100 rfl) rfl
theorem q928 : (Jvm.Cond.instanceMethod ({ cls := "RockingHorse", name := "keystone", desc := "(I)I" } : Jvm.MethodName)) ∈ lw_all := lw_g (lw_at lw_m4 102 rfl) rfl
theorem q929 : (Jvm.Cond.selects "RockingHorse" ({ cls := "RockingHorse", name := "keystone", desc := "(I)I" } : Jvm.MethodName) ({ cls := "RockingHorse", name := "keystone", desc := "(I)I" } : Jvm.MethodName)) ∈ lw_all := lw_g (lw_at lw_m4 103 rfl) rfl
theorem q930 : (Jvm.Cond.code ({ cls := "RockingHorse", name := "keystone", desc := "(I)I" } : Jvm.MethodName) prog_1_method_95_code (8 : Nat) (Option.some Jvm.ClassFile.FieldType.int)) ∈ lw_all := lw_g (lw_at lw_m4 104 rfl) rfl
theorem q932 : (Jvm.Cond.instanceMethod ({ cls := "RockingHorse", name := "rests", desc := "(II)I" } : Jvm.MethodName)) ∈ lw_all := lw_g (lw_at lw_m4 106 rfl) rfl
theorem q933 : (Jvm.Cond.selects "RockingHorse" ({ cls := "RockingHorse", name := "rests", desc := "(II)I" } : Jvm.MethodName) ({ cls := "RockingHorse", name := "rests", desc := "(II)I" } : Jvm.MethodName)) ∈ lw_all := lw_g (lw_at lw_m4 107 rfl) rfl
theorem q934 : (Jvm.Cond.code ({ cls := "RockingHorse", name := "rests", desc := "(II)I" } : Jvm.MethodName) prog_1_method_97_code (7 : Nat) (Option.some Jvm.ClassFile.FieldType.int)) ∈ lw_all := lw_g (lw_at lw_m4 108 rfl) rfl
theorem q935 : (Jvm.Cond.methodLink "RockingHorse" (486 : Nat) ({ cls := "RockingHorse", name := "isRest", desc := "(IIII)Z" } : Jvm.MethodName)) ∈ lw_all := lw_g (lw_at lw_m4 109 rfl) rfl
theorem q936 : (Jvm.Cond.static ({ cls := "RockingHorse", name := "isRest", desc := "(IIII)Z" } : Jvm.MethodName)) ∈ lw_all := lw_g (lw_at lw_m4 110 rfl) rfl
theorem q937 : (Jvm.Cond.code ({ cls := "RockingHorse", name := "isRest", desc := "(IIII)Z" } : Jvm.MethodName) prog_1_method_96_code (7 : Nat) (Option.some Jvm.ClassFile.FieldType.boolean)) ∈ lw_all := lw_g (lw_at lw_m4 111 rfl) rfl
theorem q939 : (Jvm.Cond.instanceMethod ({ cls := "RockingHorse", name := "law", desc := "()I" } : Jvm.MethodName)) ∈ lw_all := lw_g (lw_at lw_m4 113 rfl) rfl
theorem q940 : (Jvm.Cond.selects "RockingHorse" ({ cls := "RockingHorse", name := "law", desc := "()I" } : Jvm.MethodName) ({ cls := "RockingHorse", name := "law", desc := "()I" } : Jvm.MethodName)) ∈ lw_all := lw_g (lw_at lw_m4 114 rfl) rfl
theorem q941 : (Jvm.Cond.code ({ cls := "RockingHorse", name := "law", desc := "()I" } : Jvm.MethodName) prog_1_method_99_code (5 : Nat) (Option.some Jvm.ClassFile.FieldType.int)) ∈ lw_all := lw_g (lw_at lw_m4 115 rfl) rfl
theorem q942 : (Jvm.Cond.methodLink "RockingHorse" (490 : Nat) ({ cls := "RockingHorse", name := "hardOfRota", desc := "()I" } : Jvm.MethodName)) ∈ lw_all := lw_g (lw_at lw_m4 116 rfl) rfl
theorem q943 : (Jvm.Cond.privateMethod ({ cls := "RockingHorse", name := "hardOfRota", desc := "()I" } : Jvm.MethodName)) ∈ lw_tbl := lw_at lw_m4 117 rfl
theorem q944 : (Jvm.Cond.instanceMethod ({ cls := "RockingHorse", name := "hardOfRota", desc := "()I" } : Jvm.MethodName)) ∈ lw_all := lw_g (lw_at lw_m4 118 rfl) rfl
theorem q945 : (Jvm.Cond.code ({ cls := "RockingHorse", name := "hardOfRota", desc := "()I" } : Jvm.MethodName) prog_1_method_98_code (3 : Nat) (Option.some Jvm.ClassFile.FieldType.int)) ∈ lw_all := lw_g (lw_at lw_m4 119 rfl) rfl
theorem q947 : (Jvm.Cond.instanceMethod ({ cls := "RockingHorse", name := "years", desc := "(II)I" } : Jvm.MethodName)) ∈ lw_all := lw_g (lw_at lw_m4 121 rfl) rfl
theorem q948 : (Jvm.Cond.selects "RockingHorse" ({ cls := "RockingHorse", name := "years", desc := "(II)I" } : Jvm.MethodName) ({ cls := "RockingHorse", name := "years", desc := "(II)I" } : Jvm.MethodName)) ∈ lw_all := lw_g (lw_at lw_m4 122 rfl) rfl
theorem q949 : (Jvm.Cond.code ({ cls := "RockingHorse", name := "years", desc := "(II)I" } : Jvm.MethodName) prog_1_method_101_code (6 : Nat) (Option.some Jvm.ClassFile.FieldType.int)) ∈ lw_all := lw_g (lw_at lw_m4 123 rfl) rfl
theorem q950 : (Jvm.Cond.methodLink "RockingHorse" (497 : Nat) ({ cls := "RockingHorse", name := "draws", desc := "(I)I" } : Jvm.MethodName)) ∈ lw_all := lw_g (lw_at lw_m4 124 rfl) rfl
theorem q951 : (Jvm.Cond.privateMethod ({ cls := "RockingHorse", name := "draws", desc := "(I)I" } : Jvm.MethodName)) ∈ lw_tbl := lw_at lw_m4 125 rfl
theorem q952 : (Jvm.Cond.instanceMethod ({ cls := "RockingHorse", name := "draws", desc := "(I)I" } : Jvm.MethodName)) ∈ lw_all := lw_g (lw_at lw_m4 126 rfl) rfl
theorem q953 : (Jvm.Cond.code ({ cls := "RockingHorse", name := "draws", desc := "(I)I" } : Jvm.MethodName) prog_1_method_100_code (2 : Nat) (Option.some Jvm.ClassFile.FieldType.int)) ∈ lw_all := lw_g (lw_at lw_m4 127 rfl) rfl
theorem q954 : (Jvm.Cond.constant "RockingHorse" (496 : Nat) (1103515245 : Int32)) ∈ lw_all := lw_g (lw_at lw_m4 128 rfl) rfl
theorem q956 : (Jvm.Cond.instanceMethod ({ cls := "RockingHorse", name := "keep", desc := "(I)Z" } : Jvm.MethodName)) ∈ lw_all := lw_g (lw_at lw_m4 130 rfl) rfl
theorem q957 : (Jvm.Cond.selects "RockingHorse" ({ cls := "RockingHorse", name := "keep", desc := "(I)Z" } : Jvm.MethodName) ({ cls := "RockingHorse", name := "keep", desc := "(I)Z" } : Jvm.MethodName)) ∈ lw_all := lw_g (lw_at lw_m4 131 rfl) rfl
theorem q958 : (Jvm.Cond.code ({ cls := "RockingHorse", name := "keep", desc := "(I)Z" } : Jvm.MethodName) prog_1_method_102_code (2 : Nat) (Option.some Jvm.ClassFile.FieldType.boolean)) ∈ lw_all := lw_g (lw_at lw_m4 132 rfl) rfl
theorem q960 : (Jvm.Cond.instanceMethod ({ cls := "RockingHorse", name := "again", desc := "(I)Z" } : Jvm.MethodName)) ∈ lw_all := lw_g (lw_at lw_m4 134 rfl) rfl
theorem q961 : (Jvm.Cond.selects "RockingHorse" ({ cls := "RockingHorse", name := "again", desc := "(I)Z" } : Jvm.MethodName) ({ cls := "RockingHorse", name := "again", desc := "(I)Z" } : Jvm.MethodName)) ∈ lw_all := lw_g (lw_at lw_m4 135 rfl) rfl
theorem q962 : (Jvm.Cond.code ({ cls := "RockingHorse", name := "again", desc := "(I)Z" } : Jvm.MethodName) prog_1_method_103_code (2 : Nat) (Option.some Jvm.ClassFile.FieldType.boolean)) ∈ lw_all := lw_g (lw_at lw_m4 136 rfl) rfl
theorem q964 : (Jvm.Cond.instanceMethod ({ cls := "RockingHorse", name := "count", desc := "(I)I" } : Jvm.MethodName)) ∈ lw_all := lw_g (lw_at lw_m4 138 rfl) rfl
theorem q965 : (Jvm.Cond.selects "RockingHorse" ({ cls := "RockingHorse", name := "count", desc := "(I)I" } : Jvm.MethodName) ({ cls := "RockingHorse", name := "count", desc := "(I)I" } : Jvm.MethodName)) ∈ lw_all := lw_g (lw_at lw_m4 139 rfl) rfl
theorem q966 : (Jvm.Cond.code ({ cls := "RockingHorse", name := "count", desc := "(I)I" } : Jvm.MethodName) prog_1_method_104_code (2 : Nat) (Option.some Jvm.ClassFile.FieldType.int)) ∈ lw_all := lw_g (lw_at lw_m4 140 rfl) rfl
theorem q967 : (Jvm.Cond.constantLong "RockingHorse" (500 : Nat) (20 : Int64)) ∈ lw_all := lw_g (lw_at lw_m4 141 rfl) rfl
theorem q968 : (Jvm.Cond.constantLong "RockingHorse" (502 : Nat) (27 : Int64)) ∈ lw_all := lw_g (lw_at lw_m4 142 rfl) rfl
theorem q974 : (Jvm.Cond.instanceMethod ({ cls := "RockingHorse", name := "rider", desc := "(II)I" } : Jvm.MethodName)) ∈ lw_all := lw_g (lw_at lw_m4 148 rfl) rfl
theorem q975 : (Jvm.Cond.selects "RockingHorse" ({ cls := "RockingHorse", name := "rider", desc := "(II)I" } : Jvm.MethodName) ({ cls := "RockingHorse", name := "rider", desc := "(II)I" } : Jvm.MethodName)) ∈ lw_all := lw_g (lw_at lw_m4 149 rfl) rfl
theorem q976 : (Jvm.Cond.code ({ cls := "RockingHorse", name := "rider", desc := "(II)I" } : Jvm.MethodName) prog_1_method_29_code (3 : Nat) (Option.some Jvm.ClassFile.FieldType.int)) ∈ lw_all := lw_g (lw_at lw_m4 150 rfl) rfl
theorem q977 : (Jvm.Cond.classLink "RockingHorse" (278 : Nat) "java/util/NoSuchElementException") ∈ lw_all := lw_g (lw_at lw_m4 151 rfl) rfl
theorem q1016 : (Jvm.Cond.methodLink "RockingHorse" (280 : Nat) ({ cls := "java/util/NoSuchElementException", name := "<init>", desc := "()V" } : Jvm.MethodName)) ∈ lw_all := lw_g (lw_at lw_m4 190 rfl) rfl
theorem q1038 : (Jvm.Cond.methodLink "RockingHorse" (285 : Nat) ({ cls := "RockingHorse$Horse", name := "hoursOf", desc := "(I)I" } : Jvm.MethodName)) ∈ lw_all := lw_g (lw_at lw_m4 212 rfl) rfl
theorem q1046 : (Jvm.Cond.instanceMethod ({ cls := "RockingHorse", name := "row", desc := "(I)J" } : Jvm.MethodName)) ∈ lw_all := lw_g (lw_at lw_m4 220 rfl) rfl
theorem q1047 : (Jvm.Cond.selects "RockingHorse" ({ cls := "RockingHorse", name := "row", desc := "(I)J" } : Jvm.MethodName) ({ cls := "RockingHorse", name := "row", desc := "(I)J" } : Jvm.MethodName)) ∈ lw_all := lw_g (lw_at lw_m4 221 rfl) rfl
theorem q1048 : (Jvm.Cond.code ({ cls := "RockingHorse", name := "row", desc := "(I)J" } : Jvm.MethodName) prog_1_method_106_code (2 : Nat) (Option.some Jvm.ClassFile.FieldType.long)) ∈ lw_all := lw_g (lw_at lw_m4 222 rfl) rfl
theorem q1677 : (Jvm.Cond.castable "RockingHorse" "java/lang/Object") ∈ lw_tbl := lw_at lw_m7 131 rfl
theorem in_X1 : ∀ w ∈ wsX10, w ∈ lw_all := lw_in wsX10 [230, 232, 234, 236, 238, 240, 242, 244, 246, 248, 250, 252, 254, 256, 258, 260, 262, 264, 266, 268, 270, 272, 274, 276, 278, 280, 282, 284, 286, 288, 290, 292, 294, 296, 298, 300, 302, 304, 306, 308, 310, 312, 314, 316, 318, 320, 322, 324, 326, 328, 330, 332, 334] (by decide +kernel) (by decide +kernel)
