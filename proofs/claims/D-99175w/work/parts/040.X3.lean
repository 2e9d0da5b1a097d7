/-! RockingHorseModel -/
set_option maxRecDepth 100000
def RX3 : String := "RockingHorseModel"
def TX3 : u_T := fun k => match k with
  | 0 => ("RockingHorseModel", "now", "[I", true)
  | 1 => ("RockingHorseModel", "hours", "I", false)
  | 2 => ("RockingHorseModel", "beats", "I", false)
  | 3 => ("RockingHorseModel", "men", "I", false)
  | 4 => ("RockingHorseModel", "most", "[I", true)
  | 5 => ("RockingHorseModel", "width", "[I", true)
  | 6 => ("RockingHorseModel", "can", "[I", true)
  | 7 => ("RockingHorseModel", "text", "[B", true)
  | 8 => ("RockingHorseModel", "typed", "I", false)
  | 9 => ("RockingHorseModel", "row", "[J", true)
  | 10 => ("RockingHorseModel", "rowMany", "I", false)
  | 11 => ("RockingHorseModel", "thrown", "I", false)
  | 12 => ("RockingHorseModel", "read", "[B", false)
  | 13 => ("RockingHorseModel", "length", "I", false)
  | 14 => ("RockingHorseModel", "top", "I", false)
  | 15 => ("RockingHorseModel", "at", "I", false)
  | 16 => ("RockingHorseModel", "wrong", "I", false)
  | 17 => ("RockingHorseModel", "comes", "[I", true)
  | 18 => ("RockingHorseModel", "rule", "[B", false)
  | 19 => ("RockingHorseModel", "otherRule", "[B", false)
  | 20 => ("RockingHorseModel", "ruleSize", "I", false)
  | 21 => ("RockingHorseModel", "isAsked", "Z", false)
  | 22 => ("RockingHorseModel", "asked", "[I", true)
  | 23 => ("RockingHorseModel", "undos", "[I", true)
  | 24 => ("RockingHorseModel", "undoMany", "I", false)
  | 25 => ("RockingHorseModel", "aside", "[I", true)
  | 26 => ("RockingHorseModel", "then", "[I", true)
  | 27 => ("RockingHorseModel", "gapBits", "I", false)
  | 28 => ("RockingHorseModel", "rideBits", "I", false)
  | 29 => ("RockingHorseModel", "rode", "[I", true)
  | 30 => ("RockingHorseModel", "sore", "[I", true)
  | 31 => ("RockingHorseModel", "acts", "[I", true)
  | 32 => ("RockingHorseModel", "may", "[I", true)
  | 33 => ("RockingHorseModel", "must", "[I", true)
  | 34 => ("RockingHorseModel", "wasMay", "[I", true)
  | 35 => ("RockingHorseModel", "wasMust", "[I", true)
  | 36 => ("RockingHorseModel", "hardness", "[I", true)
  | 37 => ("RockingHorseModel", "least", "[I", true)
  | 38 => ("RockingHorseModel", "ways", "[I", true)
  | 39 => ("RockingHorseModel", "bound", "I", false)
  | 40 => ("RockingHorseModel", "line", "[I", true)
  | 41 => ("RockingHorseModel", "canBe", "[Z", true)
  | 42 => ("RockingHorseModel", "foundAt", "[I", true)
  | 43 => ("RockingHorseModel", "foundWho", "[I", true)
  | 44 => ("RockingHorseModel", "foundBits", "I", false)
  | 45 => ("RockingHorseModel", "findings", "I", false)
  | 46 => ("RockingHorseModel", "drawn", "I", false)
  | 47 => ("RockingHorseModel", "came", "I", false)
  | 48 => ("RockingHorseModel", "kept", "[I", true)
  | 49 => ("RockingHorseModel", "isKept", "[Z", true)
  | _ => ("RockingHorseModel", "keptCame", "[I", true)
def tyX3 : Nat → FieldType := fun k => match k with
  | 0 => .array .int
  | 1 => .int
  | 2 => .int
  | 3 => .int
  | 4 => .array .int
  | 5 => .array .int
  | 6 => .array .int
  | 7 => .array .byte
  | 8 => .int
  | 9 => .array .long
  | 10 => .int
  | 11 => .int
  | 12 => .array .byte
  | 13 => .int
  | 14 => .int
  | 15 => .int
  | 16 => .int
  | 17 => .array .int
  | 18 => .array .byte
  | 19 => .array .byte
  | 20 => .int
  | 21 => .boolean
  | 22 => .array .int
  | 23 => .array .int
  | 24 => .int
  | 25 => .array .int
  | 26 => .array .int
  | 27 => .int
  | 28 => .int
  | 29 => .array .int
  | 30 => .array .int
  | 31 => .array .int
  | 32 => .array .int
  | 33 => .array .int
  | 34 => .array .int
  | 35 => .array .int
  | 36 => .array .int
  | 37 => .array .int
  | 38 => .array .int
  | 39 => .int
  | 40 => .array .int
  | 41 => .array .boolean
  | 42 => .array .int
  | 43 => .array .int
  | 44 => .int
  | 45 => .int
  | 46 => .int
  | 47 => .int
  | 48 => .array .int
  | 49 => .array .boolean
  | _ => .array .int
abbrev wsX30 : List Cond := u_ws RX3 TX3 51
set_option maxRecDepth 100000 in
theorem nmX3 : ∀ a, a < 51 → ∀ b, b < 51 → a ≠ b → (TX3 a).2.1 ≠ (TX3 b).2.1 := by decide +kernel
set_option maxRecDepth 100000 in
theorem tyX3_ok : ∀ k, k < 51 → parseFieldDescriptor (TX3 k).2.2.1 = some (tyX3 k) := by decide +kernel
abbrev cX3_init : ByteArray := prog_9_method_1_code
def yX3_init : MethodName := ⟨RX3, "<init>", "()V"⟩
def dkwX3_init_12 : List UInt8 := [167, 255, 240, 177]
abbrev dktX3_init_12 : List UInt8 := dkwX3_init_12 ++ []
def dkwX3_init_11 : List UInt8 := [188, 10, 181, 0, 111, 3, 60, 27, 16, 8, 162, 0, 16, 42, 180, 0, 9, 27, 2, 79, 132, 1, 1]
abbrev dktX3_init_11 : List UInt8 := dkwX3_init_11 ++ dktX3_init_12
def dkwX3_init_10 : List UInt8 := [16, 12, 188, 10, 181, 0, 102, 42, 16, 54, 188, 10, 181, 0, 105, 42, 5, 188, 4, 181, 0, 108, 42, 5]
abbrev dktX3_init_10 : List UInt8 := dkwX3_init_10 ++ dktX3_init_11
def dkwX3_init_9 : List UInt8 := [188, 10, 181, 0, 92, 42, 17, 1, 0, 188, 4, 181, 0, 95, 42, 16, 12, 188, 10, 181, 0, 99, 42]
abbrev dktX3_init_9 : List UInt8 := dkwX3_init_9 ++ dktX3_init_10
def dkwX3_init_8 : List UInt8 := [188, 10, 181, 0, 82, 42, 17, 9, 0, 188, 10, 181, 0, 85, 42, 18, 88, 181, 0, 89, 42, 16, 8]
abbrev dktX3_init_8 : List UInt8 := dkwX3_init_8 ++ dktX3_init_9
def dkwX3_init_7 : List UInt8 := [181, 0, 73, 42, 16, 8, 188, 10, 181, 0, 76, 42, 16, 64, 188, 10, 181, 0, 79, 42, 17, 9, 0]
abbrev dktX3_init_7 : List UInt8 := dkwX3_init_7 ++ dktX3_init_8
def dkwX3_init_6 : List UInt8 := [181, 0, 64, 42, 16, 8, 188, 10, 181, 0, 67, 42, 16, 8, 188, 10, 181, 0, 70, 42, 16, 8, 188, 10]
abbrev dktX3_init_6 : List UInt8 := dkwX3_init_6 ++ dktX3_init_7
def dkwX3_init_5 : List UInt8 := [42, 16, 8, 188, 10, 181, 0, 58, 42, 16, 8, 188, 10, 181, 0, 61, 42, 17, 0, 240, 188, 10]
abbrev dktX3_init_5 : List UInt8 := dkwX3_init_5 ++ dktX3_init_6
def dkwX3_init_4 : List UInt8 := [17, 1, 68, 188, 10, 181, 0, 49, 42, 16, 27, 188, 10, 181, 0, 52, 42, 16, 27, 188, 10, 181, 0, 55]
abbrev dktX3_init_4 : List UInt8 := dkwX3_init_4 ++ dktX3_init_5
def dkwX3_init_3 : List UInt8 := [16, 40, 188, 8, 181, 0, 40, 42, 16, 40, 188, 8, 181, 0, 43, 42, 16, 7, 188, 10, 181, 0, 46, 42]
abbrev dktX3_init_3 : List UInt8 := dkwX3_init_3 ++ dktX3_init_4
def dkwX3_init_2 : List UInt8 := [16, 80, 188, 8, 181, 0, 29, 42, 16, 16, 188, 11, 181, 0, 33, 42, 16, 24, 188, 10, 181, 0, 37, 42]
abbrev dktX3_init_2 : List UInt8 := dkwX3_init_2 ++ dktX3_init_3
def dkwX3_init_1 : List UInt8 := [16, 8, 188, 10, 181, 0, 20, 42, 16, 8, 188, 10, 181, 0, 23, 42, 16, 8, 188, 10, 181, 0, 26, 42]
abbrev dktX3_init_1 : List UInt8 := dkwX3_init_1 ++ dktX3_init_2
def dkwX3_init_0 : List UInt8 := [42, 183, 0, 3, 42, 16, 27, 188, 10, 181, 0, 9, 42, 16, 8, 181, 0, 13, 42, 7, 181, 0, 17, 42]
abbrev dktX3_init_0 : List UInt8 := dkwX3_init_0 ++ dktX3_init_1
theorem dksX3_init_0 : cX3_init.data.toList.drop 0 = dktX3_init_0 := by decide +kernel
theorem dksX3_init_1 : cX3_init.data.toList.drop 24 = dktX3_init_1 := dk_seg dksX3_init_0 24 rfl rfl
theorem dksX3_init_2 : cX3_init.data.toList.drop 48 = dktX3_init_2 := dk_seg dksX3_init_1 24 rfl rfl
theorem dksX3_init_3 : cX3_init.data.toList.drop 72 = dktX3_init_3 := dk_seg dksX3_init_2 24 rfl rfl
theorem dksX3_init_4 : cX3_init.data.toList.drop 96 = dktX3_init_4 := dk_seg dksX3_init_3 24 rfl rfl
theorem dksX3_init_5 : cX3_init.data.toList.drop 120 = dktX3_init_5 := dk_seg dksX3_init_4 24 rfl rfl
theorem dksX3_init_6 : cX3_init.data.toList.drop 142 = dktX3_init_6 := dk_seg dksX3_init_5 22 rfl rfl
theorem dksX3_init_7 : cX3_init.data.toList.drop 166 = dktX3_init_7 := dk_seg dksX3_init_6 24 rfl rfl
theorem dksX3_init_8 : cX3_init.data.toList.drop 189 = dktX3_init_8 := dk_seg dksX3_init_7 23 rfl rfl
theorem dksX3_init_9 : cX3_init.data.toList.drop 212 = dktX3_init_9 := dk_seg dksX3_init_8 23 rfl rfl
theorem dksX3_init_10 : cX3_init.data.toList.drop 235 = dktX3_init_10 := dk_seg dksX3_init_9 23 rfl rfl
theorem dksX3_init_11 : cX3_init.data.toList.drop 259 = dktX3_init_11 := dk_seg dksX3_init_10 24 rfl rfl
theorem dksX3_init_12 : cX3_init.data.toList.drop 282 = dktX3_init_12 := dk_seg dksX3_init_11 23 rfl rfl
theorem dX3_init_0 : decode cX3_init 0 = .ok (.aload_n 0, 1) := dk_42 (dk_at dksX3_init_0 0 rfl rfl)
theorem dX3_init_1 : decode cX3_init 1 = .ok (.invokespecial 3, 3) := dk_183 0 3 (dk_at dksX3_init_0 1 rfl rfl)
theorem dX3_init_4 : decode cX3_init 4 = .ok (.aload_n 0, 1) := dk_42 (dk_at dksX3_init_0 4 rfl rfl)
theorem dX3_init_5 : decode cX3_init 5 = .ok (.bipush 27, 2) := dk_16 27 (dk_at dksX3_init_0 5 rfl rfl)
theorem dX3_init_7 : decode cX3_init 7 = .ok (.newarray .int, 2) := dk_188_10 (dk_at dksX3_init_0 7 rfl rfl)
theorem dX3_init_9 : decode cX3_init 9 = .ok (.putfield 9, 3) := dk_181 0 9 (dk_at dksX3_init_0 9 rfl rfl)
theorem dX3_init_12 : decode cX3_init 12 = .ok (.aload_n 0, 1) := dk_42 (dk_at dksX3_init_0 12 rfl rfl)
theorem dX3_init_13 : decode cX3_init 13 = .ok (.bipush 8, 2) := dk_16 8 (dk_at dksX3_init_0 13 rfl rfl)
theorem dX3_init_15 : decode cX3_init 15 = .ok (.putfield 13, 3) := dk_181 0 13 (dk_at dksX3_init_0 15 rfl rfl)
theorem dX3_init_18 : decode cX3_init 18 = .ok (.aload_n 0, 1) := dk_42 (dk_at dksX3_init_0 18 rfl rfl)
theorem dX3_init_19 : decode cX3_init 19 = .ok (.iconst 4, 1) := dk_7 (dk_at dksX3_init_0 19 rfl rfl)
theorem dX3_init_20 : decode cX3_init 20 = .ok (.putfield 17, 3) := dk_181 0 17 (dk_at dksX3_init_0 20 rfl rfl)
theorem dX3_init_23 : decode cX3_init 23 = .ok (.aload_n 0, 1) := dk_42 (dk_at dksX3_init_0 23 rfl rfl)
theorem dX3_init_24 : decode cX3_init 24 = .ok (.bipush 8, 2) := dk_16 8 (dk_at dksX3_init_1 0 rfl rfl)
theorem dX3_init_26 : decode cX3_init 26 = .ok (.newarray .int, 2) := dk_188_10 (dk_at dksX3_init_1 2 rfl rfl)
theorem dX3_init_28 : decode cX3_init 28 = .ok (.putfield 20, 3) := dk_181 0 20 (dk_at dksX3_init_1 4 rfl rfl)
theorem dX3_init_31 : decode cX3_init 31 = .ok (.aload_n 0, 1) := dk_42 (dk_at dksX3_init_1 7 rfl rfl)
theorem dX3_init_32 : decode cX3_init 32 = .ok (.bipush 8, 2) := dk_16 8 (dk_at dksX3_init_1 8 rfl rfl)
theorem dX3_init_34 : decode cX3_init 34 = .ok (.newarray .int, 2) := dk_188_10 (dk_at dksX3_init_1 10 rfl rfl)
theorem dX3_init_36 : decode cX3_init 36 = .ok (.putfield 23, 3) := dk_181 0 23 (dk_at dksX3_init_1 12 rfl rfl)
theorem dX3_init_39 : decode cX3_init 39 = .ok (.aload_n 0, 1) := dk_42 (dk_at dksX3_init_1 15 rfl rfl)
theorem dX3_init_40 : decode cX3_init 40 = .ok (.bipush 8, 2) := dk_16 8 (dk_at dksX3_init_1 16 rfl rfl)
theorem dX3_init_42 : decode cX3_init 42 = .ok (.newarray .int, 2) := dk_188_10 (dk_at dksX3_init_1 18 rfl rfl)
theorem dX3_init_44 : decode cX3_init 44 = .ok (.putfield 26, 3) := dk_181 0 26 (dk_at dksX3_init_1 20 rfl rfl)
theorem dX3_init_47 : decode cX3_init 47 = .ok (.aload_n 0, 1) := dk_42 (dk_at dksX3_init_1 23 rfl rfl)
theorem dX3_init_48 : decode cX3_init 48 = .ok (.bipush 80, 2) := dk_16 80 (dk_at dksX3_init_2 0 rfl rfl)
theorem dX3_init_50 : decode cX3_init 50 = .ok (.newarray .byte, 2) := dk_188_8 (dk_at dksX3_init_2 2 rfl rfl)
theorem dX3_init_52 : decode cX3_init 52 = .ok (.putfield 29, 3) := dk_181 0 29 (dk_at dksX3_init_2 4 rfl rfl)
theorem dX3_init_55 : decode cX3_init 55 = .ok (.aload_n 0, 1) := dk_42 (dk_at dksX3_init_2 7 rfl rfl)
theorem dX3_init_56 : decode cX3_init 56 = .ok (.bipush 16, 2) := dk_16 16 (dk_at dksX3_init_2 8 rfl rfl)
theorem dX3_init_58 : decode cX3_init 58 = .ok (.newarray .long, 2) := dk_188_11 (dk_at dksX3_init_2 10 rfl rfl)
theorem dX3_init_60 : decode cX3_init 60 = .ok (.putfield 33, 3) := dk_181 0 33 (dk_at dksX3_init_2 12 rfl rfl)
theorem dX3_init_63 : decode cX3_init 63 = .ok (.aload_n 0, 1) := dk_42 (dk_at dksX3_init_2 15 rfl rfl)
theorem dX3_init_64 : decode cX3_init 64 = .ok (.bipush 24, 2) := dk_16 24 (dk_at dksX3_init_2 16 rfl rfl)
theorem dX3_init_66 : decode cX3_init 66 = .ok (.newarray .int, 2) := dk_188_10 (dk_at dksX3_init_2 18 rfl rfl)
theorem dX3_init_68 : decode cX3_init 68 = .ok (.putfield 37, 3) := dk_181 0 37 (dk_at dksX3_init_2 20 rfl rfl)
theorem dX3_init_71 : decode cX3_init 71 = .ok (.aload_n 0, 1) := dk_42 (dk_at dksX3_init_2 23 rfl rfl)
theorem dX3_init_72 : decode cX3_init 72 = .ok (.bipush 40, 2) := dk_16 40 (dk_at dksX3_init_3 0 rfl rfl)
theorem dX3_init_74 : decode cX3_init 74 = .ok (.newarray .byte, 2) := dk_188_8 (dk_at dksX3_init_3 2 rfl rfl)
theorem dX3_init_76 : decode cX3_init 76 = .ok (.putfield 40, 3) := dk_181 0 40 (dk_at dksX3_init_3 4 rfl rfl)
theorem dX3_init_79 : decode cX3_init 79 = .ok (.aload_n 0, 1) := dk_42 (dk_at dksX3_init_3 7 rfl rfl)
theorem dX3_init_80 : decode cX3_init 80 = .ok (.bipush 40, 2) := dk_16 40 (dk_at dksX3_init_3 8 rfl rfl)
theorem dX3_init_82 : decode cX3_init 82 = .ok (.newarray .byte, 2) := dk_188_8 (dk_at dksX3_init_3 10 rfl rfl)
theorem dX3_init_84 : decode cX3_init 84 = .ok (.putfield 43, 3) := dk_181 0 43 (dk_at dksX3_init_3 12 rfl rfl)
theorem dX3_init_87 : decode cX3_init 87 = .ok (.aload_n 0, 1) := dk_42 (dk_at dksX3_init_3 15 rfl rfl)
theorem dX3_init_88 : decode cX3_init 88 = .ok (.bipush 7, 2) := dk_16 7 (dk_at dksX3_init_3 16 rfl rfl)
theorem dX3_init_90 : decode cX3_init 90 = .ok (.newarray .int, 2) := dk_188_10 (dk_at dksX3_init_3 18 rfl rfl)
theorem dX3_init_92 : decode cX3_init 92 = .ok (.putfield 46, 3) := dk_181 0 46 (dk_at dksX3_init_3 20 rfl rfl)
theorem dX3_init_95 : decode cX3_init 95 = .ok (.aload_n 0, 1) := dk_42 (dk_at dksX3_init_3 23 rfl rfl)
theorem dX3_init_96 : decode cX3_init 96 = .ok (.sipush 324, 3) := dk_17 1 68 (dk_at dksX3_init_4 0 rfl rfl)
theorem dX3_init_99 : decode cX3_init 99 = .ok (.newarray .int, 2) := dk_188_10 (dk_at dksX3_init_4 3 rfl rfl)
theorem dX3_init_101 : decode cX3_init 101 = .ok (.putfield 49, 3) := dk_181 0 49 (dk_at dksX3_init_4 5 rfl rfl)
theorem dX3_init_104 : decode cX3_init 104 = .ok (.aload_n 0, 1) := dk_42 (dk_at dksX3_init_4 8 rfl rfl)
theorem dX3_init_105 : decode cX3_init 105 = .ok (.bipush 27, 2) := dk_16 27 (dk_at dksX3_init_4 9 rfl rfl)
theorem dX3_init_107 : decode cX3_init 107 = .ok (.newarray .int, 2) := dk_188_10 (dk_at dksX3_init_4 11 rfl rfl)
theorem dX3_init_109 : decode cX3_init 109 = .ok (.putfield 52, 3) := dk_181 0 52 (dk_at dksX3_init_4 13 rfl rfl)
theorem dX3_init_112 : decode cX3_init 112 = .ok (.aload_n 0, 1) := dk_42 (dk_at dksX3_init_4 16 rfl rfl)
theorem dX3_init_113 : decode cX3_init 113 = .ok (.bipush 27, 2) := dk_16 27 (dk_at dksX3_init_4 17 rfl rfl)
theorem dX3_init_115 : decode cX3_init 115 = .ok (.newarray .int, 2) := dk_188_10 (dk_at dksX3_init_4 19 rfl rfl)
theorem dX3_init_117 : decode cX3_init 117 = .ok (.putfield 55, 3) := dk_181 0 55 (dk_at dksX3_init_4 21 rfl rfl)
theorem dX3_init_120 : decode cX3_init 120 = .ok (.aload_n 0, 1) := dk_42 (dk_at dksX3_init_5 0 rfl rfl)
theorem dX3_init_121 : decode cX3_init 121 = .ok (.bipush 8, 2) := dk_16 8 (dk_at dksX3_init_5 1 rfl rfl)
theorem dX3_init_123 : decode cX3_init 123 = .ok (.newarray .int, 2) := dk_188_10 (dk_at dksX3_init_5 3 rfl rfl)
theorem dX3_init_125 : decode cX3_init 125 = .ok (.putfield 58, 3) := dk_181 0 58 (dk_at dksX3_init_5 5 rfl rfl)
theorem dX3_init_128 : decode cX3_init 128 = .ok (.aload_n 0, 1) := dk_42 (dk_at dksX3_init_5 8 rfl rfl)
theorem dX3_init_129 : decode cX3_init 129 = .ok (.bipush 8, 2) := dk_16 8 (dk_at dksX3_init_5 9 rfl rfl)
theorem dX3_init_131 : decode cX3_init 131 = .ok (.newarray .int, 2) := dk_188_10 (dk_at dksX3_init_5 11 rfl rfl)
theorem dX3_init_133 : decode cX3_init 133 = .ok (.putfield 61, 3) := dk_181 0 61 (dk_at dksX3_init_5 13 rfl rfl)
theorem dX3_init_136 : decode cX3_init 136 = .ok (.aload_n 0, 1) := dk_42 (dk_at dksX3_init_5 16 rfl rfl)
theorem dX3_init_137 : decode cX3_init 137 = .ok (.sipush 240, 3) := dk_17 0 240 (dk_at dksX3_init_5 17 rfl rfl)
theorem dX3_init_140 : decode cX3_init 140 = .ok (.newarray .int, 2) := dk_188_10 (dk_at dksX3_init_5 20 rfl rfl)
theorem dX3_init_142 : decode cX3_init 142 = .ok (.putfield 64, 3) := dk_181 0 64 (dk_at dksX3_init_6 0 rfl rfl)
theorem dX3_init_145 : decode cX3_init 145 = .ok (.aload_n 0, 1) := dk_42 (dk_at dksX3_init_6 3 rfl rfl)
theorem dX3_init_146 : decode cX3_init 146 = .ok (.bipush 8, 2) := dk_16 8 (dk_at dksX3_init_6 4 rfl rfl)
theorem dX3_init_148 : decode cX3_init 148 = .ok (.newarray .int, 2) := dk_188_10 (dk_at dksX3_init_6 6 rfl rfl)
theorem dX3_init_150 : decode cX3_init 150 = .ok (.putfield 67, 3) := dk_181 0 67 (dk_at dksX3_init_6 8 rfl rfl)
theorem dX3_init_153 : decode cX3_init 153 = .ok (.aload_n 0, 1) := dk_42 (dk_at dksX3_init_6 11 rfl rfl)
theorem dX3_init_154 : decode cX3_init 154 = .ok (.bipush 8, 2) := dk_16 8 (dk_at dksX3_init_6 12 rfl rfl)
theorem dX3_init_156 : decode cX3_init 156 = .ok (.newarray .int, 2) := dk_188_10 (dk_at dksX3_init_6 14 rfl rfl)
theorem dX3_init_158 : decode cX3_init 158 = .ok (.putfield 70, 3) := dk_181 0 70 (dk_at dksX3_init_6 16 rfl rfl)
theorem dX3_init_161 : decode cX3_init 161 = .ok (.aload_n 0, 1) := dk_42 (dk_at dksX3_init_6 19 rfl rfl)
theorem dX3_init_162 : decode cX3_init 162 = .ok (.bipush 8, 2) := dk_16 8 (dk_at dksX3_init_6 20 rfl rfl)
theorem dX3_init_164 : decode cX3_init 164 = .ok (.newarray .int, 2) := dk_188_10 (dk_at dksX3_init_6 22 rfl rfl)
theorem dX3_init_166 : decode cX3_init 166 = .ok (.putfield 73, 3) := dk_181 0 73 (dk_at dksX3_init_7 0 rfl rfl)
theorem dX3_init_169 : decode cX3_init 169 = .ok (.aload_n 0, 1) := dk_42 (dk_at dksX3_init_7 3 rfl rfl)
theorem dX3_init_170 : decode cX3_init 170 = .ok (.bipush 8, 2) := dk_16 8 (dk_at dksX3_init_7 4 rfl rfl)
theorem dX3_init_172 : decode cX3_init 172 = .ok (.newarray .int, 2) := dk_188_10 (dk_at dksX3_init_7 6 rfl rfl)
theorem dX3_init_174 : decode cX3_init 174 = .ok (.putfield 76, 3) := dk_181 0 76 (dk_at dksX3_init_7 8 rfl rfl)
theorem dX3_init_177 : decode cX3_init 177 = .ok (.aload_n 0, 1) := dk_42 (dk_at dksX3_init_7 11 rfl rfl)
theorem dX3_init_178 : decode cX3_init 178 = .ok (.bipush 64, 2) := dk_16 64 (dk_at dksX3_init_7 12 rfl rfl)
theorem dX3_init_180 : decode cX3_init 180 = .ok (.newarray .int, 2) := dk_188_10 (dk_at dksX3_init_7 14 rfl rfl)
theorem dX3_init_182 : decode cX3_init 182 = .ok (.putfield 79, 3) := dk_181 0 79 (dk_at dksX3_init_7 16 rfl rfl)
theorem dX3_init_185 : decode cX3_init 185 = .ok (.aload_n 0, 1) := dk_42 (dk_at dksX3_init_7 19 rfl rfl)
theorem dX3_init_186 : decode cX3_init 186 = .ok (.sipush 2304, 3) := dk_17 9 0 (dk_at dksX3_init_7 20 rfl rfl)
theorem dX3_init_189 : decode cX3_init 189 = .ok (.newarray .int, 2) := dk_188_10 (dk_at dksX3_init_8 0 rfl rfl)
theorem dX3_init_191 : decode cX3_init 191 = .ok (.putfield 82, 3) := dk_181 0 82 (dk_at dksX3_init_8 2 rfl rfl)
theorem dX3_init_194 : decode cX3_init 194 = .ok (.aload_n 0, 1) := dk_42 (dk_at dksX3_init_8 5 rfl rfl)
theorem dX3_init_195 : decode cX3_init 195 = .ok (.sipush 2304, 3) := dk_17 9 0 (dk_at dksX3_init_8 6 rfl rfl)
theorem dX3_init_198 : decode cX3_init 198 = .ok (.newarray .int, 2) := dk_188_10 (dk_at dksX3_init_8 9 rfl rfl)
theorem dX3_init_200 : decode cX3_init 200 = .ok (.putfield 85, 3) := dk_181 0 85 (dk_at dksX3_init_8 11 rfl rfl)
theorem dX3_init_203 : decode cX3_init 203 = .ok (.aload_n 0, 1) := dk_42 (dk_at dksX3_init_8 14 rfl rfl)
theorem dX3_init_204 : decode cX3_init 204 = .ok (.ldc 88, 2) := dk_18 88 (dk_at dksX3_init_8 15 rfl rfl)
theorem dX3_init_206 : decode cX3_init 206 = .ok (.putfield 89, 3) := dk_181 0 89 (dk_at dksX3_init_8 17 rfl rfl)
theorem dX3_init_209 : decode cX3_init 209 = .ok (.aload_n 0, 1) := dk_42 (dk_at dksX3_init_8 20 rfl rfl)
theorem dX3_init_210 : decode cX3_init 210 = .ok (.bipush 8, 2) := dk_16 8 (dk_at dksX3_init_8 21 rfl rfl)
theorem dX3_init_212 : decode cX3_init 212 = .ok (.newarray .int, 2) := dk_188_10 (dk_at dksX3_init_9 0 rfl rfl)
theorem dX3_init_214 : decode cX3_init 214 = .ok (.putfield 92, 3) := dk_181 0 92 (dk_at dksX3_init_9 2 rfl rfl)
theorem dX3_init_217 : decode cX3_init 217 = .ok (.aload_n 0, 1) := dk_42 (dk_at dksX3_init_9 5 rfl rfl)
theorem dX3_init_218 : decode cX3_init 218 = .ok (.sipush 256, 3) := dk_17 1 0 (dk_at dksX3_init_9 6 rfl rfl)
theorem dX3_init_221 : decode cX3_init 221 = .ok (.newarray .boolean, 2) := dk_188_4 (dk_at dksX3_init_9 9 rfl rfl)
theorem dX3_init_223 : decode cX3_init 223 = .ok (.putfield 95, 3) := dk_181 0 95 (dk_at dksX3_init_9 11 rfl rfl)
theorem dX3_init_226 : decode cX3_init 226 = .ok (.aload_n 0, 1) := dk_42 (dk_at dksX3_init_9 14 rfl rfl)
theorem dX3_init_227 : decode cX3_init 227 = .ok (.bipush 12, 2) := dk_16 12 (dk_at dksX3_init_9 15 rfl rfl)
theorem dX3_init_229 : decode cX3_init 229 = .ok (.newarray .int, 2) := dk_188_10 (dk_at dksX3_init_9 17 rfl rfl)
theorem dX3_init_231 : decode cX3_init 231 = .ok (.putfield 99, 3) := dk_181 0 99 (dk_at dksX3_init_9 19 rfl rfl)
theorem dX3_init_234 : decode cX3_init 234 = .ok (.aload_n 0, 1) := dk_42 (dk_at dksX3_init_9 22 rfl rfl)
theorem dX3_init_235 : decode cX3_init 235 = .ok (.bipush 12, 2) := dk_16 12 (dk_at dksX3_init_10 0 rfl rfl)
theorem dX3_init_237 : decode cX3_init 237 = .ok (.newarray .int, 2) := dk_188_10 (dk_at dksX3_init_10 2 rfl rfl)
theorem dX3_init_239 : decode cX3_init 239 = .ok (.putfield 102, 3) := dk_181 0 102 (dk_at dksX3_init_10 4 rfl rfl)
theorem dX3_init_242 : decode cX3_init 242 = .ok (.aload_n 0, 1) := dk_42 (dk_at dksX3_init_10 7 rfl rfl)
theorem dX3_init_243 : decode cX3_init 243 = .ok (.bipush 54, 2) := dk_16 54 (dk_at dksX3_init_10 8 rfl rfl)
theorem dX3_init_245 : decode cX3_init 245 = .ok (.newarray .int, 2) := dk_188_10 (dk_at dksX3_init_10 10 rfl rfl)
theorem dX3_init_247 : decode cX3_init 247 = .ok (.putfield 105, 3) := dk_181 0 105 (dk_at dksX3_init_10 12 rfl rfl)
theorem dX3_init_250 : decode cX3_init 250 = .ok (.aload_n 0, 1) := dk_42 (dk_at dksX3_init_10 15 rfl rfl)
theorem dX3_init_251 : decode cX3_init 251 = .ok (.iconst 2, 1) := dk_5 (dk_at dksX3_init_10 16 rfl rfl)
theorem dX3_init_252 : decode cX3_init 252 = .ok (.newarray .boolean, 2) := dk_188_4 (dk_at dksX3_init_10 17 rfl rfl)
theorem dX3_init_254 : decode cX3_init 254 = .ok (.putfield 108, 3) := dk_181 0 108 (dk_at dksX3_init_10 19 rfl rfl)
theorem dX3_init_257 : decode cX3_init 257 = .ok (.aload_n 0, 1) := dk_42 (dk_at dksX3_init_10 22 rfl rfl)
theorem dX3_init_258 : decode cX3_init 258 = .ok (.iconst 2, 1) := dk_5 (dk_at dksX3_init_10 23 rfl rfl)
theorem dX3_init_259 : decode cX3_init 259 = .ok (.newarray .int, 2) := dk_188_10 (dk_at dksX3_init_11 0 rfl rfl)
theorem dX3_init_261 : decode cX3_init 261 = .ok (.putfield 111, 3) := dk_181 0 111 (dk_at dksX3_init_11 2 rfl rfl)
theorem dX3_init_264 : decode cX3_init 264 = .ok (.iconst 0, 1) := dk_3 (dk_at dksX3_init_11 5 rfl rfl)
theorem dX3_init_265 : decode cX3_init 265 = .ok (.istore_n 1, 1) := dk_60 (dk_at dksX3_init_11 6 rfl rfl)
theorem dX3_init_266 : decode cX3_init 266 = .ok (.iload_n 1, 1) := dk_27 (dk_at dksX3_init_11 7 rfl rfl)
theorem dX3_init_267 : decode cX3_init 267 = .ok (.bipush 8, 2) := dk_16 8 (dk_at dksX3_init_11 8 rfl rfl)
theorem dX3_init_269 : decode cX3_init 269 = .ok (.if_icmp .ge 16, 3) := dk_162 0 16 (dk_at dksX3_init_11 10 rfl rfl)
theorem dX3_init_272 : decode cX3_init 272 = .ok (.aload_n 0, 1) := dk_42 (dk_at dksX3_init_11 13 rfl rfl)
theorem dX3_init_273 : decode cX3_init 273 = .ok (.getfield 9, 3) := dk_180 0 9 (dk_at dksX3_init_11 14 rfl rfl)
theorem dX3_init_276 : decode cX3_init 276 = .ok (.iload_n 1, 1) := dk_27 (dk_at dksX3_init_11 17 rfl rfl)
theorem dX3_init_277 : decode cX3_init 277 = .ok (.iconst (-1), 1) := dk_2 (dk_at dksX3_init_11 18 rfl rfl)
theorem dX3_init_278 : decode cX3_init 278 = .ok (.iastore, 1) := dk_79 (dk_at dksX3_init_11 19 rfl rfl)
theorem dX3_init_279 : decode cX3_init 279 = .ok (.iinc 1 1, 3) := dk_132 1 1 (dk_at dksX3_init_11 20 rfl rfl)
theorem dX3_init_282 : decode cX3_init 282 = .ok (.goto (-16), 3) := dk_167 255 240 (dk_at dksX3_init_12 0 rfl rfl)
theorem dX3_init_285 : decode cX3_init 285 = .ok (.return_, 1) := dk_177 (dk_at dksX3_init_12 3 rfl rfl)
abbrev cX3_thrown : ByteArray := prog_9_method_2_code
def yX3_thrown : MethodName := ⟨RX3, "thrown", "()I"⟩
theorem dX3_thrown_0 : decode cX3_thrown 0 = .ok (.aload_n 0, 1) := by decide +kernel
theorem dX3_thrown_1 : decode cX3_thrown 1 = .ok (.getfield 114, 3) := by decide +kernel
theorem dX3_thrown_4 : decode cX3_thrown 4 = .ok (.ireturn, 1) := by decide +kernel
abbrev cX3_sign : ByteArray := prog_9_method_11_code
def yX3_sign : MethodName := ⟨RX3, "sign", "(I)I"⟩
def dkwX3_sign_2 : List UInt8 := [132, 2, 255, 167, 255, 226, 42, 180, 0, 131, 172]
abbrev dktX3_sign_2 : List UInt8 := dkwX3_sign_2 ++ []
def dkwX3_sign_1 : List UInt8 := [42, 180, 0, 29, 42, 89, 180, 0, 131, 90, 4, 96, 181, 0, 131, 27, 16, 8, 28, 104, 122, 145, 84]
abbrev dktX3_sign_1 : List UInt8 := dkwX3_sign_1 ++ dktX3_sign_2
def dkwX3_sign_0 : List UInt8 := [42, 3, 181, 0, 114, 42, 180, 0, 131, 7, 96, 16, 80, 164, 0, 5, 2, 172, 6, 61, 28, 155, 0, 32]
abbrev dktX3_sign_0 : List UInt8 := dkwX3_sign_0 ++ dktX3_sign_1
theorem dksX3_sign_0 : cX3_sign.data.toList.drop 0 = dktX3_sign_0 := by decide +kernel
theorem dksX3_sign_1 : cX3_sign.data.toList.drop 24 = dktX3_sign_1 := dk_seg dksX3_sign_0 24 rfl rfl
theorem dksX3_sign_2 : cX3_sign.data.toList.drop 47 = dktX3_sign_2 := dk_seg dksX3_sign_1 23 rfl rfl
theorem dX3_sign_0 : decode cX3_sign 0 = .ok (.aload_n 0, 1) := dk_42 (dk_at dksX3_sign_0 0 rfl rfl)
theorem dX3_sign_1 : decode cX3_sign 1 = .ok (.iconst 0, 1) := dk_3 (dk_at dksX3_sign_0 1 rfl rfl)
theorem dX3_sign_2 : decode cX3_sign 2 = .ok (.putfield 114, 3) := dk_181 0 114 (dk_at dksX3_sign_0 2 rfl rfl)
theorem dX3_sign_5 : decode cX3_sign 5 = .ok (.aload_n 0, 1) := dk_42 (dk_at dksX3_sign_0 5 rfl rfl)
theorem dX3_sign_6 : decode cX3_sign 6 = .ok (.getfield 131, 3) := dk_180 0 131 (dk_at dksX3_sign_0 6 rfl rfl)
theorem dX3_sign_9 : decode cX3_sign 9 = .ok (.iconst 4, 1) := dk_7 (dk_at dksX3_sign_0 9 rfl rfl)
theorem dX3_sign_10 : decode cX3_sign 10 = .ok (.iadd, 1) := dk_96 (dk_at dksX3_sign_0 10 rfl rfl)
theorem dX3_sign_11 : decode cX3_sign 11 = .ok (.bipush 80, 2) := dk_16 80 (dk_at dksX3_sign_0 11 rfl rfl)
theorem dX3_sign_13 : decode cX3_sign 13 = .ok (.if_icmp .le 5, 3) := dk_164 0 5 (dk_at dksX3_sign_0 13 rfl rfl)
theorem dX3_sign_16 : decode cX3_sign 16 = .ok (.iconst (-1), 1) := dk_2 (dk_at dksX3_sign_0 16 rfl rfl)
theorem dX3_sign_17 : decode cX3_sign 17 = .ok (.ireturn, 1) := dk_172 (dk_at dksX3_sign_0 17 rfl rfl)
theorem dX3_sign_18 : decode cX3_sign 18 = .ok (.iconst 3, 1) := dk_6 (dk_at dksX3_sign_0 18 rfl rfl)
theorem dX3_sign_19 : decode cX3_sign 19 = .ok (.istore_n 2, 1) := dk_61 (dk_at dksX3_sign_0 19 rfl rfl)
theorem dX3_sign_20 : decode cX3_sign 20 = .ok (.iload_n 2, 1) := dk_28 (dk_at dksX3_sign_0 20 rfl rfl)
theorem dX3_sign_21 : decode cX3_sign 21 = .ok (.ifCond .lt 32, 3) := dk_155 0 32 (dk_at dksX3_sign_0 21 rfl rfl)
theorem dX3_sign_24 : decode cX3_sign 24 = .ok (.aload_n 0, 1) := dk_42 (dk_at dksX3_sign_1 0 rfl rfl)
theorem dX3_sign_25 : decode cX3_sign 25 = .ok (.getfield 29, 3) := dk_180 0 29 (dk_at dksX3_sign_1 1 rfl rfl)
theorem dX3_sign_28 : decode cX3_sign 28 = .ok (.aload_n 0, 1) := dk_42 (dk_at dksX3_sign_1 4 rfl rfl)
theorem dX3_sign_29 : decode cX3_sign 29 = .ok (.dup, 1) := dk_89 (dk_at dksX3_sign_1 5 rfl rfl)
theorem dX3_sign_30 : decode cX3_sign 30 = .ok (.getfield 131, 3) := dk_180 0 131 (dk_at dksX3_sign_1 6 rfl rfl)
theorem dX3_sign_33 : decode cX3_sign 33 = .ok (.dup_x1, 1) := dk_90 (dk_at dksX3_sign_1 9 rfl rfl)
theorem dX3_sign_34 : decode cX3_sign 34 = .ok (.iconst 1, 1) := dk_4 (dk_at dksX3_sign_1 10 rfl rfl)
theorem dX3_sign_35 : decode cX3_sign 35 = .ok (.iadd, 1) := dk_96 (dk_at dksX3_sign_1 11 rfl rfl)
theorem dX3_sign_36 : decode cX3_sign 36 = .ok (.putfield 131, 3) := dk_181 0 131 (dk_at dksX3_sign_1 12 rfl rfl)
theorem dX3_sign_39 : decode cX3_sign 39 = .ok (.iload_n 1, 1) := dk_27 (dk_at dksX3_sign_1 15 rfl rfl)
theorem dX3_sign_40 : decode cX3_sign 40 = .ok (.bipush 8, 2) := dk_16 8 (dk_at dksX3_sign_1 16 rfl rfl)
theorem dX3_sign_42 : decode cX3_sign 42 = .ok (.iload_n 2, 1) := dk_28 (dk_at dksX3_sign_1 18 rfl rfl)
theorem dX3_sign_43 : decode cX3_sign 43 = .ok (.imul, 1) := dk_104 (dk_at dksX3_sign_1 19 rfl rfl)
theorem dX3_sign_44 : decode cX3_sign 44 = .ok (.ishr, 1) := dk_122 (dk_at dksX3_sign_1 20 rfl rfl)
theorem dX3_sign_45 : decode cX3_sign 45 = .ok (.i2b, 1) := dk_145 (dk_at dksX3_sign_1 21 rfl rfl)
theorem dX3_sign_46 : decode cX3_sign 46 = .ok (.bastore, 1) := dk_84 (dk_at dksX3_sign_1 22 rfl rfl)
theorem dX3_sign_47 : decode cX3_sign 47 = .ok (.iinc 2 (-1), 3) := dk_132 2 255 (dk_at dksX3_sign_2 0 rfl rfl)
theorem dX3_sign_50 : decode cX3_sign 50 = .ok (.goto (-30), 3) := dk_167 255 226 (dk_at dksX3_sign_2 3 rfl rfl)
theorem dX3_sign_53 : decode cX3_sign 53 = .ok (.aload_n 0, 1) := dk_42 (dk_at dksX3_sign_2 6 rfl rfl)
theorem dX3_sign_54 : decode cX3_sign 54 = .ok (.getfield 131, 3) := dk_180 0 131 (dk_at dksX3_sign_2 7 rfl rfl)
theorem dX3_sign_57 : decode cX3_sign 57 = .ok (.ireturn, 1) := dk_172 (dk_at dksX3_sign_2 10 rfl rfl)
abbrev cX3_end : ByteArray := prog_9_method_12_code
def yX3_end : MethodName := ⟨RX3, "end", "(I)Z"⟩
def dkwX3_end_1 : List UInt8 := [4, 172]
abbrev dktX3_end_1 : List UInt8 := dkwX3_end_1 ++ []
def dkwX3_end_0 : List UInt8 := [42, 3, 181, 0, 114, 27, 3, 42, 180, 0, 131, 184, 0, 123, 154, 0, 5, 3, 172, 42, 27, 181, 0, 131]
abbrev dktX3_end_0 : List UInt8 := dkwX3_end_0 ++ dktX3_end_1
theorem dksX3_end_0 : cX3_end.data.toList.drop 0 = dktX3_end_0 := by decide +kernel
theorem dksX3_end_1 : cX3_end.data.toList.drop 24 = dktX3_end_1 := dk_seg dksX3_end_0 24 rfl rfl
theorem dX3_end_0 : decode cX3_end 0 = .ok (.aload_n 0, 1) := dk_42 (dk_at dksX3_end_0 0 rfl rfl)
theorem dX3_end_1 : decode cX3_end 1 = .ok (.iconst 0, 1) := dk_3 (dk_at dksX3_end_0 1 rfl rfl)
theorem dX3_end_2 : decode cX3_end 2 = .ok (.putfield 114, 3) := dk_181 0 114 (dk_at dksX3_end_0 2 rfl rfl)
theorem dX3_end_5 : decode cX3_end 5 = .ok (.iload_n 1, 1) := dk_27 (dk_at dksX3_end_0 5 rfl rfl)
theorem dX3_end_6 : decode cX3_end 6 = .ok (.iconst 0, 1) := dk_3 (dk_at dksX3_end_0 6 rfl rfl)
theorem dX3_end_7 : decode cX3_end 7 = .ok (.aload_n 0, 1) := dk_42 (dk_at dksX3_end_0 7 rfl rfl)
theorem dX3_end_8 : decode cX3_end 8 = .ok (.getfield 131, 3) := dk_180 0 131 (dk_at dksX3_end_0 8 rfl rfl)
theorem dX3_end_11 : decode cX3_end 11 = .ok (.invokestatic 123, 3) := dk_184 0 123 (dk_at dksX3_end_0 11 rfl rfl)
theorem dX3_end_14 : decode cX3_end 14 = .ok (.ifCond .ne 5, 3) := dk_154 0 5 (dk_at dksX3_end_0 14 rfl rfl)
theorem dX3_end_17 : decode cX3_end 17 = .ok (.iconst 0, 1) := dk_3 (dk_at dksX3_end_0 17 rfl rfl)
theorem dX3_end_18 : decode cX3_end 18 = .ok (.ireturn, 1) := dk_172 (dk_at dksX3_end_0 18 rfl rfl)
theorem dX3_end_19 : decode cX3_end 19 = .ok (.aload_n 0, 1) := dk_42 (dk_at dksX3_end_0 19 rfl rfl)
theorem dX3_end_20 : decode cX3_end 20 = .ok (.iload_n 1, 1) := dk_27 (dk_at dksX3_end_0 20 rfl rfl)
theorem dX3_end_21 : decode cX3_end 21 = .ok (.putfield 131, 3) := dk_181 0 131 (dk_at dksX3_end_0 21 rfl rfl)
theorem dX3_end_24 : decode cX3_end 24 = .ok (.iconst 1, 1) := dk_4 (dk_at dksX3_end_1 0 rfl rfl)
theorem dX3_end_25 : decode cX3_end 25 = .ok (.ireturn, 1) := dk_172 (dk_at dksX3_end_1 1 rfl rfl)
abbrev cX3_in : ByteArray := prog_9_method_3_code
def yX3_in : MethodName := ⟨RX3, "in", "(III)Z"⟩
def dkwX3_in_0 : List UInt8 := [26, 27, 161, 0, 12, 26, 28, 163, 0, 7, 4, 167, 0, 4, 3, 172]
abbrev dktX3_in_0 : List UInt8 := dkwX3_in_0 ++ []
theorem dksX3_in_0 : cX3_in.data.toList.drop 0 = dktX3_in_0 := by decide +kernel
theorem dX3_in_0 : decode cX3_in 0 = .ok (.iload_n 0, 1) := dk_26 (dk_at dksX3_in_0 0 rfl rfl)
theorem dX3_in_1 : decode cX3_in 1 = .ok (.iload_n 1, 1) := dk_27 (dk_at dksX3_in_0 1 rfl rfl)
theorem dX3_in_2 : decode cX3_in 2 = .ok (.if_icmp .lt 12, 3) := dk_161 0 12 (dk_at dksX3_in_0 2 rfl rfl)
theorem dX3_in_5 : decode cX3_in 5 = .ok (.iload_n 0, 1) := dk_26 (dk_at dksX3_in_0 5 rfl rfl)
theorem dX3_in_6 : decode cX3_in 6 = .ok (.iload_n 2, 1) := dk_28 (dk_at dksX3_in_0 6 rfl rfl)
theorem dX3_in_7 : decode cX3_in 7 = .ok (.if_icmp .gt 7, 3) := dk_163 0 7 (dk_at dksX3_in_0 7 rfl rfl)
theorem dX3_in_10 : decode cX3_in 10 = .ok (.iconst 1, 1) := dk_4 (dk_at dksX3_in_0 10 rfl rfl)
theorem dX3_in_11 : decode cX3_in 11 = .ok (.goto 4, 3) := dk_167 0 4 (dk_at dksX3_in_0 11 rfl rfl)
theorem dX3_in_14 : decode cX3_in 14 = .ok (.iconst 0, 1) := dk_3 (dk_at dksX3_in_0 14 rfl rfl)
theorem dX3_in_15 : decode cX3_in 15 = .ok (.ireturn, 1) := dk_172 (dk_at dksX3_in_0 15 rfl rfl)
abbrev cX3_riders : ByteArray := prog_9_method_24_code
def yX3_riders : MethodName := ⟨RX3, "riders", "()I"⟩
def dkwX3_riders_9 : List UInt8 := [27, 172]
abbrev dktX3_riders_9 : List UInt8 := dkwX3_riders_9 ++ []
def dkwX3_riders_8 : List UInt8 := [181, 0, 120, 132, 3, 1, 167, 255, 157, 42, 3, 181, 0, 182, 42, 89, 180, 0, 185, 4, 96, 181, 0, 185]
abbrev dktX3_riders_8 : List UInt8 := dkwX3_riders_8 ++ dktX3_riders_9
def dkwX3_riders_7 : List UInt8 := [96, 3, 79, 42, 180, 0, 9, 16, 16, 42, 180, 0, 120, 96, 3, 79, 42, 89, 180, 0, 120, 4, 96]
abbrev dktX3_riders_7 : List UInt8 := dkwX3_riders_7 ++ dktX3_riders_8
def dkwX3_riders_6 : List UInt8 := [180, 0, 120, 42, 180, 0, 37, 6, 29, 104, 5, 96, 46, 79, 42, 180, 0, 9, 16, 8, 42, 180, 0, 120]
abbrev dktX3_riders_6 : List UInt8 := dkwX3_riders_6 ++ dktX3_riders_7
def dkwX3_riders_5 : List UInt8 := [180, 0, 23, 42, 180, 0, 120, 42, 180, 0, 37, 6, 29, 104, 4, 96, 46, 79, 42, 180, 0, 26, 42]
abbrev dktX3_riders_5 : List UInt8 := dkwX3_riders_5 ++ dktX3_riders_6
def dkwX3_riders_4 : List UInt8 := [27, 162, 0, 100, 42, 180, 0, 20, 42, 180, 0, 120, 42, 180, 0, 37, 6, 29, 104, 46, 79, 42]
abbrev dktX3_riders_4 : List UInt8 := dkwX3_riders_4 ++ dktX3_riders_5
def dkwX3_riders_3 : List UInt8 := [182, 0, 161, 61, 167, 255, 206, 42, 182, 0, 179, 154, 0, 10, 2, 42, 180, 0, 146, 100, 172, 3, 62, 29]
abbrev dktX3_riders_3 : List UInt8 := dkwX3_riders_3 ++ dktX3_riders_4
def dkwX3_riders_2 : List UInt8 := [180, 0, 143, 182, 0, 165, 167, 0, 10, 42, 6, 27, 104, 182, 0, 176, 132, 1, 1, 42, 16, 59]
abbrev dktX3_riders_2 : List UInt8 := dkwX3_riders_2 ++ dktX3_riders_3
def dkwX3_riders_1 : List UInt8 := [28, 153, 0, 52, 42, 182, 0, 153, 153, 0, 45, 42, 180, 0, 120, 27, 96, 16, 8, 160, 0, 14, 42, 42]
abbrev dktX3_riders_1 : List UInt8 := dkwX3_riders_1 ++ dktX3_riders_2
def dkwX3_riders_0 : List UInt8 := [42, 3, 181, 0, 114, 42, 16, 76, 182, 0, 173, 42, 180, 0, 137, 154, 0, 5, 3, 172, 3, 60, 4, 61]
abbrev dktX3_riders_0 : List UInt8 := dkwX3_riders_0 ++ dktX3_riders_1
theorem dksX3_riders_0 : cX3_riders.data.toList.drop 0 = dktX3_riders_0 := by decide +kernel
theorem dksX3_riders_1 : cX3_riders.data.toList.drop 24 = dktX3_riders_1 := dk_seg dksX3_riders_0 24 rfl rfl
theorem dksX3_riders_2 : cX3_riders.data.toList.drop 48 = dktX3_riders_2 := dk_seg dksX3_riders_1 24 rfl rfl
theorem dksX3_riders_3 : cX3_riders.data.toList.drop 70 = dktX3_riders_3 := dk_seg dksX3_riders_2 22 rfl rfl
theorem dksX3_riders_4 : cX3_riders.data.toList.drop 94 = dktX3_riders_4 := dk_seg dksX3_riders_3 24 rfl rfl
theorem dksX3_riders_5 : cX3_riders.data.toList.drop 116 = dktX3_riders_5 := dk_seg dksX3_riders_4 22 rfl rfl
theorem dksX3_riders_6 : cX3_riders.data.toList.drop 139 = dktX3_riders_6 := dk_seg dksX3_riders_5 23 rfl rfl
theorem dksX3_riders_7 : cX3_riders.data.toList.drop 163 = dktX3_riders_7 := dk_seg dksX3_riders_6 24 rfl rfl
theorem dksX3_riders_8 : cX3_riders.data.toList.drop 186 = dktX3_riders_8 := dk_seg dksX3_riders_7 23 rfl rfl
theorem dksX3_riders_9 : cX3_riders.data.toList.drop 210 = dktX3_riders_9 := dk_seg dksX3_riders_8 24 rfl rfl
theorem dX3_riders_0 : decode cX3_riders 0 = .ok (.aload_n 0, 1) := dk_42 (dk_at dksX3_riders_0 0 rfl rfl)
theorem dX3_riders_1 : decode cX3_riders 1 = .ok (.iconst 0, 1) := dk_3 (dk_at dksX3_riders_0 1 rfl rfl)
theorem dX3_riders_2 : decode cX3_riders 2 = .ok (.putfield 114, 3) := dk_181 0 114 (dk_at dksX3_riders_0 2 rfl rfl)
theorem dX3_riders_5 : decode cX3_riders 5 = .ok (.aload_n 0, 1) := dk_42 (dk_at dksX3_riders_0 5 rfl rfl)
theorem dX3_riders_6 : decode cX3_riders 6 = .ok (.bipush 76, 2) := dk_16 76 (dk_at dksX3_riders_0 6 rfl rfl)
theorem dX3_riders_8 : decode cX3_riders 8 = .ok (.invokevirtual 173, 3) := dk_182 0 173 (dk_at dksX3_riders_0 8 rfl rfl)
theorem dX3_riders_11 : decode cX3_riders 11 = .ok (.aload_n 0, 1) := dk_42 (dk_at dksX3_riders_0 11 rfl rfl)
theorem dX3_riders_12 : decode cX3_riders 12 = .ok (.getfield 137, 3) := dk_180 0 137 (dk_at dksX3_riders_0 12 rfl rfl)
theorem dX3_riders_15 : decode cX3_riders 15 = .ok (.ifCond .ne 5, 3) := dk_154 0 5 (dk_at dksX3_riders_0 15 rfl rfl)
theorem dX3_riders_18 : decode cX3_riders 18 = .ok (.iconst 0, 1) := dk_3 (dk_at dksX3_riders_0 18 rfl rfl)
theorem dX3_riders_19 : decode cX3_riders 19 = .ok (.ireturn, 1) := dk_172 (dk_at dksX3_riders_0 19 rfl rfl)
theorem dX3_riders_20 : decode cX3_riders 20 = .ok (.iconst 0, 1) := dk_3 (dk_at dksX3_riders_0 20 rfl rfl)
theorem dX3_riders_21 : decode cX3_riders 21 = .ok (.istore_n 1, 1) := dk_60 (dk_at dksX3_riders_0 21 rfl rfl)
theorem dX3_riders_22 : decode cX3_riders 22 = .ok (.iconst 1, 1) := dk_4 (dk_at dksX3_riders_0 22 rfl rfl)
theorem dX3_riders_23 : decode cX3_riders 23 = .ok (.istore_n 2, 1) := dk_61 (dk_at dksX3_riders_0 23 rfl rfl)
theorem dX3_riders_24 : decode cX3_riders 24 = .ok (.iload_n 2, 1) := dk_28 (dk_at dksX3_riders_1 0 rfl rfl)
theorem dX3_riders_25 : decode cX3_riders 25 = .ok (.ifCond .eq 52, 3) := dk_153 0 52 (dk_at dksX3_riders_1 1 rfl rfl)
theorem dX3_riders_28 : decode cX3_riders 28 = .ok (.aload_n 0, 1) := dk_42 (dk_at dksX3_riders_1 4 rfl rfl)
theorem dX3_riders_29 : decode cX3_riders 29 = .ok (.invokevirtual 153, 3) := dk_182 0 153 (dk_at dksX3_riders_1 5 rfl rfl)
theorem dX3_riders_32 : decode cX3_riders 32 = .ok (.ifCond .eq 45, 3) := dk_153 0 45 (dk_at dksX3_riders_1 8 rfl rfl)
theorem dX3_riders_35 : decode cX3_riders 35 = .ok (.aload_n 0, 1) := dk_42 (dk_at dksX3_riders_1 11 rfl rfl)
theorem dX3_riders_36 : decode cX3_riders 36 = .ok (.getfield 120, 3) := dk_180 0 120 (dk_at dksX3_riders_1 12 rfl rfl)
theorem dX3_riders_39 : decode cX3_riders 39 = .ok (.iload_n 1, 1) := dk_27 (dk_at dksX3_riders_1 15 rfl rfl)
theorem dX3_riders_40 : decode cX3_riders 40 = .ok (.iadd, 1) := dk_96 (dk_at dksX3_riders_1 16 rfl rfl)
theorem dX3_riders_41 : decode cX3_riders 41 = .ok (.bipush 8, 2) := dk_16 8 (dk_at dksX3_riders_1 17 rfl rfl)
theorem dX3_riders_43 : decode cX3_riders 43 = .ok (.if_icmp .ne 14, 3) := dk_160 0 14 (dk_at dksX3_riders_1 19 rfl rfl)
theorem dX3_riders_46 : decode cX3_riders 46 = .ok (.aload_n 0, 1) := dk_42 (dk_at dksX3_riders_1 22 rfl rfl)
theorem dX3_riders_47 : decode cX3_riders 47 = .ok (.aload_n 0, 1) := dk_42 (dk_at dksX3_riders_1 23 rfl rfl)
theorem dX3_riders_48 : decode cX3_riders 48 = .ok (.getfield 143, 3) := dk_180 0 143 (dk_at dksX3_riders_2 0 rfl rfl)
theorem dX3_riders_51 : decode cX3_riders 51 = .ok (.invokevirtual 165, 3) := dk_182 0 165 (dk_at dksX3_riders_2 3 rfl rfl)
theorem dX3_riders_54 : decode cX3_riders 54 = .ok (.goto 10, 3) := dk_167 0 10 (dk_at dksX3_riders_2 6 rfl rfl)
theorem dX3_riders_57 : decode cX3_riders 57 = .ok (.aload_n 0, 1) := dk_42 (dk_at dksX3_riders_2 9 rfl rfl)
theorem dX3_riders_58 : decode cX3_riders 58 = .ok (.iconst 3, 1) := dk_6 (dk_at dksX3_riders_2 10 rfl rfl)
theorem dX3_riders_59 : decode cX3_riders 59 = .ok (.iload_n 1, 1) := dk_27 (dk_at dksX3_riders_2 11 rfl rfl)
theorem dX3_riders_60 : decode cX3_riders 60 = .ok (.imul, 1) := dk_104 (dk_at dksX3_riders_2 12 rfl rfl)
theorem dX3_riders_61 : decode cX3_riders 61 = .ok (.invokevirtual 176, 3) := dk_182 0 176 (dk_at dksX3_riders_2 13 rfl rfl)
theorem dX3_riders_64 : decode cX3_riders 64 = .ok (.iinc 1 1, 3) := dk_132 1 1 (dk_at dksX3_riders_2 16 rfl rfl)
theorem dX3_riders_67 : decode cX3_riders 67 = .ok (.aload_n 0, 1) := dk_42 (dk_at dksX3_riders_2 19 rfl rfl)
theorem dX3_riders_68 : decode cX3_riders 68 = .ok (.bipush 59, 2) := dk_16 59 (dk_at dksX3_riders_2 20 rfl rfl)
theorem dX3_riders_70 : decode cX3_riders 70 = .ok (.invokevirtual 161, 3) := dk_182 0 161 (dk_at dksX3_riders_3 0 rfl rfl)
theorem dX3_riders_73 : decode cX3_riders 73 = .ok (.istore_n 2, 1) := dk_61 (dk_at dksX3_riders_3 3 rfl rfl)
theorem dX3_riders_74 : decode cX3_riders 74 = .ok (.goto (-50), 3) := dk_167 255 206 (dk_at dksX3_riders_3 4 rfl rfl)
theorem dX3_riders_77 : decode cX3_riders 77 = .ok (.aload_n 0, 1) := dk_42 (dk_at dksX3_riders_3 7 rfl rfl)
theorem dX3_riders_78 : decode cX3_riders 78 = .ok (.invokevirtual 179, 3) := dk_182 0 179 (dk_at dksX3_riders_3 8 rfl rfl)
theorem dX3_riders_81 : decode cX3_riders 81 = .ok (.ifCond .ne 10, 3) := dk_154 0 10 (dk_at dksX3_riders_3 11 rfl rfl)
theorem dX3_riders_84 : decode cX3_riders 84 = .ok (.iconst (-1), 1) := dk_2 (dk_at dksX3_riders_3 14 rfl rfl)
theorem dX3_riders_85 : decode cX3_riders 85 = .ok (.aload_n 0, 1) := dk_42 (dk_at dksX3_riders_3 15 rfl rfl)
theorem dX3_riders_86 : decode cX3_riders 86 = .ok (.getfield 146, 3) := dk_180 0 146 (dk_at dksX3_riders_3 16 rfl rfl)
theorem dX3_riders_89 : decode cX3_riders 89 = .ok (.isub, 1) := dk_100 (dk_at dksX3_riders_3 19 rfl rfl)
theorem dX3_riders_90 : decode cX3_riders 90 = .ok (.ireturn, 1) := dk_172 (dk_at dksX3_riders_3 20 rfl rfl)
theorem dX3_riders_91 : decode cX3_riders 91 = .ok (.iconst 0, 1) := dk_3 (dk_at dksX3_riders_3 21 rfl rfl)
theorem dX3_riders_92 : decode cX3_riders 92 = .ok (.istore_n 3, 1) := dk_62 (dk_at dksX3_riders_3 22 rfl rfl)
theorem dX3_riders_93 : decode cX3_riders 93 = .ok (.iload_n 3, 1) := dk_29 (dk_at dksX3_riders_3 23 rfl rfl)
theorem dX3_riders_94 : decode cX3_riders 94 = .ok (.iload_n 1, 1) := dk_27 (dk_at dksX3_riders_4 0 rfl rfl)
theorem dX3_riders_95 : decode cX3_riders 95 = .ok (.if_icmp .ge 100, 3) := dk_162 0 100 (dk_at dksX3_riders_4 1 rfl rfl)
theorem dX3_riders_98 : decode cX3_riders 98 = .ok (.aload_n 0, 1) := dk_42 (dk_at dksX3_riders_4 4 rfl rfl)
theorem dX3_riders_99 : decode cX3_riders 99 = .ok (.getfield 20, 3) := dk_180 0 20 (dk_at dksX3_riders_4 5 rfl rfl)
theorem dX3_riders_102 : decode cX3_riders 102 = .ok (.aload_n 0, 1) := dk_42 (dk_at dksX3_riders_4 8 rfl rfl)
theorem dX3_riders_103 : decode cX3_riders 103 = .ok (.getfield 120, 3) := dk_180 0 120 (dk_at dksX3_riders_4 9 rfl rfl)
theorem dX3_riders_106 : decode cX3_riders 106 = .ok (.aload_n 0, 1) := dk_42 (dk_at dksX3_riders_4 12 rfl rfl)
theorem dX3_riders_107 : decode cX3_riders 107 = .ok (.getfield 37, 3) := dk_180 0 37 (dk_at dksX3_riders_4 13 rfl rfl)
theorem dX3_riders_110 : decode cX3_riders 110 = .ok (.iconst 3, 1) := dk_6 (dk_at dksX3_riders_4 16 rfl rfl)
theorem dX3_riders_111 : decode cX3_riders 111 = .ok (.iload_n 3, 1) := dk_29 (dk_at dksX3_riders_4 17 rfl rfl)
theorem dX3_riders_112 : decode cX3_riders 112 = .ok (.imul, 1) := dk_104 (dk_at dksX3_riders_4 18 rfl rfl)
theorem dX3_riders_113 : decode cX3_riders 113 = .ok (.iaload, 1) := dk_46 (dk_at dksX3_riders_4 19 rfl rfl)
theorem dX3_riders_114 : decode cX3_riders 114 = .ok (.iastore, 1) := dk_79 (dk_at dksX3_riders_4 20 rfl rfl)
theorem dX3_riders_115 : decode cX3_riders 115 = .ok (.aload_n 0, 1) := dk_42 (dk_at dksX3_riders_4 21 rfl rfl)
theorem dX3_riders_116 : decode cX3_riders 116 = .ok (.getfield 23, 3) := dk_180 0 23 (dk_at dksX3_riders_5 0 rfl rfl)
theorem dX3_riders_119 : decode cX3_riders 119 = .ok (.aload_n 0, 1) := dk_42 (dk_at dksX3_riders_5 3 rfl rfl)
theorem dX3_riders_120 : decode cX3_riders 120 = .ok (.getfield 120, 3) := dk_180 0 120 (dk_at dksX3_riders_5 4 rfl rfl)
theorem dX3_riders_123 : decode cX3_riders 123 = .ok (.aload_n 0, 1) := dk_42 (dk_at dksX3_riders_5 7 rfl rfl)
theorem dX3_riders_124 : decode cX3_riders 124 = .ok (.getfield 37, 3) := dk_180 0 37 (dk_at dksX3_riders_5 8 rfl rfl)
theorem dX3_riders_127 : decode cX3_riders 127 = .ok (.iconst 3, 1) := dk_6 (dk_at dksX3_riders_5 11 rfl rfl)
theorem dX3_riders_128 : decode cX3_riders 128 = .ok (.iload_n 3, 1) := dk_29 (dk_at dksX3_riders_5 12 rfl rfl)
theorem dX3_riders_129 : decode cX3_riders 129 = .ok (.imul, 1) := dk_104 (dk_at dksX3_riders_5 13 rfl rfl)
theorem dX3_riders_130 : decode cX3_riders 130 = .ok (.iconst 1, 1) := dk_4 (dk_at dksX3_riders_5 14 rfl rfl)
theorem dX3_riders_131 : decode cX3_riders 131 = .ok (.iadd, 1) := dk_96 (dk_at dksX3_riders_5 15 rfl rfl)
theorem dX3_riders_132 : decode cX3_riders 132 = .ok (.iaload, 1) := dk_46 (dk_at dksX3_riders_5 16 rfl rfl)
theorem dX3_riders_133 : decode cX3_riders 133 = .ok (.iastore, 1) := dk_79 (dk_at dksX3_riders_5 17 rfl rfl)
theorem dX3_riders_134 : decode cX3_riders 134 = .ok (.aload_n 0, 1) := dk_42 (dk_at dksX3_riders_5 18 rfl rfl)
theorem dX3_riders_135 : decode cX3_riders 135 = .ok (.getfield 26, 3) := dk_180 0 26 (dk_at dksX3_riders_5 19 rfl rfl)
theorem dX3_riders_138 : decode cX3_riders 138 = .ok (.aload_n 0, 1) := dk_42 (dk_at dksX3_riders_5 22 rfl rfl)
theorem dX3_riders_139 : decode cX3_riders 139 = .ok (.getfield 120, 3) := dk_180 0 120 (dk_at dksX3_riders_6 0 rfl rfl)
theorem dX3_riders_142 : decode cX3_riders 142 = .ok (.aload_n 0, 1) := dk_42 (dk_at dksX3_riders_6 3 rfl rfl)
theorem dX3_riders_143 : decode cX3_riders 143 = .ok (.getfield 37, 3) := dk_180 0 37 (dk_at dksX3_riders_6 4 rfl rfl)
theorem dX3_riders_146 : decode cX3_riders 146 = .ok (.iconst 3, 1) := dk_6 (dk_at dksX3_riders_6 7 rfl rfl)
theorem dX3_riders_147 : decode cX3_riders 147 = .ok (.iload_n 3, 1) := dk_29 (dk_at dksX3_riders_6 8 rfl rfl)
theorem dX3_riders_148 : decode cX3_riders 148 = .ok (.imul, 1) := dk_104 (dk_at dksX3_riders_6 9 rfl rfl)
theorem dX3_riders_149 : decode cX3_riders 149 = .ok (.iconst 2, 1) := dk_5 (dk_at dksX3_riders_6 10 rfl rfl)
theorem dX3_riders_150 : decode cX3_riders 150 = .ok (.iadd, 1) := dk_96 (dk_at dksX3_riders_6 11 rfl rfl)
theorem dX3_riders_151 : decode cX3_riders 151 = .ok (.iaload, 1) := dk_46 (dk_at dksX3_riders_6 12 rfl rfl)
theorem dX3_riders_152 : decode cX3_riders 152 = .ok (.iastore, 1) := dk_79 (dk_at dksX3_riders_6 13 rfl rfl)
theorem dX3_riders_153 : decode cX3_riders 153 = .ok (.aload_n 0, 1) := dk_42 (dk_at dksX3_riders_6 14 rfl rfl)
theorem dX3_riders_154 : decode cX3_riders 154 = .ok (.getfield 9, 3) := dk_180 0 9 (dk_at dksX3_riders_6 15 rfl rfl)
theorem dX3_riders_157 : decode cX3_riders 157 = .ok (.bipush 8, 2) := dk_16 8 (dk_at dksX3_riders_6 18 rfl rfl)
theorem dX3_riders_159 : decode cX3_riders 159 = .ok (.aload_n 0, 1) := dk_42 (dk_at dksX3_riders_6 20 rfl rfl)
theorem dX3_riders_160 : decode cX3_riders 160 = .ok (.getfield 120, 3) := dk_180 0 120 (dk_at dksX3_riders_6 21 rfl rfl)
theorem dX3_riders_163 : decode cX3_riders 163 = .ok (.iadd, 1) := dk_96 (dk_at dksX3_riders_7 0 rfl rfl)
theorem dX3_riders_164 : decode cX3_riders 164 = .ok (.iconst 0, 1) := dk_3 (dk_at dksX3_riders_7 1 rfl rfl)
theorem dX3_riders_165 : decode cX3_riders 165 = .ok (.iastore, 1) := dk_79 (dk_at dksX3_riders_7 2 rfl rfl)
theorem dX3_riders_166 : decode cX3_riders 166 = .ok (.aload_n 0, 1) := dk_42 (dk_at dksX3_riders_7 3 rfl rfl)
theorem dX3_riders_167 : decode cX3_riders 167 = .ok (.getfield 9, 3) := dk_180 0 9 (dk_at dksX3_riders_7 4 rfl rfl)
theorem dX3_riders_170 : decode cX3_riders 170 = .ok (.bipush 16, 2) := dk_16 16 (dk_at dksX3_riders_7 7 rfl rfl)
theorem dX3_riders_172 : decode cX3_riders 172 = .ok (.aload_n 0, 1) := dk_42 (dk_at dksX3_riders_7 9 rfl rfl)
theorem dX3_riders_173 : decode cX3_riders 173 = .ok (.getfield 120, 3) := dk_180 0 120 (dk_at dksX3_riders_7 10 rfl rfl)
theorem dX3_riders_176 : decode cX3_riders 176 = .ok (.iadd, 1) := dk_96 (dk_at dksX3_riders_7 13 rfl rfl)
theorem dX3_riders_177 : decode cX3_riders 177 = .ok (.iconst 0, 1) := dk_3 (dk_at dksX3_riders_7 14 rfl rfl)
theorem dX3_riders_178 : decode cX3_riders 178 = .ok (.iastore, 1) := dk_79 (dk_at dksX3_riders_7 15 rfl rfl)
theorem dX3_riders_179 : decode cX3_riders 179 = .ok (.aload_n 0, 1) := dk_42 (dk_at dksX3_riders_7 16 rfl rfl)
theorem dX3_riders_180 : decode cX3_riders 180 = .ok (.dup, 1) := dk_89 (dk_at dksX3_riders_7 17 rfl rfl)
theorem dX3_riders_181 : decode cX3_riders 181 = .ok (.getfield 120, 3) := dk_180 0 120 (dk_at dksX3_riders_7 18 rfl rfl)
theorem dX3_riders_184 : decode cX3_riders 184 = .ok (.iconst 1, 1) := dk_4 (dk_at dksX3_riders_7 21 rfl rfl)
theorem dX3_riders_185 : decode cX3_riders 185 = .ok (.iadd, 1) := dk_96 (dk_at dksX3_riders_7 22 rfl rfl)
theorem dX3_riders_186 : decode cX3_riders 186 = .ok (.putfield 120, 3) := dk_181 0 120 (dk_at dksX3_riders_8 0 rfl rfl)
theorem dX3_riders_189 : decode cX3_riders 189 = .ok (.iinc 3 1, 3) := dk_132 3 1 (dk_at dksX3_riders_8 3 rfl rfl)
theorem dX3_riders_192 : decode cX3_riders 192 = .ok (.goto (-99), 3) := dk_167 255 157 (dk_at dksX3_riders_8 6 rfl rfl)
theorem dX3_riders_195 : decode cX3_riders 195 = .ok (.aload_n 0, 1) := dk_42 (dk_at dksX3_riders_8 9 rfl rfl)
theorem dX3_riders_196 : decode cX3_riders 196 = .ok (.iconst 0, 1) := dk_3 (dk_at dksX3_riders_8 10 rfl rfl)
theorem dX3_riders_197 : decode cX3_riders 197 = .ok (.putfield 182, 3) := dk_181 0 182 (dk_at dksX3_riders_8 11 rfl rfl)
theorem dX3_riders_200 : decode cX3_riders 200 = .ok (.aload_n 0, 1) := dk_42 (dk_at dksX3_riders_8 14 rfl rfl)
theorem dX3_riders_201 : decode cX3_riders 201 = .ok (.dup, 1) := dk_89 (dk_at dksX3_riders_8 15 rfl rfl)
theorem dX3_riders_202 : decode cX3_riders 202 = .ok (.getfield 185, 3) := dk_180 0 185 (dk_at dksX3_riders_8 16 rfl rfl)
theorem dX3_riders_205 : decode cX3_riders 205 = .ok (.iconst 1, 1) := dk_4 (dk_at dksX3_riders_8 19 rfl rfl)
theorem dX3_riders_206 : decode cX3_riders 206 = .ok (.iadd, 1) := dk_96 (dk_at dksX3_riders_8 20 rfl rfl)
theorem dX3_riders_207 : decode cX3_riders 207 = .ok (.putfield 185, 3) := dk_181 0 185 (dk_at dksX3_riders_8 21 rfl rfl)
theorem dX3_riders_210 : decode cX3_riders 210 = .ok (.iload_n 1, 1) := dk_27 (dk_at dksX3_riders_9 0 rfl rfl)
theorem dX3_riders_211 : decode cX3_riders 211 = .ok (.ireturn, 1) := dk_172 (dk_at dksX3_riders_9 1 rfl rfl)
abbrev cX3_beginText : ByteArray := prog_9_method_14_code
def yX3_beginText : MethodName := ⟨RX3, "beginText", "(I)V"⟩
def dkwX3_beginText_0 : List UInt8 := [42, 42, 180, 0, 29, 42, 180, 0, 131, 27, 182, 0, 149, 42, 3, 181, 0, 131, 177]
abbrev dktX3_beginText_0 : List UInt8 := dkwX3_beginText_0 ++ []
theorem dksX3_beginText_0 : cX3_beginText.data.toList.drop 0 = dktX3_beginText_0 := by decide +kernel
theorem dX3_beginText_0 : decode cX3_beginText 0 = .ok (.aload_n 0, 1) := dk_42 (dk_at dksX3_beginText_0 0 rfl rfl)
theorem dX3_beginText_1 : decode cX3_beginText 1 = .ok (.aload_n 0, 1) := dk_42 (dk_at dksX3_beginText_0 1 rfl rfl)
theorem dX3_beginText_2 : decode cX3_beginText 2 = .ok (.getfield 29, 3) := dk_180 0 29 (dk_at dksX3_beginText_0 2 rfl rfl)
theorem dX3_beginText_5 : decode cX3_beginText 5 = .ok (.aload_n 0, 1) := dk_42 (dk_at dksX3_beginText_0 5 rfl rfl)
theorem dX3_beginText_6 : decode cX3_beginText 6 = .ok (.getfield 131, 3) := dk_180 0 131 (dk_at dksX3_beginText_0 6 rfl rfl)
theorem dX3_beginText_9 : decode cX3_beginText 9 = .ok (.iload_n 1, 1) := dk_27 (dk_at dksX3_beginText_0 9 rfl rfl)
theorem dX3_beginText_10 : decode cX3_beginText 10 = .ok (.invokevirtual 149, 3) := dk_182 0 149 (dk_at dksX3_beginText_0 10 rfl rfl)
theorem dX3_beginText_13 : decode cX3_beginText 13 = .ok (.aload_n 0, 1) := dk_42 (dk_at dksX3_beginText_0 13 rfl rfl)
theorem dX3_beginText_14 : decode cX3_beginText 14 = .ok (.iconst 0, 1) := dk_3 (dk_at dksX3_beginText_0 14 rfl rfl)
theorem dX3_beginText_15 : decode cX3_beginText 15 = .ok (.putfield 131, 3) := dk_181 0 131 (dk_at dksX3_beginText_0 15 rfl rfl)
theorem dX3_beginText_18 : decode cX3_beginText 18 = .ok (.return_, 1) := dk_177 (dk_at dksX3_beginText_0 18 rfl rfl)
abbrev cX3_begin : ByteArray := prog_9_method_13_code
def yX3_begin : MethodName := ⟨RX3, "begin", "([BII)V"⟩
def dkwX3_begin_1 : List UInt8 := [181, 0, 146, 177]
abbrev dktX3_begin_1 : List UInt8 := dkwX3_begin_1 ++ []
def dkwX3_begin_0 : List UInt8 := [42, 43, 181, 0, 134, 42, 28, 181, 0, 137, 42, 29, 181, 0, 140, 42, 3, 181, 0, 143, 42, 2]
abbrev dktX3_begin_0 : List UInt8 := dkwX3_begin_0 ++ dktX3_begin_1
theorem dksX3_begin_0 : cX3_begin.data.toList.drop 0 = dktX3_begin_0 := by decide +kernel
theorem dksX3_begin_1 : cX3_begin.data.toList.drop 22 = dktX3_begin_1 := dk_seg dksX3_begin_0 22 rfl rfl
theorem dX3_begin_0 : decode cX3_begin 0 = .ok (.aload_n 0, 1) := dk_42 (dk_at dksX3_begin_0 0 rfl rfl)
theorem dX3_begin_1 : decode cX3_begin 1 = .ok (.aload_n 1, 1) := dk_43 (dk_at dksX3_begin_0 1 rfl rfl)
theorem dX3_begin_2 : decode cX3_begin 2 = .ok (.putfield 134, 3) := dk_181 0 134 (dk_at dksX3_begin_0 2 rfl rfl)
theorem dX3_begin_5 : decode cX3_begin 5 = .ok (.aload_n 0, 1) := dk_42 (dk_at dksX3_begin_0 5 rfl rfl)
theorem dX3_begin_6 : decode cX3_begin 6 = .ok (.iload_n 2, 1) := dk_28 (dk_at dksX3_begin_0 6 rfl rfl)
theorem dX3_begin_7 : decode cX3_begin 7 = .ok (.putfield 137, 3) := dk_181 0 137 (dk_at dksX3_begin_0 7 rfl rfl)
theorem dX3_begin_10 : decode cX3_begin 10 = .ok (.aload_n 0, 1) := dk_42 (dk_at dksX3_begin_0 10 rfl rfl)
theorem dX3_begin_11 : decode cX3_begin 11 = .ok (.iload_n 3, 1) := dk_29 (dk_at dksX3_begin_0 11 rfl rfl)
theorem dX3_begin_12 : decode cX3_begin 12 = .ok (.putfield 140, 3) := dk_181 0 140 (dk_at dksX3_begin_0 12 rfl rfl)
theorem dX3_begin_15 : decode cX3_begin 15 = .ok (.aload_n 0, 1) := dk_42 (dk_at dksX3_begin_0 15 rfl rfl)
theorem dX3_begin_16 : decode cX3_begin 16 = .ok (.iconst 0, 1) := dk_3 (dk_at dksX3_begin_0 16 rfl rfl)
theorem dX3_begin_17 : decode cX3_begin 17 = .ok (.putfield 143, 3) := dk_181 0 143 (dk_at dksX3_begin_0 17 rfl rfl)
theorem dX3_begin_20 : decode cX3_begin 20 = .ok (.aload_n 0, 1) := dk_42 (dk_at dksX3_begin_0 20 rfl rfl)
theorem dX3_begin_21 : decode cX3_begin 21 = .ok (.iconst (-1), 1) := dk_2 (dk_at dksX3_begin_0 21 rfl rfl)
theorem dX3_begin_22 : decode cX3_begin 22 = .ok (.putfield 146, 3) := dk_181 0 146 (dk_at dksX3_begin_1 0 rfl rfl)
theorem dX3_begin_25 : decode cX3_begin 25 = .ok (.return_, 1) := dk_177 (dk_at dksX3_begin_1 3 rfl rfl)
abbrev cX3_fine : ByteArray := prog_9_method_16_code
def yX3_fine : MethodName := ⟨RX3, "fine", "()Z"⟩
def dkwX3_fine_0 : List UInt8 := [42, 180, 0, 146, 2, 160, 0, 7, 4, 167, 0, 4, 3, 172]
abbrev dktX3_fine_0 : List UInt8 := dkwX3_fine_0 ++ []
theorem dksX3_fine_0 : cX3_fine.data.toList.drop 0 = dktX3_fine_0 := by decide +kernel
theorem dX3_fine_0 : decode cX3_fine 0 = .ok (.aload_n 0, 1) := dk_42 (dk_at dksX3_fine_0 0 rfl rfl)
theorem dX3_fine_1 : decode cX3_fine 1 = .ok (.getfield 146, 3) := dk_180 0 146 (dk_at dksX3_fine_0 1 rfl rfl)
theorem dX3_fine_4 : decode cX3_fine 4 = .ok (.iconst (-1), 1) := dk_2 (dk_at dksX3_fine_0 4 rfl rfl)
theorem dX3_fine_5 : decode cX3_fine 5 = .ok (.if_icmp .ne 7, 3) := dk_160 0 7 (dk_at dksX3_fine_0 5 rfl rfl)
theorem dX3_fine_8 : decode cX3_fine 8 = .ok (.iconst 1, 1) := dk_4 (dk_at dksX3_fine_0 8 rfl rfl)
theorem dX3_fine_9 : decode cX3_fine 9 = .ok (.goto 4, 3) := dk_167 0 4 (dk_at dksX3_fine_0 9 rfl rfl)
theorem dX3_fine_12 : decode cX3_fine 12 = .ok (.iconst 0, 1) := dk_3 (dk_at dksX3_fine_0 12 rfl rfl)
theorem dX3_fine_13 : decode cX3_fine 13 = .ok (.ireturn, 1) := dk_172 (dk_at dksX3_fine_0 13 rfl rfl)
abbrev cX3_fault : ByteArray := prog_9_method_17_code
def yX3_fault : MethodName := ⟨RX3, "fault", "(I)V"⟩
def dkwX3_fault_0 : List UInt8 := [42, 182, 0, 153, 153, 0, 8, 42, 27, 181, 0, 146, 177]
abbrev dktX3_fault_0 : List UInt8 := dkwX3_fault_0 ++ []
theorem dksX3_fault_0 : cX3_fault.data.toList.drop 0 = dktX3_fault_0 := by decide +kernel
theorem dX3_fault_0 : decode cX3_fault 0 = .ok (.aload_n 0, 1) := dk_42 (dk_at dksX3_fault_0 0 rfl rfl)
theorem dX3_fault_1 : decode cX3_fault 1 = .ok (.invokevirtual 153, 3) := dk_182 0 153 (dk_at dksX3_fault_0 1 rfl rfl)
theorem dX3_fault_4 : decode cX3_fault 4 = .ok (.ifCond .eq 8, 3) := dk_153 0 8 (dk_at dksX3_fault_0 4 rfl rfl)
theorem dX3_fault_7 : decode cX3_fault 7 = .ok (.aload_n 0, 1) := dk_42 (dk_at dksX3_fault_0 7 rfl rfl)
theorem dX3_fault_8 : decode cX3_fault 8 = .ok (.iload_n 1, 1) := dk_27 (dk_at dksX3_fault_0 8 rfl rfl)
theorem dX3_fault_9 : decode cX3_fault 9 = .ok (.putfield 146, 3) := dk_181 0 146 (dk_at dksX3_fault_0 9 rfl rfl)
theorem dX3_fault_12 : decode cX3_fault 12 = .ok (.return_, 1) := dk_177 (dk_at dksX3_fault_0 12 rfl rfl)
abbrev cX3_readMan : ByteArray := prog_9_method_23_code
def yX3_readMan : MethodName := ⟨RX3, "readMan", "(I)V"⟩
def dkwX3_readMan_5 : List UInt8 := [167, 255, 185, 177]
abbrev dktX3_readMan_5 : List UInt8 := dkwX3_readMan_5 ++ []
def dkwX3_readMan_4 : List UInt8 := [180, 0, 143, 4, 96, 181, 0, 143, 42, 180, 0, 37, 27, 5, 96, 92, 46, 4, 29, 120, 128, 79, 29, 61]
abbrev dktX3_readMan_4 : List UInt8 := dkwX3_readMan_4 ++ dktX3_readMan_5
def dkwX3_readMan_3 : List UInt8 := [16, 97, 100, 62, 29, 28, 163, 0, 14, 42, 42, 180, 0, 143, 182, 0, 165, 167, 0, 29, 42, 89]
abbrev dktX3_readMan_3 : List UInt8 := dkwX3_readMan_3 ++ dktX3_readMan_4
def dkwX3_readMan_2 : List UInt8 := [182, 0, 153, 153, 0, 70, 42, 182, 0, 157, 16, 97, 16, 104, 184, 0, 123, 153, 0, 56, 42, 182, 0, 157]
abbrev dktX3_readMan_2 : List UInt8 := dkwX3_readMan_2 ++ dktX3_readMan_3
def dkwX3_readMan_1 : List UInt8 := [16, 49, 16, 9, 182, 0, 169, 4, 96, 79, 42, 180, 0, 37, 27, 5, 96, 3, 79, 2, 61, 42]
abbrev dktX3_readMan_1 : List UInt8 := dkwX3_readMan_1 ++ dktX3_readMan_2
def dkwX3_readMan_0 : List UInt8 := [42, 180, 0, 37, 27, 42, 16, 49, 7, 182, 0, 169, 4, 96, 79, 42, 180, 0, 37, 27, 4, 96, 42]
abbrev dktX3_readMan_0 : List UInt8 := dkwX3_readMan_0 ++ dktX3_readMan_1
theorem dksX3_readMan_0 : cX3_readMan.data.toList.drop 0 = dktX3_readMan_0 := by decide +kernel
theorem dksX3_readMan_1 : cX3_readMan.data.toList.drop 23 = dktX3_readMan_1 := dk_seg dksX3_readMan_0 23 rfl rfl
theorem dksX3_readMan_2 : cX3_readMan.data.toList.drop 45 = dktX3_readMan_2 := dk_seg dksX3_readMan_1 22 rfl rfl
theorem dksX3_readMan_3 : cX3_readMan.data.toList.drop 69 = dktX3_readMan_3 := dk_seg dksX3_readMan_2 24 rfl rfl
theorem dksX3_readMan_4 : cX3_readMan.data.toList.drop 91 = dktX3_readMan_4 := dk_seg dksX3_readMan_3 22 rfl rfl
theorem dksX3_readMan_5 : cX3_readMan.data.toList.drop 115 = dktX3_readMan_5 := dk_seg dksX3_readMan_4 24 rfl rfl
theorem dX3_readMan_0 : decode cX3_readMan 0 = .ok (.aload_n 0, 1) := dk_42 (dk_at dksX3_readMan_0 0 rfl rfl)
theorem dX3_readMan_1 : decode cX3_readMan 1 = .ok (.getfield 37, 3) := dk_180 0 37 (dk_at dksX3_readMan_0 1 rfl rfl)
theorem dX3_readMan_4 : decode cX3_readMan 4 = .ok (.iload_n 1, 1) := dk_27 (dk_at dksX3_readMan_0 4 rfl rfl)
theorem dX3_readMan_5 : decode cX3_readMan 5 = .ok (.aload_n 0, 1) := dk_42 (dk_at dksX3_readMan_0 5 rfl rfl)
theorem dX3_readMan_6 : decode cX3_readMan 6 = .ok (.bipush 49, 2) := dk_16 49 (dk_at dksX3_readMan_0 6 rfl rfl)
theorem dX3_readMan_8 : decode cX3_readMan 8 = .ok (.iconst 4, 1) := dk_7 (dk_at dksX3_readMan_0 8 rfl rfl)
theorem dX3_readMan_9 : decode cX3_readMan 9 = .ok (.invokevirtual 169, 3) := dk_182 0 169 (dk_at dksX3_readMan_0 9 rfl rfl)
theorem dX3_readMan_12 : decode cX3_readMan 12 = .ok (.iconst 1, 1) := dk_4 (dk_at dksX3_readMan_0 12 rfl rfl)
theorem dX3_readMan_13 : decode cX3_readMan 13 = .ok (.iadd, 1) := dk_96 (dk_at dksX3_readMan_0 13 rfl rfl)
theorem dX3_readMan_14 : decode cX3_readMan 14 = .ok (.iastore, 1) := dk_79 (dk_at dksX3_readMan_0 14 rfl rfl)
theorem dX3_readMan_15 : decode cX3_readMan 15 = .ok (.aload_n 0, 1) := dk_42 (dk_at dksX3_readMan_0 15 rfl rfl)
theorem dX3_readMan_16 : decode cX3_readMan 16 = .ok (.getfield 37, 3) := dk_180 0 37 (dk_at dksX3_readMan_0 16 rfl rfl)
theorem dX3_readMan_19 : decode cX3_readMan 19 = .ok (.iload_n 1, 1) := dk_27 (dk_at dksX3_readMan_0 19 rfl rfl)
theorem dX3_readMan_20 : decode cX3_readMan 20 = .ok (.iconst 1, 1) := dk_4 (dk_at dksX3_readMan_0 20 rfl rfl)
theorem dX3_readMan_21 : decode cX3_readMan 21 = .ok (.iadd, 1) := dk_96 (dk_at dksX3_readMan_0 21 rfl rfl)
theorem dX3_readMan_22 : decode cX3_readMan 22 = .ok (.aload_n 0, 1) := dk_42 (dk_at dksX3_readMan_0 22 rfl rfl)
theorem dX3_readMan_23 : decode cX3_readMan 23 = .ok (.bipush 49, 2) := dk_16 49 (dk_at dksX3_readMan_1 0 rfl rfl)
theorem dX3_readMan_25 : decode cX3_readMan 25 = .ok (.bipush 9, 2) := dk_16 9 (dk_at dksX3_readMan_1 2 rfl rfl)
theorem dX3_readMan_27 : decode cX3_readMan 27 = .ok (.invokevirtual 169, 3) := dk_182 0 169 (dk_at dksX3_readMan_1 4 rfl rfl)
theorem dX3_readMan_30 : decode cX3_readMan 30 = .ok (.iconst 1, 1) := dk_4 (dk_at dksX3_readMan_1 7 rfl rfl)
theorem dX3_readMan_31 : decode cX3_readMan 31 = .ok (.iadd, 1) := dk_96 (dk_at dksX3_readMan_1 8 rfl rfl)
theorem dX3_readMan_32 : decode cX3_readMan 32 = .ok (.iastore, 1) := dk_79 (dk_at dksX3_readMan_1 9 rfl rfl)
theorem dX3_readMan_33 : decode cX3_readMan 33 = .ok (.aload_n 0, 1) := dk_42 (dk_at dksX3_readMan_1 10 rfl rfl)
theorem dX3_readMan_34 : decode cX3_readMan 34 = .ok (.getfield 37, 3) := dk_180 0 37 (dk_at dksX3_readMan_1 11 rfl rfl)
theorem dX3_readMan_37 : decode cX3_readMan 37 = .ok (.iload_n 1, 1) := dk_27 (dk_at dksX3_readMan_1 14 rfl rfl)
theorem dX3_readMan_38 : decode cX3_readMan 38 = .ok (.iconst 2, 1) := dk_5 (dk_at dksX3_readMan_1 15 rfl rfl)
theorem dX3_readMan_39 : decode cX3_readMan 39 = .ok (.iadd, 1) := dk_96 (dk_at dksX3_readMan_1 16 rfl rfl)
theorem dX3_readMan_40 : decode cX3_readMan 40 = .ok (.iconst 0, 1) := dk_3 (dk_at dksX3_readMan_1 17 rfl rfl)
theorem dX3_readMan_41 : decode cX3_readMan 41 = .ok (.iastore, 1) := dk_79 (dk_at dksX3_readMan_1 18 rfl rfl)
theorem dX3_readMan_42 : decode cX3_readMan 42 = .ok (.iconst (-1), 1) := dk_2 (dk_at dksX3_readMan_1 19 rfl rfl)
theorem dX3_readMan_43 : decode cX3_readMan 43 = .ok (.istore_n 2, 1) := dk_61 (dk_at dksX3_readMan_1 20 rfl rfl)
theorem dX3_readMan_44 : decode cX3_readMan 44 = .ok (.aload_n 0, 1) := dk_42 (dk_at dksX3_readMan_1 21 rfl rfl)
theorem dX3_readMan_45 : decode cX3_readMan 45 = .ok (.invokevirtual 153, 3) := dk_182 0 153 (dk_at dksX3_readMan_2 0 rfl rfl)
theorem dX3_readMan_48 : decode cX3_readMan 48 = .ok (.ifCond .eq 70, 3) := dk_153 0 70 (dk_at dksX3_readMan_2 3 rfl rfl)
theorem dX3_readMan_51 : decode cX3_readMan 51 = .ok (.aload_n 0, 1) := dk_42 (dk_at dksX3_readMan_2 6 rfl rfl)
theorem dX3_readMan_52 : decode cX3_readMan 52 = .ok (.invokevirtual 157, 3) := dk_182 0 157 (dk_at dksX3_readMan_2 7 rfl rfl)
theorem dX3_readMan_55 : decode cX3_readMan 55 = .ok (.bipush 97, 2) := dk_16 97 (dk_at dksX3_readMan_2 10 rfl rfl)
theorem dX3_readMan_57 : decode cX3_readMan 57 = .ok (.bipush 104, 2) := dk_16 104 (dk_at dksX3_readMan_2 12 rfl rfl)
theorem dX3_readMan_59 : decode cX3_readMan 59 = .ok (.invokestatic 123, 3) := dk_184 0 123 (dk_at dksX3_readMan_2 14 rfl rfl)
theorem dX3_readMan_62 : decode cX3_readMan 62 = .ok (.ifCond .eq 56, 3) := dk_153 0 56 (dk_at dksX3_readMan_2 17 rfl rfl)
theorem dX3_readMan_65 : decode cX3_readMan 65 = .ok (.aload_n 0, 1) := dk_42 (dk_at dksX3_readMan_2 20 rfl rfl)
theorem dX3_readMan_66 : decode cX3_readMan 66 = .ok (.invokevirtual 157, 3) := dk_182 0 157 (dk_at dksX3_readMan_2 21 rfl rfl)
theorem dX3_readMan_69 : decode cX3_readMan 69 = .ok (.bipush 97, 2) := dk_16 97 (dk_at dksX3_readMan_3 0 rfl rfl)
theorem dX3_readMan_71 : decode cX3_readMan 71 = .ok (.isub, 1) := dk_100 (dk_at dksX3_readMan_3 2 rfl rfl)
theorem dX3_readMan_72 : decode cX3_readMan 72 = .ok (.istore_n 3, 1) := dk_62 (dk_at dksX3_readMan_3 3 rfl rfl)
theorem dX3_readMan_73 : decode cX3_readMan 73 = .ok (.iload_n 3, 1) := dk_29 (dk_at dksX3_readMan_3 4 rfl rfl)
theorem dX3_readMan_74 : decode cX3_readMan 74 = .ok (.iload_n 2, 1) := dk_28 (dk_at dksX3_readMan_3 5 rfl rfl)
theorem dX3_readMan_75 : decode cX3_readMan 75 = .ok (.if_icmp .gt 14, 3) := dk_163 0 14 (dk_at dksX3_readMan_3 6 rfl rfl)
theorem dX3_readMan_78 : decode cX3_readMan 78 = .ok (.aload_n 0, 1) := dk_42 (dk_at dksX3_readMan_3 9 rfl rfl)
theorem dX3_readMan_79 : decode cX3_readMan 79 = .ok (.aload_n 0, 1) := dk_42 (dk_at dksX3_readMan_3 10 rfl rfl)
theorem dX3_readMan_80 : decode cX3_readMan 80 = .ok (.getfield 143, 3) := dk_180 0 143 (dk_at dksX3_readMan_3 11 rfl rfl)
theorem dX3_readMan_83 : decode cX3_readMan 83 = .ok (.invokevirtual 165, 3) := dk_182 0 165 (dk_at dksX3_readMan_3 14 rfl rfl)
theorem dX3_readMan_86 : decode cX3_readMan 86 = .ok (.goto 29, 3) := dk_167 0 29 (dk_at dksX3_readMan_3 17 rfl rfl)
theorem dX3_readMan_89 : decode cX3_readMan 89 = .ok (.aload_n 0, 1) := dk_42 (dk_at dksX3_readMan_3 20 rfl rfl)
theorem dX3_readMan_90 : decode cX3_readMan 90 = .ok (.dup, 1) := dk_89 (dk_at dksX3_readMan_3 21 rfl rfl)
theorem dX3_readMan_91 : decode cX3_readMan 91 = .ok (.getfield 143, 3) := dk_180 0 143 (dk_at dksX3_readMan_4 0 rfl rfl)
theorem dX3_readMan_94 : decode cX3_readMan 94 = .ok (.iconst 1, 1) := dk_4 (dk_at dksX3_readMan_4 3 rfl rfl)
theorem dX3_readMan_95 : decode cX3_readMan 95 = .ok (.iadd, 1) := dk_96 (dk_at dksX3_readMan_4 4 rfl rfl)
theorem dX3_readMan_96 : decode cX3_readMan 96 = .ok (.putfield 143, 3) := dk_181 0 143 (dk_at dksX3_readMan_4 5 rfl rfl)
theorem dX3_readMan_99 : decode cX3_readMan 99 = .ok (.aload_n 0, 1) := dk_42 (dk_at dksX3_readMan_4 8 rfl rfl)
theorem dX3_readMan_100 : decode cX3_readMan 100 = .ok (.getfield 37, 3) := dk_180 0 37 (dk_at dksX3_readMan_4 9 rfl rfl)
theorem dX3_readMan_103 : decode cX3_readMan 103 = .ok (.iload_n 1, 1) := dk_27 (dk_at dksX3_readMan_4 12 rfl rfl)
theorem dX3_readMan_104 : decode cX3_readMan 104 = .ok (.iconst 2, 1) := dk_5 (dk_at dksX3_readMan_4 13 rfl rfl)
theorem dX3_readMan_105 : decode cX3_readMan 105 = .ok (.iadd, 1) := dk_96 (dk_at dksX3_readMan_4 14 rfl rfl)
theorem dX3_readMan_106 : decode cX3_readMan 106 = .ok (.dup2, 1) := dk_92 (dk_at dksX3_readMan_4 15 rfl rfl)
theorem dX3_readMan_107 : decode cX3_readMan 107 = .ok (.iaload, 1) := dk_46 (dk_at dksX3_readMan_4 16 rfl rfl)
theorem dX3_readMan_108 : decode cX3_readMan 108 = .ok (.iconst 1, 1) := dk_4 (dk_at dksX3_readMan_4 17 rfl rfl)
theorem dX3_readMan_109 : decode cX3_readMan 109 = .ok (.iload_n 3, 1) := dk_29 (dk_at dksX3_readMan_4 18 rfl rfl)
theorem dX3_readMan_110 : decode cX3_readMan 110 = .ok (.ishl, 1) := dk_120 (dk_at dksX3_readMan_4 19 rfl rfl)
theorem dX3_readMan_111 : decode cX3_readMan 111 = .ok (.ior, 1) := dk_128 (dk_at dksX3_readMan_4 20 rfl rfl)
theorem dX3_readMan_112 : decode cX3_readMan 112 = .ok (.iastore, 1) := dk_79 (dk_at dksX3_readMan_4 21 rfl rfl)
theorem dX3_readMan_113 : decode cX3_readMan 113 = .ok (.iload_n 3, 1) := dk_29 (dk_at dksX3_readMan_4 22 rfl rfl)
theorem dX3_readMan_114 : decode cX3_readMan 114 = .ok (.istore_n 2, 1) := dk_61 (dk_at dksX3_readMan_4 23 rfl rfl)
theorem dX3_readMan_115 : decode cX3_readMan 115 = .ok (.goto (-71), 3) := dk_167 255 185 (dk_at dksX3_readMan_5 0 rfl rfl)
theorem dX3_readMan_118 : decode cX3_readMan 118 = .ok (.return_, 1) := dk_177 (dk_at dksX3_readMan_5 3 rfl rfl)
abbrev cX3_oneOf : ByteArray := prog_9_method_20_code
def yX3_oneOf : MethodName := ⟨RX3, "oneOf", "(CI)I"⟩
def dkwX3_oneOf_2 : List UInt8 := [180, 0, 134, 42, 180, 0, 143, 4, 100, 51, 27, 100, 172]
abbrev dktX3_oneOf_2 : List UInt8 := dkwX3_oneOf_2 ++ []
def dkwX3_oneOf_1 : List UInt8 := [154, 0, 13, 42, 42, 180, 0, 143, 182, 0, 165, 3, 172, 42, 89, 180, 0, 143, 4, 96, 181, 0, 143, 42]
abbrev dktX3_oneOf_1 : List UInt8 := dkwX3_oneOf_1 ++ dktX3_oneOf_2
def dkwX3_oneOf_0 : List UInt8 := [42, 182, 0, 153, 154, 0, 5, 3, 172, 42, 182, 0, 157, 27, 27, 28, 96, 4, 100, 184, 0, 123]
abbrev dktX3_oneOf_0 : List UInt8 := dkwX3_oneOf_0 ++ dktX3_oneOf_1
theorem dksX3_oneOf_0 : cX3_oneOf.data.toList.drop 0 = dktX3_oneOf_0 := by decide +kernel
theorem dksX3_oneOf_1 : cX3_oneOf.data.toList.drop 22 = dktX3_oneOf_1 := dk_seg dksX3_oneOf_0 22 rfl rfl
theorem dksX3_oneOf_2 : cX3_oneOf.data.toList.drop 46 = dktX3_oneOf_2 := dk_seg dksX3_oneOf_1 24 rfl rfl
theorem dX3_oneOf_0 : decode cX3_oneOf 0 = .ok (.aload_n 0, 1) := dk_42 (dk_at dksX3_oneOf_0 0 rfl rfl)
theorem dX3_oneOf_1 : decode cX3_oneOf 1 = .ok (.invokevirtual 153, 3) := dk_182 0 153 (dk_at dksX3_oneOf_0 1 rfl rfl)
theorem dX3_oneOf_4 : decode cX3_oneOf 4 = .ok (.ifCond .ne 5, 3) := dk_154 0 5 (dk_at dksX3_oneOf_0 4 rfl rfl)
theorem dX3_oneOf_7 : decode cX3_oneOf 7 = .ok (.iconst 0, 1) := dk_3 (dk_at dksX3_oneOf_0 7 rfl rfl)
theorem dX3_oneOf_8 : decode cX3_oneOf 8 = .ok (.ireturn, 1) := dk_172 (dk_at dksX3_oneOf_0 8 rfl rfl)
theorem dX3_oneOf_9 : decode cX3_oneOf 9 = .ok (.aload_n 0, 1) := dk_42 (dk_at dksX3_oneOf_0 9 rfl rfl)
theorem dX3_oneOf_10 : decode cX3_oneOf 10 = .ok (.invokevirtual 157, 3) := dk_182 0 157 (dk_at dksX3_oneOf_0 10 rfl rfl)
theorem dX3_oneOf_13 : decode cX3_oneOf 13 = .ok (.iload_n 1, 1) := dk_27 (dk_at dksX3_oneOf_0 13 rfl rfl)
theorem dX3_oneOf_14 : decode cX3_oneOf 14 = .ok (.iload_n 1, 1) := dk_27 (dk_at dksX3_oneOf_0 14 rfl rfl)
theorem dX3_oneOf_15 : decode cX3_oneOf 15 = .ok (.iload_n 2, 1) := dk_28 (dk_at dksX3_oneOf_0 15 rfl rfl)
theorem dX3_oneOf_16 : decode cX3_oneOf 16 = .ok (.iadd, 1) := dk_96 (dk_at dksX3_oneOf_0 16 rfl rfl)
theorem dX3_oneOf_17 : decode cX3_oneOf 17 = .ok (.iconst 1, 1) := dk_4 (dk_at dksX3_oneOf_0 17 rfl rfl)
theorem dX3_oneOf_18 : decode cX3_oneOf 18 = .ok (.isub, 1) := dk_100 (dk_at dksX3_oneOf_0 18 rfl rfl)
theorem dX3_oneOf_19 : decode cX3_oneOf 19 = .ok (.invokestatic 123, 3) := dk_184 0 123 (dk_at dksX3_oneOf_0 19 rfl rfl)
theorem dX3_oneOf_22 : decode cX3_oneOf 22 = .ok (.ifCond .ne 13, 3) := dk_154 0 13 (dk_at dksX3_oneOf_1 0 rfl rfl)
theorem dX3_oneOf_25 : decode cX3_oneOf 25 = .ok (.aload_n 0, 1) := dk_42 (dk_at dksX3_oneOf_1 3 rfl rfl)
theorem dX3_oneOf_26 : decode cX3_oneOf 26 = .ok (.aload_n 0, 1) := dk_42 (dk_at dksX3_oneOf_1 4 rfl rfl)
theorem dX3_oneOf_27 : decode cX3_oneOf 27 = .ok (.getfield 143, 3) := dk_180 0 143 (dk_at dksX3_oneOf_1 5 rfl rfl)
theorem dX3_oneOf_30 : decode cX3_oneOf 30 = .ok (.invokevirtual 165, 3) := dk_182 0 165 (dk_at dksX3_oneOf_1 8 rfl rfl)
theorem dX3_oneOf_33 : decode cX3_oneOf 33 = .ok (.iconst 0, 1) := dk_3 (dk_at dksX3_oneOf_1 11 rfl rfl)
theorem dX3_oneOf_34 : decode cX3_oneOf 34 = .ok (.ireturn, 1) := dk_172 (dk_at dksX3_oneOf_1 12 rfl rfl)
theorem dX3_oneOf_35 : decode cX3_oneOf 35 = .ok (.aload_n 0, 1) := dk_42 (dk_at dksX3_oneOf_1 13 rfl rfl)
theorem dX3_oneOf_36 : decode cX3_oneOf 36 = .ok (.dup, 1) := dk_89 (dk_at dksX3_oneOf_1 14 rfl rfl)
theorem dX3_oneOf_37 : decode cX3_oneOf 37 = .ok (.getfield 143, 3) := dk_180 0 143 (dk_at dksX3_oneOf_1 15 rfl rfl)
theorem dX3_oneOf_40 : decode cX3_oneOf 40 = .ok (.iconst 1, 1) := dk_4 (dk_at dksX3_oneOf_1 18 rfl rfl)
theorem dX3_oneOf_41 : decode cX3_oneOf 41 = .ok (.iadd, 1) := dk_96 (dk_at dksX3_oneOf_1 19 rfl rfl)
theorem dX3_oneOf_42 : decode cX3_oneOf 42 = .ok (.putfield 143, 3) := dk_181 0 143 (dk_at dksX3_oneOf_1 20 rfl rfl)
theorem dX3_oneOf_45 : decode cX3_oneOf 45 = .ok (.aload_n 0, 1) := dk_42 (dk_at dksX3_oneOf_1 23 rfl rfl)
theorem dX3_oneOf_46 : decode cX3_oneOf 46 = .ok (.getfield 134, 3) := dk_180 0 134 (dk_at dksX3_oneOf_2 0 rfl rfl)
theorem dX3_oneOf_49 : decode cX3_oneOf 49 = .ok (.aload_n 0, 1) := dk_42 (dk_at dksX3_oneOf_2 3 rfl rfl)
theorem dX3_oneOf_50 : decode cX3_oneOf 50 = .ok (.getfield 143, 3) := dk_180 0 143 (dk_at dksX3_oneOf_2 4 rfl rfl)
theorem dX3_oneOf_53 : decode cX3_oneOf 53 = .ok (.iconst 1, 1) := dk_4 (dk_at dksX3_oneOf_2 7 rfl rfl)
theorem dX3_oneOf_54 : decode cX3_oneOf 54 = .ok (.isub, 1) := dk_100 (dk_at dksX3_oneOf_2 8 rfl rfl)
theorem dX3_oneOf_55 : decode cX3_oneOf 55 = .ok (.baload, 1) := dk_51 (dk_at dksX3_oneOf_2 9 rfl rfl)
theorem dX3_oneOf_56 : decode cX3_oneOf 56 = .ok (.iload_n 1, 1) := dk_27 (dk_at dksX3_oneOf_2 10 rfl rfl)
theorem dX3_oneOf_57 : decode cX3_oneOf 57 = .ok (.isub, 1) := dk_100 (dk_at dksX3_oneOf_2 11 rfl rfl)
theorem dX3_oneOf_58 : decode cX3_oneOf 58 = .ok (.ireturn, 1) := dk_172 (dk_at dksX3_oneOf_2 12 rfl rfl)
abbrev cX3_here : ByteArray := prog_9_method_15_code
def yX3_here : MethodName := ⟨RX3, "here", "()I"⟩
def dkwX3_here_1 : List UInt8 := [180, 0, 134, 42, 180, 0, 143, 51, 17, 0, 255, 126, 167, 0, 4, 2, 172]
abbrev dktX3_here_1 : List UInt8 := dkwX3_here_1 ++ []
def dkwX3_here_0 : List UInt8 := [42, 180, 0, 143, 42, 180, 0, 137, 162, 0, 30, 42, 180, 0, 143, 42, 180, 0, 140, 162, 0, 19, 42]
abbrev dktX3_here_0 : List UInt8 := dkwX3_here_0 ++ dktX3_here_1
theorem dksX3_here_0 : cX3_here.data.toList.drop 0 = dktX3_here_0 := by decide +kernel
theorem dksX3_here_1 : cX3_here.data.toList.drop 23 = dktX3_here_1 := dk_seg dksX3_here_0 23 rfl rfl
theorem dX3_here_0 : decode cX3_here 0 = .ok (.aload_n 0, 1) := dk_42 (dk_at dksX3_here_0 0 rfl rfl)
theorem dX3_here_1 : decode cX3_here 1 = .ok (.getfield 143, 3) := dk_180 0 143 (dk_at dksX3_here_0 1 rfl rfl)
theorem dX3_here_4 : decode cX3_here 4 = .ok (.aload_n 0, 1) := dk_42 (dk_at dksX3_here_0 4 rfl rfl)
theorem dX3_here_5 : decode cX3_here 5 = .ok (.getfield 137, 3) := dk_180 0 137 (dk_at dksX3_here_0 5 rfl rfl)
theorem dX3_here_8 : decode cX3_here 8 = .ok (.if_icmp .ge 30, 3) := dk_162 0 30 (dk_at dksX3_here_0 8 rfl rfl)
theorem dX3_here_11 : decode cX3_here 11 = .ok (.aload_n 0, 1) := dk_42 (dk_at dksX3_here_0 11 rfl rfl)
theorem dX3_here_12 : decode cX3_here 12 = .ok (.getfield 143, 3) := dk_180 0 143 (dk_at dksX3_here_0 12 rfl rfl)
theorem dX3_here_15 : decode cX3_here 15 = .ok (.aload_n 0, 1) := dk_42 (dk_at dksX3_here_0 15 rfl rfl)
theorem dX3_here_16 : decode cX3_here 16 = .ok (.getfield 140, 3) := dk_180 0 140 (dk_at dksX3_here_0 16 rfl rfl)
theorem dX3_here_19 : decode cX3_here 19 = .ok (.if_icmp .ge 19, 3) := dk_162 0 19 (dk_at dksX3_here_0 19 rfl rfl)
theorem dX3_here_22 : decode cX3_here 22 = .ok (.aload_n 0, 1) := dk_42 (dk_at dksX3_here_0 22 rfl rfl)
theorem dX3_here_23 : decode cX3_here 23 = .ok (.getfield 134, 3) := dk_180 0 134 (dk_at dksX3_here_1 0 rfl rfl)
theorem dX3_here_26 : decode cX3_here 26 = .ok (.aload_n 0, 1) := dk_42 (dk_at dksX3_here_1 3 rfl rfl)
theorem dX3_here_27 : decode cX3_here 27 = .ok (.getfield 143, 3) := dk_180 0 143 (dk_at dksX3_here_1 4 rfl rfl)
theorem dX3_here_30 : decode cX3_here 30 = .ok (.baload, 1) := dk_51 (dk_at dksX3_here_1 7 rfl rfl)
theorem dX3_here_31 : decode cX3_here 31 = .ok (.sipush 255, 3) := dk_17 0 255 (dk_at dksX3_here_1 8 rfl rfl)
theorem dX3_here_34 : decode cX3_here 34 = .ok (.iand, 1) := dk_126 (dk_at dksX3_here_1 11 rfl rfl)
theorem dX3_here_35 : decode cX3_here 35 = .ok (.goto 4, 3) := dk_167 0 4 (dk_at dksX3_here_1 12 rfl rfl)
theorem dX3_here_38 : decode cX3_here 38 = .ok (.iconst (-1), 1) := dk_2 (dk_at dksX3_here_1 15 rfl rfl)
theorem dX3_here_39 : decode cX3_here 39 = .ok (.ireturn, 1) := dk_172 (dk_at dksX3_here_1 16 rfl rfl)
abbrev cX3_passes : ByteArray := prog_9_method_18_code
def yX3_passes : MethodName := ⟨RX3, "passes", "(C)Z"⟩
def dkwX3_passes_1 : List UInt8 := [181, 0, 143, 4, 172]
abbrev dktX3_passes_1 : List UInt8 := dkwX3_passes_1 ++ []
def dkwX3_passes_0 : List UInt8 := [42, 182, 0, 153, 153, 0, 11, 42, 182, 0, 157, 27, 159, 0, 5, 3, 172, 42, 89, 180, 0, 143, 4, 96]
abbrev dktX3_passes_0 : List UInt8 := dkwX3_passes_0 ++ dktX3_passes_1
theorem dksX3_passes_0 : cX3_passes.data.toList.drop 0 = dktX3_passes_0 := by decide +kernel
theorem dksX3_passes_1 : cX3_passes.data.toList.drop 24 = dktX3_passes_1 := dk_seg dksX3_passes_0 24 rfl rfl
theorem dX3_passes_0 : decode cX3_passes 0 = .ok (.aload_n 0, 1) := dk_42 (dk_at dksX3_passes_0 0 rfl rfl)
theorem dX3_passes_1 : decode cX3_passes 1 = .ok (.invokevirtual 153, 3) := dk_182 0 153 (dk_at dksX3_passes_0 1 rfl rfl)
theorem dX3_passes_4 : decode cX3_passes 4 = .ok (.ifCond .eq 11, 3) := dk_153 0 11 (dk_at dksX3_passes_0 4 rfl rfl)
theorem dX3_passes_7 : decode cX3_passes 7 = .ok (.aload_n 0, 1) := dk_42 (dk_at dksX3_passes_0 7 rfl rfl)
theorem dX3_passes_8 : decode cX3_passes 8 = .ok (.invokevirtual 157, 3) := dk_182 0 157 (dk_at dksX3_passes_0 8 rfl rfl)
theorem dX3_passes_11 : decode cX3_passes 11 = .ok (.iload_n 1, 1) := dk_27 (dk_at dksX3_passes_0 11 rfl rfl)
theorem dX3_passes_12 : decode cX3_passes 12 = .ok (.if_icmp .eq 5, 3) := dk_159 0 5 (dk_at dksX3_passes_0 12 rfl rfl)
theorem dX3_passes_15 : decode cX3_passes 15 = .ok (.iconst 0, 1) := dk_3 (dk_at dksX3_passes_0 15 rfl rfl)
theorem dX3_passes_16 : decode cX3_passes 16 = .ok (.ireturn, 1) := dk_172 (dk_at dksX3_passes_0 16 rfl rfl)
theorem dX3_passes_17 : decode cX3_passes 17 = .ok (.aload_n 0, 1) := dk_42 (dk_at dksX3_passes_0 17 rfl rfl)
theorem dX3_passes_18 : decode cX3_passes 18 = .ok (.dup, 1) := dk_89 (dk_at dksX3_passes_0 18 rfl rfl)
theorem dX3_passes_19 : decode cX3_passes 19 = .ok (.getfield 143, 3) := dk_180 0 143 (dk_at dksX3_passes_0 19 rfl rfl)
theorem dX3_passes_22 : decode cX3_passes 22 = .ok (.iconst 1, 1) := dk_4 (dk_at dksX3_passes_0 22 rfl rfl)
theorem dX3_passes_23 : decode cX3_passes 23 = .ok (.iadd, 1) := dk_96 (dk_at dksX3_passes_0 23 rfl rfl)
theorem dX3_passes_24 : decode cX3_passes 24 = .ok (.putfield 143, 3) := dk_181 0 143 (dk_at dksX3_passes_1 0 rfl rfl)
theorem dX3_passes_27 : decode cX3_passes 27 = .ok (.iconst 1, 1) := dk_4 (dk_at dksX3_passes_1 3 rfl rfl)
theorem dX3_passes_28 : decode cX3_passes 28 = .ok (.ireturn, 1) := dk_172 (dk_at dksX3_passes_1 4 rfl rfl)
abbrev cX3_wasRight : ByteArray := prog_9_method_22_code
def yX3_wasRight : MethodName := ⟨RX3, "wasRight", "()Z"⟩
def dkwX3_wasRight_0 : List UInt8 := [42, 180, 0, 143, 42, 180, 0, 137, 162, 0, 11, 42, 42, 180, 0, 143, 182, 0, 165, 42, 182, 0, 153, 172]
abbrev dktX3_wasRight_0 : List UInt8 := dkwX3_wasRight_0 ++ []
theorem dksX3_wasRight_0 : cX3_wasRight.data.toList.drop 0 = dktX3_wasRight_0 := by decide +kernel
theorem dX3_wasRight_0 : decode cX3_wasRight 0 = .ok (.aload_n 0, 1) := dk_42 (dk_at dksX3_wasRight_0 0 rfl rfl)
theorem dX3_wasRight_1 : decode cX3_wasRight 1 = .ok (.getfield 143, 3) := dk_180 0 143 (dk_at dksX3_wasRight_0 1 rfl rfl)
theorem dX3_wasRight_4 : decode cX3_wasRight 4 = .ok (.aload_n 0, 1) := dk_42 (dk_at dksX3_wasRight_0 4 rfl rfl)
theorem dX3_wasRight_5 : decode cX3_wasRight 5 = .ok (.getfield 137, 3) := dk_180 0 137 (dk_at dksX3_wasRight_0 5 rfl rfl)
theorem dX3_wasRight_8 : decode cX3_wasRight 8 = .ok (.if_icmp .ge 11, 3) := dk_162 0 11 (dk_at dksX3_wasRight_0 8 rfl rfl)
theorem dX3_wasRight_11 : decode cX3_wasRight 11 = .ok (.aload_n 0, 1) := dk_42 (dk_at dksX3_wasRight_0 11 rfl rfl)
theorem dX3_wasRight_12 : decode cX3_wasRight 12 = .ok (.aload_n 0, 1) := dk_42 (dk_at dksX3_wasRight_0 12 rfl rfl)
theorem dX3_wasRight_13 : decode cX3_wasRight 13 = .ok (.getfield 143, 3) := dk_180 0 143 (dk_at dksX3_wasRight_0 13 rfl rfl)
theorem dX3_wasRight_16 : decode cX3_wasRight 16 = .ok (.invokevirtual 165, 3) := dk_182 0 165 (dk_at dksX3_wasRight_0 16 rfl rfl)
theorem dX3_wasRight_19 : decode cX3_wasRight 19 = .ok (.aload_n 0, 1) := dk_42 (dk_at dksX3_wasRight_0 19 rfl rfl)
theorem dX3_wasRight_20 : decode cX3_wasRight 20 = .ok (.invokevirtual 153, 3) := dk_182 0 153 (dk_at dksX3_wasRight_0 20 rfl rfl)
theorem dX3_wasRight_23 : decode cX3_wasRight 23 = .ok (.ireturn, 1) := dk_172 (dk_at dksX3_wasRight_0 23 rfl rfl)
abbrev cX3_rule : ByteArray := prog_9_method_31_code
def yX3_rule : MethodName := ⟨RX3, "rule", "()I"⟩
def dkwX3_rule_2 : List UInt8 := [167, 255, 236, 42, 27, 181, 0, 218, 3, 172]
abbrev dktX3_rule_2 : List UInt8 := dkwX3_rule_2 ++ []
def dkwX3_rule_1 : List UInt8 := [3, 61, 28, 27, 162, 0, 21, 42, 180, 0, 40, 28, 42, 180, 0, 29, 28, 51, 84, 132, 2, 1]
abbrev dktX3_rule_1 : List UInt8 := dkwX3_rule_1 ++ dktX3_rule_2
def dkwX3_rule_0 : List UInt8 := [42, 3, 181, 0, 114, 42, 180, 0, 131, 60, 42, 182, 0, 215, 154, 0, 10, 2, 42, 180, 0, 146, 100, 172]
abbrev dktX3_rule_0 : List UInt8 := dkwX3_rule_0 ++ dktX3_rule_1
theorem dksX3_rule_0 : cX3_rule.data.toList.drop 0 = dktX3_rule_0 := by decide +kernel
theorem dksX3_rule_1 : cX3_rule.data.toList.drop 24 = dktX3_rule_1 := dk_seg dksX3_rule_0 24 rfl rfl
theorem dksX3_rule_2 : cX3_rule.data.toList.drop 46 = dktX3_rule_2 := dk_seg dksX3_rule_1 22 rfl rfl
theorem dX3_rule_0 : decode cX3_rule 0 = .ok (.aload_n 0, 1) := dk_42 (dk_at dksX3_rule_0 0 rfl rfl)
theorem dX3_rule_1 : decode cX3_rule 1 = .ok (.iconst 0, 1) := dk_3 (dk_at dksX3_rule_0 1 rfl rfl)
theorem dX3_rule_2 : decode cX3_rule 2 = .ok (.putfield 114, 3) := dk_181 0 114 (dk_at dksX3_rule_0 2 rfl rfl)
theorem dX3_rule_5 : decode cX3_rule 5 = .ok (.aload_n 0, 1) := dk_42 (dk_at dksX3_rule_0 5 rfl rfl)
theorem dX3_rule_6 : decode cX3_rule 6 = .ok (.getfield 131, 3) := dk_180 0 131 (dk_at dksX3_rule_0 6 rfl rfl)
theorem dX3_rule_9 : decode cX3_rule 9 = .ok (.istore_n 1, 1) := dk_60 (dk_at dksX3_rule_0 9 rfl rfl)
theorem dX3_rule_10 : decode cX3_rule 10 = .ok (.aload_n 0, 1) := dk_42 (dk_at dksX3_rule_0 10 rfl rfl)
theorem dX3_rule_11 : decode cX3_rule 11 = .ok (.invokevirtual 215, 3) := dk_182 0 215 (dk_at dksX3_rule_0 11 rfl rfl)
theorem dX3_rule_14 : decode cX3_rule 14 = .ok (.ifCond .ne 10, 3) := dk_154 0 10 (dk_at dksX3_rule_0 14 rfl rfl)
theorem dX3_rule_17 : decode cX3_rule 17 = .ok (.iconst (-1), 1) := dk_2 (dk_at dksX3_rule_0 17 rfl rfl)
theorem dX3_rule_18 : decode cX3_rule 18 = .ok (.aload_n 0, 1) := dk_42 (dk_at dksX3_rule_0 18 rfl rfl)
theorem dX3_rule_19 : decode cX3_rule 19 = .ok (.getfield 146, 3) := dk_180 0 146 (dk_at dksX3_rule_0 19 rfl rfl)
theorem dX3_rule_22 : decode cX3_rule 22 = .ok (.isub, 1) := dk_100 (dk_at dksX3_rule_0 22 rfl rfl)
theorem dX3_rule_23 : decode cX3_rule 23 = .ok (.ireturn, 1) := dk_172 (dk_at dksX3_rule_0 23 rfl rfl)
theorem dX3_rule_24 : decode cX3_rule 24 = .ok (.iconst 0, 1) := dk_3 (dk_at dksX3_rule_1 0 rfl rfl)
theorem dX3_rule_25 : decode cX3_rule 25 = .ok (.istore_n 2, 1) := dk_61 (dk_at dksX3_rule_1 1 rfl rfl)
theorem dX3_rule_26 : decode cX3_rule 26 = .ok (.iload_n 2, 1) := dk_28 (dk_at dksX3_rule_1 2 rfl rfl)
theorem dX3_rule_27 : decode cX3_rule 27 = .ok (.iload_n 1, 1) := dk_27 (dk_at dksX3_rule_1 3 rfl rfl)
theorem dX3_rule_28 : decode cX3_rule 28 = .ok (.if_icmp .ge 21, 3) := dk_162 0 21 (dk_at dksX3_rule_1 4 rfl rfl)
theorem dX3_rule_31 : decode cX3_rule 31 = .ok (.aload_n 0, 1) := dk_42 (dk_at dksX3_rule_1 7 rfl rfl)
theorem dX3_rule_32 : decode cX3_rule 32 = .ok (.getfield 40, 3) := dk_180 0 40 (dk_at dksX3_rule_1 8 rfl rfl)
theorem dX3_rule_35 : decode cX3_rule 35 = .ok (.iload_n 2, 1) := dk_28 (dk_at dksX3_rule_1 11 rfl rfl)
theorem dX3_rule_36 : decode cX3_rule 36 = .ok (.aload_n 0, 1) := dk_42 (dk_at dksX3_rule_1 12 rfl rfl)
theorem dX3_rule_37 : decode cX3_rule 37 = .ok (.getfield 29, 3) := dk_180 0 29 (dk_at dksX3_rule_1 13 rfl rfl)
theorem dX3_rule_40 : decode cX3_rule 40 = .ok (.iload_n 2, 1) := dk_28 (dk_at dksX3_rule_1 16 rfl rfl)
theorem dX3_rule_41 : decode cX3_rule 41 = .ok (.baload, 1) := dk_51 (dk_at dksX3_rule_1 17 rfl rfl)
theorem dX3_rule_42 : decode cX3_rule 42 = .ok (.bastore, 1) := dk_84 (dk_at dksX3_rule_1 18 rfl rfl)
theorem dX3_rule_43 : decode cX3_rule 43 = .ok (.iinc 2 1, 3) := dk_132 2 1 (dk_at dksX3_rule_1 19 rfl rfl)
theorem dX3_rule_46 : decode cX3_rule 46 = .ok (.goto (-20), 3) := dk_167 255 236 (dk_at dksX3_rule_2 0 rfl rfl)
theorem dX3_rule_49 : decode cX3_rule 49 = .ok (.aload_n 0, 1) := dk_42 (dk_at dksX3_rule_2 3 rfl rfl)
theorem dX3_rule_50 : decode cX3_rule 50 = .ok (.iload_n 1, 1) := dk_27 (dk_at dksX3_rule_2 4 rfl rfl)
theorem dX3_rule_51 : decode cX3_rule 51 = .ok (.putfield 218, 3) := dk_181 0 218 (dk_at dksX3_rule_2 5 rfl rfl)
theorem dX3_rule_54 : decode cX3_rule 54 = .ok (.iconst 0, 1) := dk_3 (dk_at dksX3_rule_2 8 rfl rfl)
theorem dX3_rule_55 : decode cX3_rule 55 = .ok (.ireturn, 1) := dk_172 (dk_at dksX3_rule_2 9 rfl rfl)
abbrev cX3_readRule : ByteArray := prog_9_method_30_code
def yX3_readRule : MethodName := ⟨RX3, "readRule", "()Z"⟩
def dkwX3_readRule_1 : List UInt8 := [42, 182, 0, 179, 172]
abbrev dktX3_readRule_1 : List UInt8 := dkwX3_readRule_1 ++ []
def dkwX3_readRule_0 : List UInt8 := [42, 16, 40, 182, 0, 173, 42, 3, 181, 0, 211, 42, 180, 0, 137, 158, 0, 9, 42, 3, 182, 0, 198, 87]
abbrev dktX3_readRule_0 : List UInt8 := dkwX3_readRule_0 ++ dktX3_readRule_1
theorem dksX3_readRule_0 : cX3_readRule.data.toList.drop 0 = dktX3_readRule_0 := by decide +kernel
theorem dksX3_readRule_1 : cX3_readRule.data.toList.drop 24 = dktX3_readRule_1 := dk_seg dksX3_readRule_0 24 rfl rfl
theorem dX3_readRule_0 : decode cX3_readRule 0 = .ok (.aload_n 0, 1) := dk_42 (dk_at dksX3_readRule_0 0 rfl rfl)
theorem dX3_readRule_1 : decode cX3_readRule 1 = .ok (.bipush 40, 2) := dk_16 40 (dk_at dksX3_readRule_0 1 rfl rfl)
theorem dX3_readRule_3 : decode cX3_readRule 3 = .ok (.invokevirtual 173, 3) := dk_182 0 173 (dk_at dksX3_readRule_0 3 rfl rfl)
theorem dX3_readRule_6 : decode cX3_readRule 6 = .ok (.aload_n 0, 1) := dk_42 (dk_at dksX3_readRule_0 6 rfl rfl)
theorem dX3_readRule_7 : decode cX3_readRule 7 = .ok (.iconst 0, 1) := dk_3 (dk_at dksX3_readRule_0 7 rfl rfl)
theorem dX3_readRule_8 : decode cX3_readRule 8 = .ok (.putfield 211, 3) := dk_181 0 211 (dk_at dksX3_readRule_0 8 rfl rfl)
theorem dX3_readRule_11 : decode cX3_readRule 11 = .ok (.aload_n 0, 1) := dk_42 (dk_at dksX3_readRule_0 11 rfl rfl)
theorem dX3_readRule_12 : decode cX3_readRule 12 = .ok (.getfield 137, 3) := dk_180 0 137 (dk_at dksX3_readRule_0 12 rfl rfl)
theorem dX3_readRule_15 : decode cX3_readRule 15 = .ok (.ifCond .le 9, 3) := dk_158 0 9 (dk_at dksX3_readRule_0 15 rfl rfl)
theorem dX3_readRule_18 : decode cX3_readRule 18 = .ok (.aload_n 0, 1) := dk_42 (dk_at dksX3_readRule_0 18 rfl rfl)
theorem dX3_readRule_19 : decode cX3_readRule 19 = .ok (.iconst 0, 1) := dk_3 (dk_at dksX3_readRule_0 19 rfl rfl)
theorem dX3_readRule_20 : decode cX3_readRule 20 = .ok (.invokevirtual 198, 3) := dk_182 0 198 (dk_at dksX3_readRule_0 20 rfl rfl)
theorem dX3_readRule_23 : decode cX3_readRule 23 = .ok (.pop, 1) := dk_87 (dk_at dksX3_readRule_0 23 rfl rfl)
theorem dX3_readRule_24 : decode cX3_readRule 24 = .ok (.aload_n 0, 1) := dk_42 (dk_at dksX3_readRule_1 0 rfl rfl)
theorem dX3_readRule_25 : decode cX3_readRule 25 = .ok (.invokevirtual 179, 3) := dk_182 0 179 (dk_at dksX3_readRule_1 1 rfl rfl)
theorem dX3_readRule_28 : decode cX3_readRule 28 = .ok (.ireturn, 1) := dk_172 (dk_at dksX3_readRule_1 4 rfl rfl)
abbrev cX3_heldBy : ByteArray := prog_9_method_25_code
def yX3_heldBy : MethodName := ⟨RX3, "heldBy", "(I)I"⟩
def dkwX3_heldBy_3 : List UInt8 := [4, 167, 0, 4, 3, 172, 28, 172]
abbrev dktX3_heldBy_3 : List UInt8 := dkwX3_heldBy_3 ++ []
def dkwX3_heldBy_2 : List UInt8 := [4, 167, 0, 4, 3, 172, 42, 16, 61, 182, 0, 161, 153, 0, 18, 28, 42, 27, 182, 0, 188, 160, 0, 7]
abbrev dktX3_heldBy_2 : List UInt8 := dkwX3_heldBy_2 ++ dktX3_heldBy_3
def dkwX3_heldBy_1 : List UInt8 := [4, 167, 0, 4, 3, 172, 42, 16, 62, 182, 0, 161, 153, 0, 18, 28, 42, 27, 182, 0, 188, 164, 0, 7]
abbrev dktX3_heldBy_1 : List UInt8 := dkwX3_heldBy_1 ++ dktX3_heldBy_2
def dkwX3_heldBy_0 : List UInt8 := [42, 27, 182, 0, 188, 61, 42, 16, 60, 182, 0, 161, 153, 0, 18, 28, 42, 27, 182, 0, 188, 162, 0, 7]
abbrev dktX3_heldBy_0 : List UInt8 := dkwX3_heldBy_0 ++ dktX3_heldBy_1
theorem dksX3_heldBy_0 : cX3_heldBy.data.toList.drop 0 = dktX3_heldBy_0 := by decide +kernel
theorem dksX3_heldBy_1 : cX3_heldBy.data.toList.drop 24 = dktX3_heldBy_1 := dk_seg dksX3_heldBy_0 24 rfl rfl
theorem dksX3_heldBy_2 : cX3_heldBy.data.toList.drop 48 = dktX3_heldBy_2 := dk_seg dksX3_heldBy_1 24 rfl rfl
theorem dksX3_heldBy_3 : cX3_heldBy.data.toList.drop 72 = dktX3_heldBy_3 := dk_seg dksX3_heldBy_2 24 rfl rfl
theorem dX3_heldBy_0 : decode cX3_heldBy 0 = .ok (.aload_n 0, 1) := dk_42 (dk_at dksX3_heldBy_0 0 rfl rfl)
theorem dX3_heldBy_1 : decode cX3_heldBy 1 = .ok (.iload_n 1, 1) := dk_27 (dk_at dksX3_heldBy_0 1 rfl rfl)
theorem dX3_heldBy_2 : decode cX3_heldBy 2 = .ok (.invokevirtual 188, 3) := dk_182 0 188 (dk_at dksX3_heldBy_0 2 rfl rfl)
theorem dX3_heldBy_5 : decode cX3_heldBy 5 = .ok (.istore_n 2, 1) := dk_61 (dk_at dksX3_heldBy_0 5 rfl rfl)
theorem dX3_heldBy_6 : decode cX3_heldBy 6 = .ok (.aload_n 0, 1) := dk_42 (dk_at dksX3_heldBy_0 6 rfl rfl)
theorem dX3_heldBy_7 : decode cX3_heldBy 7 = .ok (.bipush 60, 2) := dk_16 60 (dk_at dksX3_heldBy_0 7 rfl rfl)
theorem dX3_heldBy_9 : decode cX3_heldBy 9 = .ok (.invokevirtual 161, 3) := dk_182 0 161 (dk_at dksX3_heldBy_0 9 rfl rfl)
theorem dX3_heldBy_12 : decode cX3_heldBy 12 = .ok (.ifCond .eq 18, 3) := dk_153 0 18 (dk_at dksX3_heldBy_0 12 rfl rfl)
theorem dX3_heldBy_15 : decode cX3_heldBy 15 = .ok (.iload_n 2, 1) := dk_28 (dk_at dksX3_heldBy_0 15 rfl rfl)
theorem dX3_heldBy_16 : decode cX3_heldBy 16 = .ok (.aload_n 0, 1) := dk_42 (dk_at dksX3_heldBy_0 16 rfl rfl)
theorem dX3_heldBy_17 : decode cX3_heldBy 17 = .ok (.iload_n 1, 1) := dk_27 (dk_at dksX3_heldBy_0 17 rfl rfl)
theorem dX3_heldBy_18 : decode cX3_heldBy 18 = .ok (.invokevirtual 188, 3) := dk_182 0 188 (dk_at dksX3_heldBy_0 18 rfl rfl)
theorem dX3_heldBy_21 : decode cX3_heldBy 21 = .ok (.if_icmp .ge 7, 3) := dk_162 0 7 (dk_at dksX3_heldBy_0 21 rfl rfl)
theorem dX3_heldBy_24 : decode cX3_heldBy 24 = .ok (.iconst 1, 1) := dk_4 (dk_at dksX3_heldBy_1 0 rfl rfl)
theorem dX3_heldBy_25 : decode cX3_heldBy 25 = .ok (.goto 4, 3) := dk_167 0 4 (dk_at dksX3_heldBy_1 1 rfl rfl)
theorem dX3_heldBy_28 : decode cX3_heldBy 28 = .ok (.iconst 0, 1) := dk_3 (dk_at dksX3_heldBy_1 4 rfl rfl)
theorem dX3_heldBy_29 : decode cX3_heldBy 29 = .ok (.ireturn, 1) := dk_172 (dk_at dksX3_heldBy_1 5 rfl rfl)
theorem dX3_heldBy_30 : decode cX3_heldBy 30 = .ok (.aload_n 0, 1) := dk_42 (dk_at dksX3_heldBy_1 6 rfl rfl)
theorem dX3_heldBy_31 : decode cX3_heldBy 31 = .ok (.bipush 62, 2) := dk_16 62 (dk_at dksX3_heldBy_1 7 rfl rfl)
theorem dX3_heldBy_33 : decode cX3_heldBy 33 = .ok (.invokevirtual 161, 3) := dk_182 0 161 (dk_at dksX3_heldBy_1 9 rfl rfl)
theorem dX3_heldBy_36 : decode cX3_heldBy 36 = .ok (.ifCond .eq 18, 3) := dk_153 0 18 (dk_at dksX3_heldBy_1 12 rfl rfl)
theorem dX3_heldBy_39 : decode cX3_heldBy 39 = .ok (.iload_n 2, 1) := dk_28 (dk_at dksX3_heldBy_1 15 rfl rfl)
theorem dX3_heldBy_40 : decode cX3_heldBy 40 = .ok (.aload_n 0, 1) := dk_42 (dk_at dksX3_heldBy_1 16 rfl rfl)
theorem dX3_heldBy_41 : decode cX3_heldBy 41 = .ok (.iload_n 1, 1) := dk_27 (dk_at dksX3_heldBy_1 17 rfl rfl)
theorem dX3_heldBy_42 : decode cX3_heldBy 42 = .ok (.invokevirtual 188, 3) := dk_182 0 188 (dk_at dksX3_heldBy_1 18 rfl rfl)
theorem dX3_heldBy_45 : decode cX3_heldBy 45 = .ok (.if_icmp .le 7, 3) := dk_164 0 7 (dk_at dksX3_heldBy_1 21 rfl rfl)
theorem dX3_heldBy_48 : decode cX3_heldBy 48 = .ok (.iconst 1, 1) := dk_4 (dk_at dksX3_heldBy_2 0 rfl rfl)
theorem dX3_heldBy_49 : decode cX3_heldBy 49 = .ok (.goto 4, 3) := dk_167 0 4 (dk_at dksX3_heldBy_2 1 rfl rfl)
theorem dX3_heldBy_52 : decode cX3_heldBy 52 = .ok (.iconst 0, 1) := dk_3 (dk_at dksX3_heldBy_2 4 rfl rfl)
theorem dX3_heldBy_53 : decode cX3_heldBy 53 = .ok (.ireturn, 1) := dk_172 (dk_at dksX3_heldBy_2 5 rfl rfl)
theorem dX3_heldBy_54 : decode cX3_heldBy 54 = .ok (.aload_n 0, 1) := dk_42 (dk_at dksX3_heldBy_2 6 rfl rfl)
theorem dX3_heldBy_55 : decode cX3_heldBy 55 = .ok (.bipush 61, 2) := dk_16 61 (dk_at dksX3_heldBy_2 7 rfl rfl)
theorem dX3_heldBy_57 : decode cX3_heldBy 57 = .ok (.invokevirtual 161, 3) := dk_182 0 161 (dk_at dksX3_heldBy_2 9 rfl rfl)
theorem dX3_heldBy_60 : decode cX3_heldBy 60 = .ok (.ifCond .eq 18, 3) := dk_153 0 18 (dk_at dksX3_heldBy_2 12 rfl rfl)
theorem dX3_heldBy_63 : decode cX3_heldBy 63 = .ok (.iload_n 2, 1) := dk_28 (dk_at dksX3_heldBy_2 15 rfl rfl)
theorem dX3_heldBy_64 : decode cX3_heldBy 64 = .ok (.aload_n 0, 1) := dk_42 (dk_at dksX3_heldBy_2 16 rfl rfl)
theorem dX3_heldBy_65 : decode cX3_heldBy 65 = .ok (.iload_n 1, 1) := dk_27 (dk_at dksX3_heldBy_2 17 rfl rfl)
theorem dX3_heldBy_66 : decode cX3_heldBy 66 = .ok (.invokevirtual 188, 3) := dk_182 0 188 (dk_at dksX3_heldBy_2 18 rfl rfl)
theorem dX3_heldBy_69 : decode cX3_heldBy 69 = .ok (.if_icmp .ne 7, 3) := dk_160 0 7 (dk_at dksX3_heldBy_2 21 rfl rfl)
theorem dX3_heldBy_72 : decode cX3_heldBy 72 = .ok (.iconst 1, 1) := dk_4 (dk_at dksX3_heldBy_3 0 rfl rfl)
theorem dX3_heldBy_73 : decode cX3_heldBy 73 = .ok (.goto 4, 3) := dk_167 0 4 (dk_at dksX3_heldBy_3 1 rfl rfl)
theorem dX3_heldBy_76 : decode cX3_heldBy 76 = .ok (.iconst 0, 1) := dk_3 (dk_at dksX3_heldBy_3 4 rfl rfl)
theorem dX3_heldBy_77 : decode cX3_heldBy 77 = .ok (.ireturn, 1) := dk_172 (dk_at dksX3_heldBy_3 5 rfl rfl)
theorem dX3_heldBy_78 : decode cX3_heldBy 78 = .ok (.iload_n 2, 1) := dk_28 (dk_at dksX3_heldBy_3 6 rfl rfl)
theorem dX3_heldBy_79 : decode cX3_heldBy 79 = .ok (.ireturn, 1) := dk_172 (dk_at dksX3_heldBy_3 7 rfl rfl)
abbrev cX3_sum : ByteArray := prog_9_method_26_code
def yX3_sum : MethodName := ⟨RX3, "sum", "(I)I"⟩
def dkwX3_sum_3 : List UInt8 := [167, 0, 7, 28, 21, 4, 100, 61, 167, 255, 183, 28, 172]
abbrev dktX3_sum_3 : List UInt8 := dkwX3_sum_3 ++ []
def dkwX3_sum_2 : List UInt8 := [89, 180, 0, 143, 4, 96, 181, 0, 143, 42, 27, 182, 0, 192, 54, 4, 29, 153, 0, 10, 28, 21, 4, 96]
abbrev dktX3_sum_2 : List UInt8 := dkwX3_sum_2 ++ dktX3_sum_3
def dkwX3_sum_1 : List UInt8 := [182, 0, 157, 16, 45, 160, 0, 54, 42, 182, 0, 157, 16, 43, 160, 0, 7, 4, 167, 0, 4, 3, 62, 42]
abbrev dktX3_sum_1 : List UInt8 := dkwX3_sum_1 ++ dktX3_sum_2
def dkwX3_sum_0 : List UInt8 := [42, 27, 182, 0, 192, 61, 42, 182, 0, 153, 153, 0, 72, 42, 182, 0, 157, 16, 43, 159, 0, 12, 42]
abbrev dktX3_sum_0 : List UInt8 := dkwX3_sum_0 ++ dktX3_sum_1
theorem dksX3_sum_0 : cX3_sum.data.toList.drop 0 = dktX3_sum_0 := by decide +kernel
theorem dksX3_sum_1 : cX3_sum.data.toList.drop 23 = dktX3_sum_1 := dk_seg dksX3_sum_0 23 rfl rfl
theorem dksX3_sum_2 : cX3_sum.data.toList.drop 47 = dktX3_sum_2 := dk_seg dksX3_sum_1 24 rfl rfl
theorem dksX3_sum_3 : cX3_sum.data.toList.drop 71 = dktX3_sum_3 := dk_seg dksX3_sum_2 24 rfl rfl
theorem dX3_sum_0 : decode cX3_sum 0 = .ok (.aload_n 0, 1) := dk_42 (dk_at dksX3_sum_0 0 rfl rfl)
theorem dX3_sum_1 : decode cX3_sum 1 = .ok (.iload_n 1, 1) := dk_27 (dk_at dksX3_sum_0 1 rfl rfl)
theorem dX3_sum_2 : decode cX3_sum 2 = .ok (.invokevirtual 192, 3) := dk_182 0 192 (dk_at dksX3_sum_0 2 rfl rfl)
theorem dX3_sum_5 : decode cX3_sum 5 = .ok (.istore_n 2, 1) := dk_61 (dk_at dksX3_sum_0 5 rfl rfl)
theorem dX3_sum_6 : decode cX3_sum 6 = .ok (.aload_n 0, 1) := dk_42 (dk_at dksX3_sum_0 6 rfl rfl)
theorem dX3_sum_7 : decode cX3_sum 7 = .ok (.invokevirtual 153, 3) := dk_182 0 153 (dk_at dksX3_sum_0 7 rfl rfl)
theorem dX3_sum_10 : decode cX3_sum 10 = .ok (.ifCond .eq 72, 3) := dk_153 0 72 (dk_at dksX3_sum_0 10 rfl rfl)
theorem dX3_sum_13 : decode cX3_sum 13 = .ok (.aload_n 0, 1) := dk_42 (dk_at dksX3_sum_0 13 rfl rfl)
theorem dX3_sum_14 : decode cX3_sum 14 = .ok (.invokevirtual 157, 3) := dk_182 0 157 (dk_at dksX3_sum_0 14 rfl rfl)
theorem dX3_sum_17 : decode cX3_sum 17 = .ok (.bipush 43, 2) := dk_16 43 (dk_at dksX3_sum_0 17 rfl rfl)
theorem dX3_sum_19 : decode cX3_sum 19 = .ok (.if_icmp .eq 12, 3) := dk_159 0 12 (dk_at dksX3_sum_0 19 rfl rfl)
theorem dX3_sum_22 : decode cX3_sum 22 = .ok (.aload_n 0, 1) := dk_42 (dk_at dksX3_sum_0 22 rfl rfl)
theorem dX3_sum_23 : decode cX3_sum 23 = .ok (.invokevirtual 157, 3) := dk_182 0 157 (dk_at dksX3_sum_1 0 rfl rfl)
theorem dX3_sum_26 : decode cX3_sum 26 = .ok (.bipush 45, 2) := dk_16 45 (dk_at dksX3_sum_1 3 rfl rfl)
theorem dX3_sum_28 : decode cX3_sum 28 = .ok (.if_icmp .ne 54, 3) := dk_160 0 54 (dk_at dksX3_sum_1 5 rfl rfl)
theorem dX3_sum_31 : decode cX3_sum 31 = .ok (.aload_n 0, 1) := dk_42 (dk_at dksX3_sum_1 8 rfl rfl)
theorem dX3_sum_32 : decode cX3_sum 32 = .ok (.invokevirtual 157, 3) := dk_182 0 157 (dk_at dksX3_sum_1 9 rfl rfl)
theorem dX3_sum_35 : decode cX3_sum 35 = .ok (.bipush 43, 2) := dk_16 43 (dk_at dksX3_sum_1 12 rfl rfl)
theorem dX3_sum_37 : decode cX3_sum 37 = .ok (.if_icmp .ne 7, 3) := dk_160 0 7 (dk_at dksX3_sum_1 14 rfl rfl)
theorem dX3_sum_40 : decode cX3_sum 40 = .ok (.iconst 1, 1) := dk_4 (dk_at dksX3_sum_1 17 rfl rfl)
theorem dX3_sum_41 : decode cX3_sum 41 = .ok (.goto 4, 3) := dk_167 0 4 (dk_at dksX3_sum_1 18 rfl rfl)
theorem dX3_sum_44 : decode cX3_sum 44 = .ok (.iconst 0, 1) := dk_3 (dk_at dksX3_sum_1 21 rfl rfl)
theorem dX3_sum_45 : decode cX3_sum 45 = .ok (.istore_n 3, 1) := dk_62 (dk_at dksX3_sum_1 22 rfl rfl)
theorem dX3_sum_46 : decode cX3_sum 46 = .ok (.aload_n 0, 1) := dk_42 (dk_at dksX3_sum_1 23 rfl rfl)
theorem dX3_sum_47 : decode cX3_sum 47 = .ok (.dup, 1) := dk_89 (dk_at dksX3_sum_2 0 rfl rfl)
theorem dX3_sum_48 : decode cX3_sum 48 = .ok (.getfield 143, 3) := dk_180 0 143 (dk_at dksX3_sum_2 1 rfl rfl)
theorem dX3_sum_51 : decode cX3_sum 51 = .ok (.iconst 1, 1) := dk_4 (dk_at dksX3_sum_2 4 rfl rfl)
theorem dX3_sum_52 : decode cX3_sum 52 = .ok (.iadd, 1) := dk_96 (dk_at dksX3_sum_2 5 rfl rfl)
theorem dX3_sum_53 : decode cX3_sum 53 = .ok (.putfield 143, 3) := dk_181 0 143 (dk_at dksX3_sum_2 6 rfl rfl)
theorem dX3_sum_56 : decode cX3_sum 56 = .ok (.aload_n 0, 1) := dk_42 (dk_at dksX3_sum_2 9 rfl rfl)
theorem dX3_sum_57 : decode cX3_sum 57 = .ok (.iload_n 1, 1) := dk_27 (dk_at dksX3_sum_2 10 rfl rfl)
theorem dX3_sum_58 : decode cX3_sum 58 = .ok (.invokevirtual 192, 3) := dk_182 0 192 (dk_at dksX3_sum_2 11 rfl rfl)
theorem dX3_sum_61 : decode cX3_sum 61 = .ok (.istore 4, 2) := dk_54 4 (dk_at dksX3_sum_2 14 rfl rfl)
theorem dX3_sum_63 : decode cX3_sum 63 = .ok (.iload_n 3, 1) := dk_29 (dk_at dksX3_sum_2 16 rfl rfl)
theorem dX3_sum_64 : decode cX3_sum 64 = .ok (.ifCond .eq 10, 3) := dk_153 0 10 (dk_at dksX3_sum_2 17 rfl rfl)
theorem dX3_sum_67 : decode cX3_sum 67 = .ok (.iload_n 2, 1) := dk_28 (dk_at dksX3_sum_2 20 rfl rfl)
theorem dX3_sum_68 : decode cX3_sum 68 = .ok (.iload 4, 2) := dk_21 4 (dk_at dksX3_sum_2 21 rfl rfl)
theorem dX3_sum_70 : decode cX3_sum 70 = .ok (.iadd, 1) := dk_96 (dk_at dksX3_sum_2 23 rfl rfl)
theorem dX3_sum_71 : decode cX3_sum 71 = .ok (.goto 7, 3) := dk_167 0 7 (dk_at dksX3_sum_3 0 rfl rfl)
theorem dX3_sum_74 : decode cX3_sum 74 = .ok (.iload_n 2, 1) := dk_28 (dk_at dksX3_sum_3 3 rfl rfl)
theorem dX3_sum_75 : decode cX3_sum 75 = .ok (.iload 4, 2) := dk_21 4 (dk_at dksX3_sum_3 4 rfl rfl)
theorem dX3_sum_77 : decode cX3_sum 77 = .ok (.isub, 1) := dk_100 (dk_at dksX3_sum_3 6 rfl rfl)
theorem dX3_sum_78 : decode cX3_sum 78 = .ok (.istore_n 2, 1) := dk_61 (dk_at dksX3_sum_3 7 rfl rfl)
theorem dX3_sum_79 : decode cX3_sum 79 = .ok (.goto (-73), 3) := dk_167 255 183 (dk_at dksX3_sum_3 8 rfl rfl)
theorem dX3_sum_82 : decode cX3_sum 82 = .ok (.iload_n 2, 1) := dk_28 (dk_at dksX3_sum_3 11 rfl rfl)
theorem dX3_sum_83 : decode cX3_sum 83 = .ok (.ireturn, 1) := dk_172 (dk_at dksX3_sum_3 12 rfl rfl)
abbrev cX3_product : ByteArray := prog_9_method_27_code
def yX3_product : MethodName := ⟨RX3, "product", "(I)I"⟩
def dkwX3_product_3 : List UInt8 := [167, 0, 16, 21, 4, 154, 0, 7, 3, 167, 0, 7, 28, 21, 4, 108, 61, 167, 255, 174, 28, 172]
abbrev dktX3_product_3 : List UInt8 := dkwX3_product_3 ++ []
def dkwX3_product_2 : List UInt8 := [89, 180, 0, 143, 4, 96, 181, 0, 143, 42, 27, 182, 0, 195, 54, 4, 29, 153, 0, 10, 28, 21, 4, 104]
abbrev dktX3_product_2 : List UInt8 := dkwX3_product_2 ++ dktX3_product_3
def dkwX3_product_1 : List UInt8 := [182, 0, 157, 16, 47, 160, 0, 63, 42, 182, 0, 157, 16, 42, 160, 0, 7, 4, 167, 0, 4, 3, 62, 42]
abbrev dktX3_product_1 : List UInt8 := dkwX3_product_1 ++ dktX3_product_2
def dkwX3_product_0 : List UInt8 := [42, 27, 182, 0, 195, 61, 42, 182, 0, 153, 153, 0, 81, 42, 182, 0, 157, 16, 42, 159, 0, 12, 42]
abbrev dktX3_product_0 : List UInt8 := dkwX3_product_0 ++ dktX3_product_1
theorem dksX3_product_0 : cX3_product.data.toList.drop 0 = dktX3_product_0 := by decide +kernel
theorem dksX3_product_1 : cX3_product.data.toList.drop 23 = dktX3_product_1 := dk_seg dksX3_product_0 23 rfl rfl
theorem dksX3_product_2 : cX3_product.data.toList.drop 47 = dktX3_product_2 := dk_seg dksX3_product_1 24 rfl rfl
theorem dksX3_product_3 : cX3_product.data.toList.drop 71 = dktX3_product_3 := dk_seg dksX3_product_2 24 rfl rfl
theorem dX3_product_0 : decode cX3_product 0 = .ok (.aload_n 0, 1) := dk_42 (dk_at dksX3_product_0 0 rfl rfl)
theorem dX3_product_1 : decode cX3_product 1 = .ok (.iload_n 1, 1) := dk_27 (dk_at dksX3_product_0 1 rfl rfl)
theorem dX3_product_2 : decode cX3_product 2 = .ok (.invokevirtual 195, 3) := dk_182 0 195 (dk_at dksX3_product_0 2 rfl rfl)
theorem dX3_product_5 : decode cX3_product 5 = .ok (.istore_n 2, 1) := dk_61 (dk_at dksX3_product_0 5 rfl rfl)
theorem dX3_product_6 : decode cX3_product 6 = .ok (.aload_n 0, 1) := dk_42 (dk_at dksX3_product_0 6 rfl rfl)
theorem dX3_product_7 : decode cX3_product 7 = .ok (.invokevirtual 153, 3) := dk_182 0 153 (dk_at dksX3_product_0 7 rfl rfl)
theorem dX3_product_10 : decode cX3_product 10 = .ok (.ifCond .eq 81, 3) := dk_153 0 81 (dk_at dksX3_product_0 10 rfl rfl)
theorem dX3_product_13 : decode cX3_product 13 = .ok (.aload_n 0, 1) := dk_42 (dk_at dksX3_product_0 13 rfl rfl)
theorem dX3_product_14 : decode cX3_product 14 = .ok (.invokevirtual 157, 3) := dk_182 0 157 (dk_at dksX3_product_0 14 rfl rfl)
theorem dX3_product_17 : decode cX3_product 17 = .ok (.bipush 42, 2) := dk_16 42 (dk_at dksX3_product_0 17 rfl rfl)
theorem dX3_product_19 : decode cX3_product 19 = .ok (.if_icmp .eq 12, 3) := dk_159 0 12 (dk_at dksX3_product_0 19 rfl rfl)
theorem dX3_product_22 : decode cX3_product 22 = .ok (.aload_n 0, 1) := dk_42 (dk_at dksX3_product_0 22 rfl rfl)
theorem dX3_product_23 : decode cX3_product 23 = .ok (.invokevirtual 157, 3) := dk_182 0 157 (dk_at dksX3_product_1 0 rfl rfl)
theorem dX3_product_26 : decode cX3_product 26 = .ok (.bipush 47, 2) := dk_16 47 (dk_at dksX3_product_1 3 rfl rfl)
theorem dX3_product_28 : decode cX3_product 28 = .ok (.if_icmp .ne 63, 3) := dk_160 0 63 (dk_at dksX3_product_1 5 rfl rfl)
theorem dX3_product_31 : decode cX3_product 31 = .ok (.aload_n 0, 1) := dk_42 (dk_at dksX3_product_1 8 rfl rfl)
theorem dX3_product_32 : decode cX3_product 32 = .ok (.invokevirtual 157, 3) := dk_182 0 157 (dk_at dksX3_product_1 9 rfl rfl)
theorem dX3_product_35 : decode cX3_product 35 = .ok (.bipush 42, 2) := dk_16 42 (dk_at dksX3_product_1 12 rfl rfl)
theorem dX3_product_37 : decode cX3_product 37 = .ok (.if_icmp .ne 7, 3) := dk_160 0 7 (dk_at dksX3_product_1 14 rfl rfl)
theorem dX3_product_40 : decode cX3_product 40 = .ok (.iconst 1, 1) := dk_4 (dk_at dksX3_product_1 17 rfl rfl)
theorem dX3_product_41 : decode cX3_product 41 = .ok (.goto 4, 3) := dk_167 0 4 (dk_at dksX3_product_1 18 rfl rfl)
theorem dX3_product_44 : decode cX3_product 44 = .ok (.iconst 0, 1) := dk_3 (dk_at dksX3_product_1 21 rfl rfl)
theorem dX3_product_45 : decode cX3_product 45 = .ok (.istore_n 3, 1) := dk_62 (dk_at dksX3_product_1 22 rfl rfl)
theorem dX3_product_46 : decode cX3_product 46 = .ok (.aload_n 0, 1) := dk_42 (dk_at dksX3_product_1 23 rfl rfl)
theorem dX3_product_47 : decode cX3_product 47 = .ok (.dup, 1) := dk_89 (dk_at dksX3_product_2 0 rfl rfl)
theorem dX3_product_48 : decode cX3_product 48 = .ok (.getfield 143, 3) := dk_180 0 143 (dk_at dksX3_product_2 1 rfl rfl)
theorem dX3_product_51 : decode cX3_product 51 = .ok (.iconst 1, 1) := dk_4 (dk_at dksX3_product_2 4 rfl rfl)
theorem dX3_product_52 : decode cX3_product 52 = .ok (.iadd, 1) := dk_96 (dk_at dksX3_product_2 5 rfl rfl)
theorem dX3_product_53 : decode cX3_product 53 = .ok (.putfield 143, 3) := dk_181 0 143 (dk_at dksX3_product_2 6 rfl rfl)
theorem dX3_product_56 : decode cX3_product 56 = .ok (.aload_n 0, 1) := dk_42 (dk_at dksX3_product_2 9 rfl rfl)
theorem dX3_product_57 : decode cX3_product 57 = .ok (.iload_n 1, 1) := dk_27 (dk_at dksX3_product_2 10 rfl rfl)
theorem dX3_product_58 : decode cX3_product 58 = .ok (.invokevirtual 195, 3) := dk_182 0 195 (dk_at dksX3_product_2 11 rfl rfl)
theorem dX3_product_61 : decode cX3_product 61 = .ok (.istore 4, 2) := dk_54 4 (dk_at dksX3_product_2 14 rfl rfl)
theorem dX3_product_63 : decode cX3_product 63 = .ok (.iload_n 3, 1) := dk_29 (dk_at dksX3_product_2 16 rfl rfl)
theorem dX3_product_64 : decode cX3_product 64 = .ok (.ifCond .eq 10, 3) := dk_153 0 10 (dk_at dksX3_product_2 17 rfl rfl)
theorem dX3_product_67 : decode cX3_product 67 = .ok (.iload_n 2, 1) := dk_28 (dk_at dksX3_product_2 20 rfl rfl)
theorem dX3_product_68 : decode cX3_product 68 = .ok (.iload 4, 2) := dk_21 4 (dk_at dksX3_product_2 21 rfl rfl)
theorem dX3_product_70 : decode cX3_product 70 = .ok (.imul, 1) := dk_104 (dk_at dksX3_product_2 23 rfl rfl)
theorem dX3_product_71 : decode cX3_product 71 = .ok (.goto 16, 3) := dk_167 0 16 (dk_at dksX3_product_3 0 rfl rfl)
theorem dX3_product_74 : decode cX3_product 74 = .ok (.iload 4, 2) := dk_21 4 (dk_at dksX3_product_3 3 rfl rfl)
theorem dX3_product_76 : decode cX3_product 76 = .ok (.ifCond .ne 7, 3) := dk_154 0 7 (dk_at dksX3_product_3 5 rfl rfl)
theorem dX3_product_79 : decode cX3_product 79 = .ok (.iconst 0, 1) := dk_3 (dk_at dksX3_product_3 8 rfl rfl)
theorem dX3_product_80 : decode cX3_product 80 = .ok (.goto 7, 3) := dk_167 0 7 (dk_at dksX3_product_3 9 rfl rfl)
theorem dX3_product_83 : decode cX3_product 83 = .ok (.iload_n 2, 1) := dk_28 (dk_at dksX3_product_3 12 rfl rfl)
theorem dX3_product_84 : decode cX3_product 84 = .ok (.iload 4, 2) := dk_21 4 (dk_at dksX3_product_3 13 rfl rfl)
theorem dX3_product_86 : decode cX3_product 86 = .ok (.idiv, 1) := dk_108 (dk_at dksX3_product_3 15 rfl rfl)
theorem dX3_product_87 : decode cX3_product 87 = .ok (.istore_n 2, 1) := dk_61 (dk_at dksX3_product_3 16 rfl rfl)
theorem dX3_product_88 : decode cX3_product 88 = .ok (.goto (-82), 3) := dk_167 255 174 (dk_at dksX3_product_3 17 rfl rfl)
theorem dX3_product_91 : decode cX3_product 91 = .ok (.iload_n 2, 1) := dk_28 (dk_at dksX3_product_3 20 rfl rfl)
theorem dX3_product_92 : decode cX3_product 92 = .ok (.ireturn, 1) := dk_172 (dk_at dksX3_product_3 21 rfl rfl)
abbrev cX3_thing : ByteArray := prog_9_method_29_code
def yX3_thing : MethodName := ⟨RX3, "thing", "(I)I"⟩
def dkwX3_thing_5 : List UInt8 := [153, 0, 15, 42, 180, 0, 46, 28, 184, 0, 208, 46, 167, 0, 4, 3, 172]
abbrev dktX3_thing_5 : List UInt8 := dkwX3_thing_5 ++ []
def dkwX3_thing_4 : List UInt8 := [180, 0, 143, 182, 0, 165, 3, 172, 42, 89, 180, 0, 143, 4, 96, 181, 0, 143, 42, 180, 0, 211]
abbrev dktX3_thing_4 : List UInt8 := dkwX3_thing_4 ++ dktX3_thing_5
def dkwX3_thing_3 : List UInt8 := [184, 0, 123, 153, 0, 9, 42, 6, 182, 0, 205, 172, 28, 184, 0, 208, 2, 160, 0, 13, 42, 42]
abbrev dktX3_thing_3 : List UInt8 := dkwX3_thing_3 ++ dktX3_thing_4
def dkwX3_thing_2 : List UInt8 := [181, 0, 143, 42, 27, 4, 96, 182, 0, 198, 62, 42, 16, 41, 182, 0, 201, 29, 172, 28, 16, 48, 16, 57]
abbrev dktX3_thing_2 : List UInt8 := dkwX3_thing_2 ++ dktX3_thing_3
def dkwX3_thing_1 : List UInt8 := [172, 42, 182, 0, 157, 61, 28, 16, 40, 160, 0, 34, 27, 7, 162, 0, 29, 42, 89, 180, 0, 143, 4, 96]
abbrev dktX3_thing_1 : List UInt8 := dkwX3_thing_1 ++ dktX3_thing_2
def dkwX3_thing_0 : List UInt8 := [42, 16, 45, 182, 0, 161, 153, 0, 10, 42, 27, 182, 0, 195, 116, 172, 42, 182, 0, 153, 154, 0, 5, 3]
abbrev dktX3_thing_0 : List UInt8 := dkwX3_thing_0 ++ dktX3_thing_1
theorem dksX3_thing_0 : cX3_thing.data.toList.drop 0 = dktX3_thing_0 := by decide +kernel
theorem dksX3_thing_1 : cX3_thing.data.toList.drop 24 = dktX3_thing_1 := dk_seg dksX3_thing_0 24 rfl rfl
theorem dksX3_thing_2 : cX3_thing.data.toList.drop 48 = dktX3_thing_2 := dk_seg dksX3_thing_1 24 rfl rfl
theorem dksX3_thing_3 : cX3_thing.data.toList.drop 72 = dktX3_thing_3 := dk_seg dksX3_thing_2 24 rfl rfl
theorem dksX3_thing_4 : cX3_thing.data.toList.drop 94 = dktX3_thing_4 := dk_seg dksX3_thing_3 22 rfl rfl
theorem dksX3_thing_5 : cX3_thing.data.toList.drop 116 = dktX3_thing_5 := dk_seg dksX3_thing_4 22 rfl rfl
theorem dX3_thing_0 : decode cX3_thing 0 = .ok (.aload_n 0, 1) := dk_42 (dk_at dksX3_thing_0 0 rfl rfl)
theorem dX3_thing_1 : decode cX3_thing 1 = .ok (.bipush 45, 2) := dk_16 45 (dk_at dksX3_thing_0 1 rfl rfl)
theorem dX3_thing_3 : decode cX3_thing 3 = .ok (.invokevirtual 161, 3) := dk_182 0 161 (dk_at dksX3_thing_0 3 rfl rfl)
theorem dX3_thing_6 : decode cX3_thing 6 = .ok (.ifCond .eq 10, 3) := dk_153 0 10 (dk_at dksX3_thing_0 6 rfl rfl)
theorem dX3_thing_9 : decode cX3_thing 9 = .ok (.aload_n 0, 1) := dk_42 (dk_at dksX3_thing_0 9 rfl rfl)
theorem dX3_thing_10 : decode cX3_thing 10 = .ok (.iload_n 1, 1) := dk_27 (dk_at dksX3_thing_0 10 rfl rfl)
theorem dX3_thing_11 : decode cX3_thing 11 = .ok (.invokevirtual 195, 3) := dk_182 0 195 (dk_at dksX3_thing_0 11 rfl rfl)
theorem dX3_thing_14 : decode cX3_thing 14 = .ok (.ineg, 1) := dk_116 (dk_at dksX3_thing_0 14 rfl rfl)
theorem dX3_thing_15 : decode cX3_thing 15 = .ok (.ireturn, 1) := dk_172 (dk_at dksX3_thing_0 15 rfl rfl)
theorem dX3_thing_16 : decode cX3_thing 16 = .ok (.aload_n 0, 1) := dk_42 (dk_at dksX3_thing_0 16 rfl rfl)
theorem dX3_thing_17 : decode cX3_thing 17 = .ok (.invokevirtual 153, 3) := dk_182 0 153 (dk_at dksX3_thing_0 17 rfl rfl)
theorem dX3_thing_20 : decode cX3_thing 20 = .ok (.ifCond .ne 5, 3) := dk_154 0 5 (dk_at dksX3_thing_0 20 rfl rfl)
theorem dX3_thing_23 : decode cX3_thing 23 = .ok (.iconst 0, 1) := dk_3 (dk_at dksX3_thing_0 23 rfl rfl)
theorem dX3_thing_24 : decode cX3_thing 24 = .ok (.ireturn, 1) := dk_172 (dk_at dksX3_thing_1 0 rfl rfl)
theorem dX3_thing_25 : decode cX3_thing 25 = .ok (.aload_n 0, 1) := dk_42 (dk_at dksX3_thing_1 1 rfl rfl)
theorem dX3_thing_26 : decode cX3_thing 26 = .ok (.invokevirtual 157, 3) := dk_182 0 157 (dk_at dksX3_thing_1 2 rfl rfl)
theorem dX3_thing_29 : decode cX3_thing 29 = .ok (.istore_n 2, 1) := dk_61 (dk_at dksX3_thing_1 5 rfl rfl)
theorem dX3_thing_30 : decode cX3_thing 30 = .ok (.iload_n 2, 1) := dk_28 (dk_at dksX3_thing_1 6 rfl rfl)
theorem dX3_thing_31 : decode cX3_thing 31 = .ok (.bipush 40, 2) := dk_16 40 (dk_at dksX3_thing_1 7 rfl rfl)
theorem dX3_thing_33 : decode cX3_thing 33 = .ok (.if_icmp .ne 34, 3) := dk_160 0 34 (dk_at dksX3_thing_1 9 rfl rfl)
theorem dX3_thing_36 : decode cX3_thing 36 = .ok (.iload_n 1, 1) := dk_27 (dk_at dksX3_thing_1 12 rfl rfl)
theorem dX3_thing_37 : decode cX3_thing 37 = .ok (.iconst 4, 1) := dk_7 (dk_at dksX3_thing_1 13 rfl rfl)
theorem dX3_thing_38 : decode cX3_thing 38 = .ok (.if_icmp .ge 29, 3) := dk_162 0 29 (dk_at dksX3_thing_1 14 rfl rfl)
theorem dX3_thing_41 : decode cX3_thing 41 = .ok (.aload_n 0, 1) := dk_42 (dk_at dksX3_thing_1 17 rfl rfl)
theorem dX3_thing_42 : decode cX3_thing 42 = .ok (.dup, 1) := dk_89 (dk_at dksX3_thing_1 18 rfl rfl)
theorem dX3_thing_43 : decode cX3_thing 43 = .ok (.getfield 143, 3) := dk_180 0 143 (dk_at dksX3_thing_1 19 rfl rfl)
theorem dX3_thing_46 : decode cX3_thing 46 = .ok (.iconst 1, 1) := dk_4 (dk_at dksX3_thing_1 22 rfl rfl)
theorem dX3_thing_47 : decode cX3_thing 47 = .ok (.iadd, 1) := dk_96 (dk_at dksX3_thing_1 23 rfl rfl)
theorem dX3_thing_48 : decode cX3_thing 48 = .ok (.putfield 143, 3) := dk_181 0 143 (dk_at dksX3_thing_2 0 rfl rfl)
theorem dX3_thing_51 : decode cX3_thing 51 = .ok (.aload_n 0, 1) := dk_42 (dk_at dksX3_thing_2 3 rfl rfl)
theorem dX3_thing_52 : decode cX3_thing 52 = .ok (.iload_n 1, 1) := dk_27 (dk_at dksX3_thing_2 4 rfl rfl)
theorem dX3_thing_53 : decode cX3_thing 53 = .ok (.iconst 1, 1) := dk_4 (dk_at dksX3_thing_2 5 rfl rfl)
theorem dX3_thing_54 : decode cX3_thing 54 = .ok (.iadd, 1) := dk_96 (dk_at dksX3_thing_2 6 rfl rfl)
theorem dX3_thing_55 : decode cX3_thing 55 = .ok (.invokevirtual 198, 3) := dk_182 0 198 (dk_at dksX3_thing_2 7 rfl rfl)
theorem dX3_thing_58 : decode cX3_thing 58 = .ok (.istore_n 3, 1) := dk_62 (dk_at dksX3_thing_2 10 rfl rfl)
theorem dX3_thing_59 : decode cX3_thing 59 = .ok (.aload_n 0, 1) := dk_42 (dk_at dksX3_thing_2 11 rfl rfl)
theorem dX3_thing_60 : decode cX3_thing 60 = .ok (.bipush 41, 2) := dk_16 41 (dk_at dksX3_thing_2 12 rfl rfl)
theorem dX3_thing_62 : decode cX3_thing 62 = .ok (.invokevirtual 201, 3) := dk_182 0 201 (dk_at dksX3_thing_2 14 rfl rfl)
theorem dX3_thing_65 : decode cX3_thing 65 = .ok (.iload_n 3, 1) := dk_29 (dk_at dksX3_thing_2 17 rfl rfl)
theorem dX3_thing_66 : decode cX3_thing 66 = .ok (.ireturn, 1) := dk_172 (dk_at dksX3_thing_2 18 rfl rfl)
theorem dX3_thing_67 : decode cX3_thing 67 = .ok (.iload_n 2, 1) := dk_28 (dk_at dksX3_thing_2 19 rfl rfl)
theorem dX3_thing_68 : decode cX3_thing 68 = .ok (.bipush 48, 2) := dk_16 48 (dk_at dksX3_thing_2 20 rfl rfl)
theorem dX3_thing_70 : decode cX3_thing 70 = .ok (.bipush 57, 2) := dk_16 57 (dk_at dksX3_thing_2 22 rfl rfl)
theorem dX3_thing_72 : decode cX3_thing 72 = .ok (.invokestatic 123, 3) := dk_184 0 123 (dk_at dksX3_thing_3 0 rfl rfl)
theorem dX3_thing_75 : decode cX3_thing 75 = .ok (.ifCond .eq 9, 3) := dk_153 0 9 (dk_at dksX3_thing_3 3 rfl rfl)
theorem dX3_thing_78 : decode cX3_thing 78 = .ok (.aload_n 0, 1) := dk_42 (dk_at dksX3_thing_3 6 rfl rfl)
theorem dX3_thing_79 : decode cX3_thing 79 = .ok (.iconst 3, 1) := dk_6 (dk_at dksX3_thing_3 7 rfl rfl)
theorem dX3_thing_80 : decode cX3_thing 80 = .ok (.invokevirtual 205, 3) := dk_182 0 205 (dk_at dksX3_thing_3 8 rfl rfl)
theorem dX3_thing_83 : decode cX3_thing 83 = .ok (.ireturn, 1) := dk_172 (dk_at dksX3_thing_3 11 rfl rfl)
theorem dX3_thing_84 : decode cX3_thing 84 = .ok (.iload_n 2, 1) := dk_28 (dk_at dksX3_thing_3 12 rfl rfl)
theorem dX3_thing_85 : decode cX3_thing 85 = .ok (.invokestatic 208, 3) := dk_184 0 208 (dk_at dksX3_thing_3 13 rfl rfl)
theorem dX3_thing_88 : decode cX3_thing 88 = .ok (.iconst (-1), 1) := dk_2 (dk_at dksX3_thing_3 16 rfl rfl)
theorem dX3_thing_89 : decode cX3_thing 89 = .ok (.if_icmp .ne 13, 3) := dk_160 0 13 (dk_at dksX3_thing_3 17 rfl rfl)
theorem dX3_thing_92 : decode cX3_thing 92 = .ok (.aload_n 0, 1) := dk_42 (dk_at dksX3_thing_3 20 rfl rfl)
theorem dX3_thing_93 : decode cX3_thing 93 = .ok (.aload_n 0, 1) := dk_42 (dk_at dksX3_thing_3 21 rfl rfl)
theorem dX3_thing_94 : decode cX3_thing 94 = .ok (.getfield 143, 3) := dk_180 0 143 (dk_at dksX3_thing_4 0 rfl rfl)
theorem dX3_thing_97 : decode cX3_thing 97 = .ok (.invokevirtual 165, 3) := dk_182 0 165 (dk_at dksX3_thing_4 3 rfl rfl)
theorem dX3_thing_100 : decode cX3_thing 100 = .ok (.iconst 0, 1) := dk_3 (dk_at dksX3_thing_4 6 rfl rfl)
theorem dX3_thing_101 : decode cX3_thing 101 = .ok (.ireturn, 1) := dk_172 (dk_at dksX3_thing_4 7 rfl rfl)
theorem dX3_thing_102 : decode cX3_thing 102 = .ok (.aload_n 0, 1) := dk_42 (dk_at dksX3_thing_4 8 rfl rfl)
theorem dX3_thing_103 : decode cX3_thing 103 = .ok (.dup, 1) := dk_89 (dk_at dksX3_thing_4 9 rfl rfl)
theorem dX3_thing_104 : decode cX3_thing 104 = .ok (.getfield 143, 3) := dk_180 0 143 (dk_at dksX3_thing_4 10 rfl rfl)
theorem dX3_thing_107 : decode cX3_thing 107 = .ok (.iconst 1, 1) := dk_4 (dk_at dksX3_thing_4 13 rfl rfl)
theorem dX3_thing_108 : decode cX3_thing 108 = .ok (.iadd, 1) := dk_96 (dk_at dksX3_thing_4 14 rfl rfl)
theorem dX3_thing_109 : decode cX3_thing 109 = .ok (.putfield 143, 3) := dk_181 0 143 (dk_at dksX3_thing_4 15 rfl rfl)
theorem dX3_thing_112 : decode cX3_thing 112 = .ok (.aload_n 0, 1) := dk_42 (dk_at dksX3_thing_4 18 rfl rfl)
theorem dX3_thing_113 : decode cX3_thing 113 = .ok (.getfield 211, 3) := dk_180 0 211 (dk_at dksX3_thing_4 19 rfl rfl)
theorem dX3_thing_116 : decode cX3_thing 116 = .ok (.ifCond .eq 15, 3) := dk_153 0 15 (dk_at dksX3_thing_5 0 rfl rfl)
theorem dX3_thing_119 : decode cX3_thing 119 = .ok (.aload_n 0, 1) := dk_42 (dk_at dksX3_thing_5 3 rfl rfl)
theorem dX3_thing_120 : decode cX3_thing 120 = .ok (.getfield 46, 3) := dk_180 0 46 (dk_at dksX3_thing_5 4 rfl rfl)
theorem dX3_thing_123 : decode cX3_thing 123 = .ok (.iload_n 2, 1) := dk_28 (dk_at dksX3_thing_5 7 rfl rfl)
theorem dX3_thing_124 : decode cX3_thing 124 = .ok (.invokestatic 208, 3) := dk_184 0 208 (dk_at dksX3_thing_5 8 rfl rfl)
theorem dX3_thing_127 : decode cX3_thing 127 = .ok (.iaload, 1) := dk_46 (dk_at dksX3_thing_5 11 rfl rfl)
theorem dX3_thing_128 : decode cX3_thing 128 = .ok (.goto 4, 3) := dk_167 0 4 (dk_at dksX3_thing_5 12 rfl rfl)
theorem dX3_thing_131 : decode cX3_thing 131 = .ok (.iconst 0, 1) := dk_3 (dk_at dksX3_thing_5 15 rfl rfl)
theorem dX3_thing_132 : decode cX3_thing 132 = .ok (.ireturn, 1) := dk_172 (dk_at dksX3_thing_5 16 rfl rfl)
abbrev cX3_need : ByteArray := prog_9_method_19_code
def yX3_need : MethodName := ⟨RX3, "need", "(C)V"⟩
def dkwX3_need_0 : List UInt8 := [42, 27, 182, 0, 161, 154, 0, 11, 42, 42, 180, 0, 143, 182, 0, 165, 177]
abbrev dktX3_need_0 : List UInt8 := dkwX3_need_0 ++ []
theorem dksX3_need_0 : cX3_need.data.toList.drop 0 = dktX3_need_0 := by decide +kernel
theorem dX3_need_0 : decode cX3_need 0 = .ok (.aload_n 0, 1) := dk_42 (dk_at dksX3_need_0 0 rfl rfl)
theorem dX3_need_1 : decode cX3_need 1 = .ok (.iload_n 1, 1) := dk_27 (dk_at dksX3_need_0 1 rfl rfl)
theorem dX3_need_2 : decode cX3_need 2 = .ok (.invokevirtual 161, 3) := dk_182 0 161 (dk_at dksX3_need_0 2 rfl rfl)
theorem dX3_need_5 : decode cX3_need 5 = .ok (.ifCond .ne 11, 3) := dk_154 0 11 (dk_at dksX3_need_0 5 rfl rfl)
theorem dX3_need_8 : decode cX3_need 8 = .ok (.aload_n 0, 1) := dk_42 (dk_at dksX3_need_0 8 rfl rfl)
theorem dX3_need_9 : decode cX3_need 9 = .ok (.aload_n 0, 1) := dk_42 (dk_at dksX3_need_0 9 rfl rfl)
theorem dX3_need_10 : decode cX3_need 10 = .ok (.getfield 143, 3) := dk_180 0 143 (dk_at dksX3_need_0 10 rfl rfl)
theorem dX3_need_13 : decode cX3_need 13 = .ok (.invokevirtual 165, 3) := dk_182 0 165 (dk_at dksX3_need_0 13 rfl rfl)
theorem dX3_need_16 : decode cX3_need 16 = .ok (.return_, 1) := dk_177 (dk_at dksX3_need_0 16 rfl rfl)
abbrev cX3_number : ByteArray := prog_9_method_21_code
def yX3_number : MethodName := ⟨RX3, "number", "(I)I"⟩
def dkwX3_number_2 : List UInt8 := [182, 0, 169, 96, 61, 132, 3, 1, 167, 255, 213, 28, 172]
abbrev dktX3_number_2 : List UInt8 := dkwX3_number_2 ++ []
def dkwX3_number_1 : List UInt8 := [182, 0, 157, 16, 48, 16, 57, 184, 0, 123, 153, 0, 23, 16, 10, 28, 104, 42, 16, 48, 16, 10]
abbrev dktX3_number_1 : List UInt8 := dkwX3_number_1 ++ dktX3_number_2
def dkwX3_number_0 : List UInt8 := [42, 16, 48, 16, 10, 182, 0, 169, 61, 4, 62, 29, 27, 162, 0, 44, 42, 182, 0, 153, 153, 0, 37, 42]
abbrev dktX3_number_0 : List UInt8 := dkwX3_number_0 ++ dktX3_number_1
theorem dksX3_number_0 : cX3_number.data.toList.drop 0 = dktX3_number_0 := by decide +kernel
theorem dksX3_number_1 : cX3_number.data.toList.drop 24 = dktX3_number_1 := dk_seg dksX3_number_0 24 rfl rfl
theorem dksX3_number_2 : cX3_number.data.toList.drop 46 = dktX3_number_2 := dk_seg dksX3_number_1 22 rfl rfl
theorem dX3_number_0 : decode cX3_number 0 = .ok (.aload_n 0, 1) := dk_42 (dk_at dksX3_number_0 0 rfl rfl)
theorem dX3_number_1 : decode cX3_number 1 = .ok (.bipush 48, 2) := dk_16 48 (dk_at dksX3_number_0 1 rfl rfl)
theorem dX3_number_3 : decode cX3_number 3 = .ok (.bipush 10, 2) := dk_16 10 (dk_at dksX3_number_0 3 rfl rfl)
theorem dX3_number_5 : decode cX3_number 5 = .ok (.invokevirtual 169, 3) := dk_182 0 169 (dk_at dksX3_number_0 5 rfl rfl)
theorem dX3_number_8 : decode cX3_number 8 = .ok (.istore_n 2, 1) := dk_61 (dk_at dksX3_number_0 8 rfl rfl)
theorem dX3_number_9 : decode cX3_number 9 = .ok (.iconst 1, 1) := dk_4 (dk_at dksX3_number_0 9 rfl rfl)
theorem dX3_number_10 : decode cX3_number 10 = .ok (.istore_n 3, 1) := dk_62 (dk_at dksX3_number_0 10 rfl rfl)
theorem dX3_number_11 : decode cX3_number 11 = .ok (.iload_n 3, 1) := dk_29 (dk_at dksX3_number_0 11 rfl rfl)
theorem dX3_number_12 : decode cX3_number 12 = .ok (.iload_n 1, 1) := dk_27 (dk_at dksX3_number_0 12 rfl rfl)
theorem dX3_number_13 : decode cX3_number 13 = .ok (.if_icmp .ge 44, 3) := dk_162 0 44 (dk_at dksX3_number_0 13 rfl rfl)
theorem dX3_number_16 : decode cX3_number 16 = .ok (.aload_n 0, 1) := dk_42 (dk_at dksX3_number_0 16 rfl rfl)
theorem dX3_number_17 : decode cX3_number 17 = .ok (.invokevirtual 153, 3) := dk_182 0 153 (dk_at dksX3_number_0 17 rfl rfl)
theorem dX3_number_20 : decode cX3_number 20 = .ok (.ifCond .eq 37, 3) := dk_153 0 37 (dk_at dksX3_number_0 20 rfl rfl)
theorem dX3_number_23 : decode cX3_number 23 = .ok (.aload_n 0, 1) := dk_42 (dk_at dksX3_number_0 23 rfl rfl)
theorem dX3_number_24 : decode cX3_number 24 = .ok (.invokevirtual 157, 3) := dk_182 0 157 (dk_at dksX3_number_1 0 rfl rfl)
theorem dX3_number_27 : decode cX3_number 27 = .ok (.bipush 48, 2) := dk_16 48 (dk_at dksX3_number_1 3 rfl rfl)
theorem dX3_number_29 : decode cX3_number 29 = .ok (.bipush 57, 2) := dk_16 57 (dk_at dksX3_number_1 5 rfl rfl)
theorem dX3_number_31 : decode cX3_number 31 = .ok (.invokestatic 123, 3) := dk_184 0 123 (dk_at dksX3_number_1 7 rfl rfl)
theorem dX3_number_34 : decode cX3_number 34 = .ok (.ifCond .eq 23, 3) := dk_153 0 23 (dk_at dksX3_number_1 10 rfl rfl)
theorem dX3_number_37 : decode cX3_number 37 = .ok (.bipush 10, 2) := dk_16 10 (dk_at dksX3_number_1 13 rfl rfl)
theorem dX3_number_39 : decode cX3_number 39 = .ok (.iload_n 2, 1) := dk_28 (dk_at dksX3_number_1 15 rfl rfl)
theorem dX3_number_40 : decode cX3_number 40 = .ok (.imul, 1) := dk_104 (dk_at dksX3_number_1 16 rfl rfl)
theorem dX3_number_41 : decode cX3_number 41 = .ok (.aload_n 0, 1) := dk_42 (dk_at dksX3_number_1 17 rfl rfl)
theorem dX3_number_42 : decode cX3_number 42 = .ok (.bipush 48, 2) := dk_16 48 (dk_at dksX3_number_1 18 rfl rfl)
theorem dX3_number_44 : decode cX3_number 44 = .ok (.bipush 10, 2) := dk_16 10 (dk_at dksX3_number_1 20 rfl rfl)
theorem dX3_number_46 : decode cX3_number 46 = .ok (.invokevirtual 169, 3) := dk_182 0 169 (dk_at dksX3_number_2 0 rfl rfl)
theorem dX3_number_49 : decode cX3_number 49 = .ok (.iadd, 1) := dk_96 (dk_at dksX3_number_2 3 rfl rfl)
theorem dX3_number_50 : decode cX3_number 50 = .ok (.istore_n 2, 1) := dk_61 (dk_at dksX3_number_2 4 rfl rfl)
theorem dX3_number_51 : decode cX3_number 51 = .ok (.iinc 3 1, 3) := dk_132 3 1 (dk_at dksX3_number_2 5 rfl rfl)
theorem dX3_number_54 : decode cX3_number 54 = .ok (.goto (-43), 3) := dk_167 255 213 (dk_at dksX3_number_2 8 rfl rfl)
theorem dX3_number_57 : decode cX3_number 57 = .ok (.iload_n 2, 1) := dk_28 (dk_at dksX3_number_2 11 rfl rfl)
theorem dX3_number_58 : decode cX3_number 58 = .ok (.ireturn, 1) := dk_172 (dk_at dksX3_number_2 12 rfl rfl)
abbrev cX3_letterOf : ByteArray := prog_9_method_28_code
def yX3_letterOf : MethodName := ⟨RX3, "letterOf", "(I)I"⟩
def dkwX3_letterOf_3 : List UInt8 := [2, 172]
abbrev dktX3_letterOf_3 : List UInt8 := dkwX3_letterOf_3 ++ []
def dkwX3_letterOf_2 : List UInt8 := [167, 0, 25, 26, 16, 110, 160, 0, 7, 8, 167, 0, 15, 26, 16, 99, 160, 0, 8, 16, 6, 167, 0, 4]
abbrev dktX3_letterOf_2 : List UInt8 := dkwX3_letterOf_2 ++ dktX3_letterOf_3
def dkwX3_letterOf_1 : List UInt8 := [160, 0, 7, 5, 167, 0, 45, 26, 16, 109, 160, 0, 7, 6, 167, 0, 35, 26, 16, 105, 160, 0, 7, 7]
abbrev dktX3_letterOf_1 : List UInt8 := dkwX3_letterOf_1 ++ dktX3_letterOf_2
def dkwX3_letterOf_0 : List UInt8 := [26, 16, 104, 160, 0, 7, 3, 167, 0, 65, 26, 16, 116, 160, 0, 7, 4, 167, 0, 55, 26, 16, 119]
abbrev dktX3_letterOf_0 : List UInt8 := dkwX3_letterOf_0 ++ dktX3_letterOf_1
theorem dksX3_letterOf_0 : cX3_letterOf.data.toList.drop 0 = dktX3_letterOf_0 := by decide +kernel
theorem dksX3_letterOf_1 : cX3_letterOf.data.toList.drop 23 = dktX3_letterOf_1 := dk_seg dksX3_letterOf_0 23 rfl rfl
theorem dksX3_letterOf_2 : cX3_letterOf.data.toList.drop 47 = dktX3_letterOf_2 := dk_seg dksX3_letterOf_1 24 rfl rfl
theorem dksX3_letterOf_3 : cX3_letterOf.data.toList.drop 71 = dktX3_letterOf_3 := dk_seg dksX3_letterOf_2 24 rfl rfl
theorem dX3_letterOf_0 : decode cX3_letterOf 0 = .ok (.iload_n 0, 1) := dk_26 (dk_at dksX3_letterOf_0 0 rfl rfl)
theorem dX3_letterOf_1 : decode cX3_letterOf 1 = .ok (.bipush 104, 2) := dk_16 104 (dk_at dksX3_letterOf_0 1 rfl rfl)
theorem dX3_letterOf_3 : decode cX3_letterOf 3 = .ok (.if_icmp .ne 7, 3) := dk_160 0 7 (dk_at dksX3_letterOf_0 3 rfl rfl)
theorem dX3_letterOf_6 : decode cX3_letterOf 6 = .ok (.iconst 0, 1) := dk_3 (dk_at dksX3_letterOf_0 6 rfl rfl)
theorem dX3_letterOf_7 : decode cX3_letterOf 7 = .ok (.goto 65, 3) := dk_167 0 65 (dk_at dksX3_letterOf_0 7 rfl rfl)
theorem dX3_letterOf_10 : decode cX3_letterOf 10 = .ok (.iload_n 0, 1) := dk_26 (dk_at dksX3_letterOf_0 10 rfl rfl)
theorem dX3_letterOf_11 : decode cX3_letterOf 11 = .ok (.bipush 116, 2) := dk_16 116 (dk_at dksX3_letterOf_0 11 rfl rfl)
theorem dX3_letterOf_13 : decode cX3_letterOf 13 = .ok (.if_icmp .ne 7, 3) := dk_160 0 7 (dk_at dksX3_letterOf_0 13 rfl rfl)
theorem dX3_letterOf_16 : decode cX3_letterOf 16 = .ok (.iconst 1, 1) := dk_4 (dk_at dksX3_letterOf_0 16 rfl rfl)
theorem dX3_letterOf_17 : decode cX3_letterOf 17 = .ok (.goto 55, 3) := dk_167 0 55 (dk_at dksX3_letterOf_0 17 rfl rfl)
theorem dX3_letterOf_20 : decode cX3_letterOf 20 = .ok (.iload_n 0, 1) := dk_26 (dk_at dksX3_letterOf_0 20 rfl rfl)
theorem dX3_letterOf_21 : decode cX3_letterOf 21 = .ok (.bipush 119, 2) := dk_16 119 (dk_at dksX3_letterOf_0 21 rfl rfl)
theorem dX3_letterOf_23 : decode cX3_letterOf 23 = .ok (.if_icmp .ne 7, 3) := dk_160 0 7 (dk_at dksX3_letterOf_1 0 rfl rfl)
theorem dX3_letterOf_26 : decode cX3_letterOf 26 = .ok (.iconst 2, 1) := dk_5 (dk_at dksX3_letterOf_1 3 rfl rfl)
theorem dX3_letterOf_27 : decode cX3_letterOf 27 = .ok (.goto 45, 3) := dk_167 0 45 (dk_at dksX3_letterOf_1 4 rfl rfl)
theorem dX3_letterOf_30 : decode cX3_letterOf 30 = .ok (.iload_n 0, 1) := dk_26 (dk_at dksX3_letterOf_1 7 rfl rfl)
theorem dX3_letterOf_31 : decode cX3_letterOf 31 = .ok (.bipush 109, 2) := dk_16 109 (dk_at dksX3_letterOf_1 8 rfl rfl)
theorem dX3_letterOf_33 : decode cX3_letterOf 33 = .ok (.if_icmp .ne 7, 3) := dk_160 0 7 (dk_at dksX3_letterOf_1 10 rfl rfl)
theorem dX3_letterOf_36 : decode cX3_letterOf 36 = .ok (.iconst 3, 1) := dk_6 (dk_at dksX3_letterOf_1 13 rfl rfl)
theorem dX3_letterOf_37 : decode cX3_letterOf 37 = .ok (.goto 35, 3) := dk_167 0 35 (dk_at dksX3_letterOf_1 14 rfl rfl)
theorem dX3_letterOf_40 : decode cX3_letterOf 40 = .ok (.iload_n 0, 1) := dk_26 (dk_at dksX3_letterOf_1 17 rfl rfl)
theorem dX3_letterOf_41 : decode cX3_letterOf 41 = .ok (.bipush 105, 2) := dk_16 105 (dk_at dksX3_letterOf_1 18 rfl rfl)
theorem dX3_letterOf_43 : decode cX3_letterOf 43 = .ok (.if_icmp .ne 7, 3) := dk_160 0 7 (dk_at dksX3_letterOf_1 20 rfl rfl)
theorem dX3_letterOf_46 : decode cX3_letterOf 46 = .ok (.iconst 4, 1) := dk_7 (dk_at dksX3_letterOf_1 23 rfl rfl)
theorem dX3_letterOf_47 : decode cX3_letterOf 47 = .ok (.goto 25, 3) := dk_167 0 25 (dk_at dksX3_letterOf_2 0 rfl rfl)
theorem dX3_letterOf_50 : decode cX3_letterOf 50 = .ok (.iload_n 0, 1) := dk_26 (dk_at dksX3_letterOf_2 3 rfl rfl)
theorem dX3_letterOf_51 : decode cX3_letterOf 51 = .ok (.bipush 110, 2) := dk_16 110 (dk_at dksX3_letterOf_2 4 rfl rfl)
theorem dX3_letterOf_53 : decode cX3_letterOf 53 = .ok (.if_icmp .ne 7, 3) := dk_160 0 7 (dk_at dksX3_letterOf_2 6 rfl rfl)
theorem dX3_letterOf_56 : decode cX3_letterOf 56 = .ok (.iconst 5, 1) := dk_8 (dk_at dksX3_letterOf_2 9 rfl rfl)
theorem dX3_letterOf_57 : decode cX3_letterOf 57 = .ok (.goto 15, 3) := dk_167 0 15 (dk_at dksX3_letterOf_2 10 rfl rfl)
theorem dX3_letterOf_60 : decode cX3_letterOf 60 = .ok (.iload_n 0, 1) := dk_26 (dk_at dksX3_letterOf_2 13 rfl rfl)
theorem dX3_letterOf_61 : decode cX3_letterOf 61 = .ok (.bipush 99, 2) := dk_16 99 (dk_at dksX3_letterOf_2 14 rfl rfl)
theorem dX3_letterOf_63 : decode cX3_letterOf 63 = .ok (.if_icmp .ne 8, 3) := dk_160 0 8 (dk_at dksX3_letterOf_2 16 rfl rfl)
theorem dX3_letterOf_66 : decode cX3_letterOf 66 = .ok (.bipush 6, 2) := dk_16 6 (dk_at dksX3_letterOf_2 19 rfl rfl)
theorem dX3_letterOf_68 : decode cX3_letterOf 68 = .ok (.goto 4, 3) := dk_167 0 4 (dk_at dksX3_letterOf_2 21 rfl rfl)
theorem dX3_letterOf_71 : decode cX3_letterOf 71 = .ok (.iconst (-1), 1) := dk_2 (dk_at dksX3_letterOf_3 0 rfl rfl)
theorem dX3_letterOf_72 : decode cX3_letterOf 72 = .ok (.ireturn, 1) := dk_172 (dk_at dksX3_letterOf_3 1 rfl rfl)
abbrev cX3_rider : ByteArray := prog_9_method_34_code
def yX3_rider : MethodName := ⟨RX3, "rider", "(II)I"⟩
def dkwX3_rider_5 : List UInt8 := [27, 182, 0, 238, 172]
abbrev dktX3_rider_5 : List UInt8 := dkwX3_rider_5 ++ []
def dkwX3_rider_4 : List UInt8 := [180, 0, 9, 16, 8, 27, 96, 46, 172, 42, 180, 0, 9, 16, 16, 27, 96, 46, 172, 42, 42, 180, 0, 9]
abbrev dktX3_rider_4 : List UInt8 := dkwX3_rider_4 ++ dktX3_rider_5
def dkwX3_rider_3 : List UInt8 := [42, 180, 0, 20, 27, 46, 172, 42, 180, 0, 23, 27, 46, 172, 42, 180, 0, 26, 27, 46, 172, 42]
abbrev dktX3_rider_3 : List UInt8 := dkwX3_rider_3 ++ dktX3_rider_4
def dkwX3_rider_2 : List UInt8 := [170, 0, 0, 0, 0, 0, 0, 77, 0, 0, 0, 0, 0, 0, 0, 4, 0, 0, 0, 36, 0, 0, 0, 43, 0, 0, 0, 50, 0, 0, 0, 57, 0, 0, 0, 67]
abbrev dktX3_rider_2 : List UInt8 := dkwX3_rider_2 ++ dktX3_rider_3
def dkwX3_rider_1 : List UInt8 := [182, 0, 235, 172, 28]
abbrev dktX3_rider_1 : List UInt8 := dkwX3_rider_1 ++ dktX3_rider_2
def dkwX3_rider_0 : List UInt8 := [42, 3, 181, 0, 114, 42, 27, 182, 0, 127, 153, 0, 12, 28, 3, 8, 184, 0, 123, 154, 0, 8, 42]
abbrev dktX3_rider_0 : List UInt8 := dkwX3_rider_0 ++ dktX3_rider_1
theorem dksX3_rider_0 : cX3_rider.data.toList.drop 0 = dktX3_rider_0 := by decide +kernel
theorem dksX3_rider_1 : cX3_rider.data.toList.drop 23 = dktX3_rider_1 := dk_seg dksX3_rider_0 23 rfl rfl
theorem dksX3_rider_2 : cX3_rider.data.toList.drop 28 = dktX3_rider_2 := dk_seg dksX3_rider_1 5 rfl rfl
theorem dksX3_rider_3 : cX3_rider.data.toList.drop 64 = dktX3_rider_3 := dk_seg dksX3_rider_2 36 rfl rfl
theorem dksX3_rider_4 : cX3_rider.data.toList.drop 86 = dktX3_rider_4 := dk_seg dksX3_rider_3 22 rfl rfl
theorem dksX3_rider_5 : cX3_rider.data.toList.drop 110 = dktX3_rider_5 := dk_seg dksX3_rider_4 24 rfl rfl
theorem dX3_rider_0 : decode cX3_rider 0 = .ok (.aload_n 0, 1) := dk_42 (dk_at dksX3_rider_0 0 rfl rfl)
theorem dX3_rider_1 : decode cX3_rider 1 = .ok (.iconst 0, 1) := dk_3 (dk_at dksX3_rider_0 1 rfl rfl)
theorem dX3_rider_2 : decode cX3_rider 2 = .ok (.putfield 114, 3) := dk_181 0 114 (dk_at dksX3_rider_0 2 rfl rfl)
theorem dX3_rider_5 : decode cX3_rider 5 = .ok (.aload_n 0, 1) := dk_42 (dk_at dksX3_rider_0 5 rfl rfl)
theorem dX3_rider_6 : decode cX3_rider 6 = .ok (.iload_n 1, 1) := dk_27 (dk_at dksX3_rider_0 6 rfl rfl)
theorem dX3_rider_7 : decode cX3_rider 7 = .ok (.invokevirtual 127, 3) := dk_182 0 127 (dk_at dksX3_rider_0 7 rfl rfl)
theorem dX3_rider_10 : decode cX3_rider 10 = .ok (.ifCond .eq 12, 3) := dk_153 0 12 (dk_at dksX3_rider_0 10 rfl rfl)
theorem dX3_rider_13 : decode cX3_rider 13 = .ok (.iload_n 2, 1) := dk_28 (dk_at dksX3_rider_0 13 rfl rfl)
theorem dX3_rider_14 : decode cX3_rider 14 = .ok (.iconst 0, 1) := dk_3 (dk_at dksX3_rider_0 14 rfl rfl)
theorem dX3_rider_15 : decode cX3_rider 15 = .ok (.iconst 5, 1) := dk_8 (dk_at dksX3_rider_0 15 rfl rfl)
theorem dX3_rider_16 : decode cX3_rider 16 = .ok (.invokestatic 123, 3) := dk_184 0 123 (dk_at dksX3_rider_0 16 rfl rfl)
theorem dX3_rider_19 : decode cX3_rider 19 = .ok (.ifCond .ne 8, 3) := dk_154 0 8 (dk_at dksX3_rider_0 19 rfl rfl)
theorem dX3_rider_22 : decode cX3_rider 22 = .ok (.aload_n 0, 1) := dk_42 (dk_at dksX3_rider_0 22 rfl rfl)
theorem dX3_rider_23 : decode cX3_rider 23 = .ok (.invokevirtual 235, 3) := dk_182 0 235 (dk_at dksX3_rider_1 0 rfl rfl)
theorem dX3_rider_26 : decode cX3_rider 26 = .ok (.ireturn, 1) := dk_172 (dk_at dksX3_rider_1 3 rfl rfl)
theorem dX3_rider_27 : decode cX3_rider 27 = .ok (.iload_n 2, 1) := dk_28 (dk_at dksX3_rider_1 4 rfl rfl)
theorem dX3_rider_28 : decode cX3_rider 28 = .ok (.tableswitch 77 0 4 #[36, 43, 50, 57, 67], 36) := by decide +kernel
theorem dX3_rider_64 : decode cX3_rider 64 = .ok (.aload_n 0, 1) := dk_42 (dk_at dksX3_rider_3 0 rfl rfl)
theorem dX3_rider_65 : decode cX3_rider 65 = .ok (.getfield 20, 3) := dk_180 0 20 (dk_at dksX3_rider_3 1 rfl rfl)
theorem dX3_rider_68 : decode cX3_rider 68 = .ok (.iload_n 1, 1) := dk_27 (dk_at dksX3_rider_3 4 rfl rfl)
theorem dX3_rider_69 : decode cX3_rider 69 = .ok (.iaload, 1) := dk_46 (dk_at dksX3_rider_3 5 rfl rfl)
theorem dX3_rider_70 : decode cX3_rider 70 = .ok (.ireturn, 1) := dk_172 (dk_at dksX3_rider_3 6 rfl rfl)
theorem dX3_rider_71 : decode cX3_rider 71 = .ok (.aload_n 0, 1) := dk_42 (dk_at dksX3_rider_3 7 rfl rfl)
theorem dX3_rider_72 : decode cX3_rider 72 = .ok (.getfield 23, 3) := dk_180 0 23 (dk_at dksX3_rider_3 8 rfl rfl)
theorem dX3_rider_75 : decode cX3_rider 75 = .ok (.iload_n 1, 1) := dk_27 (dk_at dksX3_rider_3 11 rfl rfl)
theorem dX3_rider_76 : decode cX3_rider 76 = .ok (.iaload, 1) := dk_46 (dk_at dksX3_rider_3 12 rfl rfl)
theorem dX3_rider_77 : decode cX3_rider 77 = .ok (.ireturn, 1) := dk_172 (dk_at dksX3_rider_3 13 rfl rfl)
theorem dX3_rider_78 : decode cX3_rider 78 = .ok (.aload_n 0, 1) := dk_42 (dk_at dksX3_rider_3 14 rfl rfl)
theorem dX3_rider_79 : decode cX3_rider 79 = .ok (.getfield 26, 3) := dk_180 0 26 (dk_at dksX3_rider_3 15 rfl rfl)
theorem dX3_rider_82 : decode cX3_rider 82 = .ok (.iload_n 1, 1) := dk_27 (dk_at dksX3_rider_3 18 rfl rfl)
theorem dX3_rider_83 : decode cX3_rider 83 = .ok (.iaload, 1) := dk_46 (dk_at dksX3_rider_3 19 rfl rfl)
theorem dX3_rider_84 : decode cX3_rider 84 = .ok (.ireturn, 1) := dk_172 (dk_at dksX3_rider_3 20 rfl rfl)
theorem dX3_rider_85 : decode cX3_rider 85 = .ok (.aload_n 0, 1) := dk_42 (dk_at dksX3_rider_3 21 rfl rfl)
theorem dX3_rider_86 : decode cX3_rider 86 = .ok (.getfield 9, 3) := dk_180 0 9 (dk_at dksX3_rider_4 0 rfl rfl)
theorem dX3_rider_89 : decode cX3_rider 89 = .ok (.bipush 8, 2) := dk_16 8 (dk_at dksX3_rider_4 3 rfl rfl)
theorem dX3_rider_91 : decode cX3_rider 91 = .ok (.iload_n 1, 1) := dk_27 (dk_at dksX3_rider_4 5 rfl rfl)
theorem dX3_rider_92 : decode cX3_rider 92 = .ok (.iadd, 1) := dk_96 (dk_at dksX3_rider_4 6 rfl rfl)
theorem dX3_rider_93 : decode cX3_rider 93 = .ok (.iaload, 1) := dk_46 (dk_at dksX3_rider_4 7 rfl rfl)
theorem dX3_rider_94 : decode cX3_rider 94 = .ok (.ireturn, 1) := dk_172 (dk_at dksX3_rider_4 8 rfl rfl)
theorem dX3_rider_95 : decode cX3_rider 95 = .ok (.aload_n 0, 1) := dk_42 (dk_at dksX3_rider_4 9 rfl rfl)
theorem dX3_rider_96 : decode cX3_rider 96 = .ok (.getfield 9, 3) := dk_180 0 9 (dk_at dksX3_rider_4 10 rfl rfl)
theorem dX3_rider_99 : decode cX3_rider 99 = .ok (.bipush 16, 2) := dk_16 16 (dk_at dksX3_rider_4 13 rfl rfl)
theorem dX3_rider_101 : decode cX3_rider 101 = .ok (.iload_n 1, 1) := dk_27 (dk_at dksX3_rider_4 15 rfl rfl)
theorem dX3_rider_102 : decode cX3_rider 102 = .ok (.iadd, 1) := dk_96 (dk_at dksX3_rider_4 16 rfl rfl)
theorem dX3_rider_103 : decode cX3_rider 103 = .ok (.iaload, 1) := dk_46 (dk_at dksX3_rider_4 17 rfl rfl)
theorem dX3_rider_104 : decode cX3_rider 104 = .ok (.ireturn, 1) := dk_172 (dk_at dksX3_rider_4 18 rfl rfl)
theorem dX3_rider_105 : decode cX3_rider 105 = .ok (.aload_n 0, 1) := dk_42 (dk_at dksX3_rider_4 19 rfl rfl)
theorem dX3_rider_106 : decode cX3_rider 106 = .ok (.aload_n 0, 1) := dk_42 (dk_at dksX3_rider_4 20 rfl rfl)
theorem dX3_rider_107 : decode cX3_rider 107 = .ok (.getfield 9, 3) := dk_180 0 9 (dk_at dksX3_rider_4 21 rfl rfl)
theorem dX3_rider_110 : decode cX3_rider 110 = .ok (.iload_n 1, 1) := dk_27 (dk_at dksX3_rider_5 0 rfl rfl)
theorem dX3_rider_111 : decode cX3_rider 111 = .ok (.invokevirtual 238, 3) := dk_182 0 238 (dk_at dksX3_rider_5 1 rfl rfl)
theorem dX3_rider_114 : decode cX3_rider 114 = .ok (.ireturn, 1) := dk_172 (dk_at dksX3_rider_5 4 rfl rfl)
abbrev cX3_isMan : ByteArray := prog_9_method_7_code
def yX3_isMan : MethodName := ⟨RX3, "isMan", "(I)Z"⟩
def dkwX3_isMan_0 : List UInt8 := [27, 3, 42, 180, 0, 120, 4, 100, 184, 0, 123, 172]
abbrev dktX3_isMan_0 : List UInt8 := dkwX3_isMan_0 ++ []
theorem dksX3_isMan_0 : cX3_isMan.data.toList.drop 0 = dktX3_isMan_0 := by decide +kernel
theorem dX3_isMan_0 : decode cX3_isMan 0 = .ok (.iload_n 1, 1) := dk_27 (dk_at dksX3_isMan_0 0 rfl rfl)
theorem dX3_isMan_1 : decode cX3_isMan 1 = .ok (.iconst 0, 1) := dk_3 (dk_at dksX3_isMan_0 1 rfl rfl)
theorem dX3_isMan_2 : decode cX3_isMan 2 = .ok (.aload_n 0, 1) := dk_42 (dk_at dksX3_isMan_0 2 rfl rfl)
theorem dX3_isMan_3 : decode cX3_isMan 3 = .ok (.getfield 120, 3) := dk_180 0 120 (dk_at dksX3_isMan_0 3 rfl rfl)
theorem dX3_isMan_6 : decode cX3_isMan 6 = .ok (.iconst 1, 1) := dk_4 (dk_at dksX3_isMan_0 6 rfl rfl)
theorem dX3_isMan_7 : decode cX3_isMan 7 = .ok (.isub, 1) := dk_100 (dk_at dksX3_isMan_0 7 rfl rfl)
theorem dX3_isMan_8 : decode cX3_isMan 8 = .ok (.invokestatic 123, 3) := dk_184 0 123 (dk_at dksX3_isMan_0 8 rfl rfl)
theorem dX3_isMan_11 : decode cX3_isMan 11 = .ok (.ireturn, 1) := dk_172 (dk_at dksX3_isMan_0 11 rfl rfl)
abbrev cX3_lost : ByteArray := prog_9_method_5_code
def yX3_lost : MethodName := ⟨RX3, "lost", "()I"⟩
def dkwX3_lost_0 : List UInt8 := [42, 4, 181, 0, 114, 3, 172]
abbrev dktX3_lost_0 : List UInt8 := dkwX3_lost_0 ++ []
theorem dksX3_lost_0 : cX3_lost.data.toList.drop 0 = dktX3_lost_0 := by decide +kernel
theorem dX3_lost_0 : decode cX3_lost 0 = .ok (.aload_n 0, 1) := dk_42 (dk_at dksX3_lost_0 0 rfl rfl)
theorem dX3_lost_1 : decode cX3_lost 1 = .ok (.iconst 1, 1) := dk_4 (dk_at dksX3_lost_0 1 rfl rfl)
theorem dX3_lost_2 : decode cX3_lost 2 = .ok (.putfield 114, 3) := dk_181 0 114 (dk_at dksX3_lost_0 2 rfl rfl)
theorem dX3_lost_5 : decode cX3_lost 5 = .ok (.iconst 0, 1) := dk_3 (dk_at dksX3_lost_0 5 rfl rfl)
theorem dX3_lost_6 : decode cX3_lost 6 = .ok (.ireturn, 1) := dk_172 (dk_at dksX3_lost_0 6 rfl rfl)
abbrev cX3_hoursOf : ByteArray := prog_9_method_33_code
def yX3_hoursOf : MethodName := ⟨RX3, "hoursOf", "([II)I"⟩
def dkwX3_hoursOf_1 : List UInt8 := [120, 167, 0, 4, 3, 128, 62, 132, 4, 1, 167, 255, 227, 29, 172]
abbrev dktX3_hoursOf_1 : List UInt8 := dkwX3_hoursOf_1 ++ []
def dkwX3_hoursOf_0 : List UInt8 := [3, 62, 3, 54, 4, 21, 4, 16, 8, 162, 0, 28, 29, 43, 21, 4, 46, 28, 160, 0, 10, 4, 21, 4]
abbrev dktX3_hoursOf_0 : List UInt8 := dkwX3_hoursOf_0 ++ dktX3_hoursOf_1
theorem dksX3_hoursOf_0 : cX3_hoursOf.data.toList.drop 0 = dktX3_hoursOf_0 := by decide +kernel
theorem dksX3_hoursOf_1 : cX3_hoursOf.data.toList.drop 24 = dktX3_hoursOf_1 := dk_seg dksX3_hoursOf_0 24 rfl rfl
theorem dX3_hoursOf_0 : decode cX3_hoursOf 0 = .ok (.iconst 0, 1) := dk_3 (dk_at dksX3_hoursOf_0 0 rfl rfl)
theorem dX3_hoursOf_1 : decode cX3_hoursOf 1 = .ok (.istore_n 3, 1) := dk_62 (dk_at dksX3_hoursOf_0 1 rfl rfl)
theorem dX3_hoursOf_2 : decode cX3_hoursOf 2 = .ok (.iconst 0, 1) := dk_3 (dk_at dksX3_hoursOf_0 2 rfl rfl)
theorem dX3_hoursOf_3 : decode cX3_hoursOf 3 = .ok (.istore 4, 2) := dk_54 4 (dk_at dksX3_hoursOf_0 3 rfl rfl)
theorem dX3_hoursOf_5 : decode cX3_hoursOf 5 = .ok (.iload 4, 2) := dk_21 4 (dk_at dksX3_hoursOf_0 5 rfl rfl)
theorem dX3_hoursOf_7 : decode cX3_hoursOf 7 = .ok (.bipush 8, 2) := dk_16 8 (dk_at dksX3_hoursOf_0 7 rfl rfl)
theorem dX3_hoursOf_9 : decode cX3_hoursOf 9 = .ok (.if_icmp .ge 28, 3) := dk_162 0 28 (dk_at dksX3_hoursOf_0 9 rfl rfl)
theorem dX3_hoursOf_12 : decode cX3_hoursOf 12 = .ok (.iload_n 3, 1) := dk_29 (dk_at dksX3_hoursOf_0 12 rfl rfl)
theorem dX3_hoursOf_13 : decode cX3_hoursOf 13 = .ok (.aload_n 1, 1) := dk_43 (dk_at dksX3_hoursOf_0 13 rfl rfl)
theorem dX3_hoursOf_14 : decode cX3_hoursOf 14 = .ok (.iload 4, 2) := dk_21 4 (dk_at dksX3_hoursOf_0 14 rfl rfl)
theorem dX3_hoursOf_16 : decode cX3_hoursOf 16 = .ok (.iaload, 1) := dk_46 (dk_at dksX3_hoursOf_0 16 rfl rfl)
theorem dX3_hoursOf_17 : decode cX3_hoursOf 17 = .ok (.iload_n 2, 1) := dk_28 (dk_at dksX3_hoursOf_0 17 rfl rfl)
theorem dX3_hoursOf_18 : decode cX3_hoursOf 18 = .ok (.if_icmp .ne 10, 3) := dk_160 0 10 (dk_at dksX3_hoursOf_0 18 rfl rfl)
theorem dX3_hoursOf_21 : decode cX3_hoursOf 21 = .ok (.iconst 1, 1) := dk_4 (dk_at dksX3_hoursOf_0 21 rfl rfl)
theorem dX3_hoursOf_22 : decode cX3_hoursOf 22 = .ok (.iload 4, 2) := dk_21 4 (dk_at dksX3_hoursOf_0 22 rfl rfl)
theorem dX3_hoursOf_24 : decode cX3_hoursOf 24 = .ok (.ishl, 1) := dk_120 (dk_at dksX3_hoursOf_1 0 rfl rfl)
theorem dX3_hoursOf_25 : decode cX3_hoursOf 25 = .ok (.goto 4, 3) := dk_167 0 4 (dk_at dksX3_hoursOf_1 1 rfl rfl)
theorem dX3_hoursOf_28 : decode cX3_hoursOf 28 = .ok (.iconst 0, 1) := dk_3 (dk_at dksX3_hoursOf_1 4 rfl rfl)
theorem dX3_hoursOf_29 : decode cX3_hoursOf 29 = .ok (.ior, 1) := dk_128 (dk_at dksX3_hoursOf_1 5 rfl rfl)
theorem dX3_hoursOf_30 : decode cX3_hoursOf 30 = .ok (.istore_n 3, 1) := dk_62 (dk_at dksX3_hoursOf_1 6 rfl rfl)
theorem dX3_hoursOf_31 : decode cX3_hoursOf 31 = .ok (.iinc 4 1, 3) := dk_132 4 1 (dk_at dksX3_hoursOf_1 7 rfl rfl)
theorem dX3_hoursOf_34 : decode cX3_hoursOf 34 = .ok (.goto (-29), 3) := dk_167 255 227 (dk_at dksX3_hoursOf_1 10 rfl rfl)
theorem dX3_hoursOf_37 : decode cX3_hoursOf 37 = .ok (.iload_n 3, 1) := dk_29 (dk_at dksX3_hoursOf_1 13 rfl rfl)
theorem dX3_hoursOf_38 : decode cX3_hoursOf 38 = .ok (.ireturn, 1) := dk_172 (dk_at dksX3_hoursOf_1 14 rfl rfl)
abbrev cX3_hard : ByteArray := prog_9_method_35_code
def yX3_hard : MethodName := ⟨RX3, "hard", "(II)I"⟩
def dkwX3_hard_1 : List UInt8 := [180, 0, 9, 27, 28, 182, 0, 245, 167, 0, 4, 2, 172]
abbrev dktX3_hard_1 : List UInt8 := dkwX3_hard_1 ++ []
def dkwX3_hard_0 : List UInt8 := [42, 3, 181, 0, 114, 42, 27, 182, 0, 127, 153, 0, 23, 28, 184, 0, 242, 153, 0, 16, 42, 42]
abbrev dktX3_hard_0 : List UInt8 := dkwX3_hard_0 ++ dktX3_hard_1
theorem dksX3_hard_0 : cX3_hard.data.toList.drop 0 = dktX3_hard_0 := by decide +kernel
theorem dksX3_hard_1 : cX3_hard.data.toList.drop 22 = dktX3_hard_1 := dk_seg dksX3_hard_0 22 rfl rfl
theorem dX3_hard_0 : decode cX3_hard 0 = .ok (.aload_n 0, 1) := dk_42 (dk_at dksX3_hard_0 0 rfl rfl)
theorem dX3_hard_1 : decode cX3_hard 1 = .ok (.iconst 0, 1) := dk_3 (dk_at dksX3_hard_0 1 rfl rfl)
theorem dX3_hard_2 : decode cX3_hard 2 = .ok (.putfield 114, 3) := dk_181 0 114 (dk_at dksX3_hard_0 2 rfl rfl)
theorem dX3_hard_5 : decode cX3_hard 5 = .ok (.aload_n 0, 1) := dk_42 (dk_at dksX3_hard_0 5 rfl rfl)
theorem dX3_hard_6 : decode cX3_hard 6 = .ok (.iload_n 1, 1) := dk_27 (dk_at dksX3_hard_0 6 rfl rfl)
theorem dX3_hard_7 : decode cX3_hard 7 = .ok (.invokevirtual 127, 3) := dk_182 0 127 (dk_at dksX3_hard_0 7 rfl rfl)
theorem dX3_hard_10 : decode cX3_hard 10 = .ok (.ifCond .eq 23, 3) := dk_153 0 23 (dk_at dksX3_hard_0 10 rfl rfl)
theorem dX3_hard_13 : decode cX3_hard 13 = .ok (.iload_n 2, 1) := dk_28 (dk_at dksX3_hard_0 13 rfl rfl)
theorem dX3_hard_14 : decode cX3_hard 14 = .ok (.invokestatic 242, 3) := dk_184 0 242 (dk_at dksX3_hard_0 14 rfl rfl)
theorem dX3_hard_17 : decode cX3_hard 17 = .ok (.ifCond .eq 16, 3) := dk_153 0 16 (dk_at dksX3_hard_0 17 rfl rfl)
theorem dX3_hard_20 : decode cX3_hard 20 = .ok (.aload_n 0, 1) := dk_42 (dk_at dksX3_hard_0 20 rfl rfl)
theorem dX3_hard_21 : decode cX3_hard 21 = .ok (.aload_n 0, 1) := dk_42 (dk_at dksX3_hard_0 21 rfl rfl)
theorem dX3_hard_22 : decode cX3_hard 22 = .ok (.getfield 9, 3) := dk_180 0 9 (dk_at dksX3_hard_1 0 rfl rfl)
theorem dX3_hard_25 : decode cX3_hard 25 = .ok (.iload_n 1, 1) := dk_27 (dk_at dksX3_hard_1 3 rfl rfl)
theorem dX3_hard_26 : decode cX3_hard 26 = .ok (.iload_n 2, 1) := dk_28 (dk_at dksX3_hard_1 4 rfl rfl)
theorem dX3_hard_27 : decode cX3_hard 27 = .ok (.invokevirtual 245, 3) := dk_182 0 245 (dk_at dksX3_hard_1 5 rfl rfl)
theorem dX3_hard_30 : decode cX3_hard 30 = .ok (.goto 4, 3) := dk_167 0 4 (dk_at dksX3_hard_1 8 rfl rfl)
theorem dX3_hard_33 : decode cX3_hard 33 = .ok (.iconst (-1), 1) := dk_2 (dk_at dksX3_hard_1 11 rfl rfl)
theorem dX3_hard_34 : decode cX3_hard 34 = .ok (.ireturn, 1) := dk_172 (dk_at dksX3_hard_1 12 rfl rfl)
abbrev cX3_isHour : ByteArray := prog_9_method_8_code
def yX3_isHour : MethodName := ⟨RX3, "isHour", "(I)Z"⟩
def dkwX3_isHour_0 : List UInt8 := [26, 3, 16, 7, 184, 0, 123, 172]
abbrev dktX3_isHour_0 : List UInt8 := dkwX3_isHour_0 ++ []
theorem dksX3_isHour_0 : cX3_isHour.data.toList.drop 0 = dktX3_isHour_0 := by decide +kernel
theorem dX3_isHour_0 : decode cX3_isHour 0 = .ok (.iload_n 0, 1) := dk_26 (dk_at dksX3_isHour_0 0 rfl rfl)
theorem dX3_isHour_1 : decode cX3_isHour 1 = .ok (.iconst 0, 1) := dk_3 (dk_at dksX3_isHour_0 1 rfl rfl)
theorem dX3_isHour_2 : decode cX3_isHour 2 = .ok (.bipush 7, 2) := dk_16 7 (dk_at dksX3_isHour_0 2 rfl rfl)
theorem dX3_isHour_4 : decode cX3_isHour 4 = .ok (.invokestatic 123, 3) := dk_184 0 123 (dk_at dksX3_isHour_0 4 rfl rfl)
theorem dX3_isHour_7 : decode cX3_isHour 7 = .ok (.ireturn, 1) := dk_172 (dk_at dksX3_isHour_0 7 rfl rfl)
abbrev cX3_hardOf : ByteArray := prog_9_method_32_code
def yX3_hardOf : MethodName := ⟨RX3, "hardOf", "([III)I"⟩
def dkwX3_hardOf_6 : List UInt8 := [181, 0, 211, 3, 17, 3, 231, 21, 4, 184, 0, 226, 184, 0, 232, 172]
abbrev dktX3_hardOf_6 : List UInt8 := dkwX3_hardOf_6 ++ []
def dkwX3_hardOf_5 : List UInt8 := [180, 0, 218, 16, 40, 182, 0, 149, 42, 4, 181, 0, 211, 42, 3, 182, 0, 198, 54, 4, 42, 3]
abbrev dktX3_hardOf_5 : List UInt8 := dkwX3_hardOf_5 ++ dktX3_hardOf_6
def dkwX3_hardOf_4 : List UInt8 := [112, 79, 42, 180, 0, 46, 16, 6, 42, 180, 0, 26, 28, 46, 184, 0, 221, 79, 42, 42, 180, 0, 40, 42]
abbrev dktX3_hardOf_4 : List UInt8 := dkwX3_hardOf_4 ++ dktX3_hardOf_5
def dkwX3_hardOf_3 : List UInt8 := [180, 0, 20, 28, 46, 79, 42, 180, 0, 46, 7, 28, 79, 42, 180, 0, 46, 8, 43, 16, 24, 46, 16, 7]
abbrev dktX3_hardOf_3 : List UInt8 := dkwX3_hardOf_3 ++ dktX3_hardOf_4
def dkwX3_hardOf_2 : List UInt8 := [16, 8, 28, 96, 46, 79, 42, 180, 0, 46, 5, 42, 180, 0, 23, 28, 46, 79, 42, 180, 0, 46, 6, 42]
abbrev dktX3_hardOf_2 : List UInt8 := dkwX3_hardOf_2 ++ dktX3_hardOf_3
def dkwX3_hardOf_1 : List UInt8 := [96, 54, 4, 42, 180, 0, 218, 158, 0, 113, 42, 180, 0, 46, 3, 29, 79, 42, 180, 0, 46, 4, 43]
abbrev dktX3_hardOf_1 : List UInt8 := dkwX3_hardOf_1 ++ dktX3_hardOf_2
def dkwX3_hardOf_0 : List UInt8 := [43, 16, 8, 28, 96, 46, 42, 180, 0, 23, 28, 46, 96, 29, 8, 164, 0, 8, 16, 9, 167, 0, 4, 3]
abbrev dktX3_hardOf_0 : List UInt8 := dkwX3_hardOf_0 ++ dktX3_hardOf_1
theorem dksX3_hardOf_0 : cX3_hardOf.data.toList.drop 0 = dktX3_hardOf_0 := by decide +kernel
theorem dksX3_hardOf_1 : cX3_hardOf.data.toList.drop 24 = dktX3_hardOf_1 := dk_seg dksX3_hardOf_0 24 rfl rfl
theorem dksX3_hardOf_2 : cX3_hardOf.data.toList.drop 47 = dktX3_hardOf_2 := dk_seg dksX3_hardOf_1 23 rfl rfl
theorem dksX3_hardOf_3 : cX3_hardOf.data.toList.drop 71 = dktX3_hardOf_3 := dk_seg dksX3_hardOf_2 24 rfl rfl
theorem dksX3_hardOf_4 : cX3_hardOf.data.toList.drop 95 = dktX3_hardOf_4 := dk_seg dksX3_hardOf_3 24 rfl rfl
theorem dksX3_hardOf_5 : cX3_hardOf.data.toList.drop 119 = dktX3_hardOf_5 := dk_seg dksX3_hardOf_4 24 rfl rfl
theorem dksX3_hardOf_6 : cX3_hardOf.data.toList.drop 141 = dktX3_hardOf_6 := dk_seg dksX3_hardOf_5 22 rfl rfl
theorem dX3_hardOf_0 : decode cX3_hardOf 0 = .ok (.aload_n 1, 1) := dk_43 (dk_at dksX3_hardOf_0 0 rfl rfl)
theorem dX3_hardOf_1 : decode cX3_hardOf 1 = .ok (.bipush 8, 2) := dk_16 8 (dk_at dksX3_hardOf_0 1 rfl rfl)
theorem dX3_hardOf_3 : decode cX3_hardOf 3 = .ok (.iload_n 2, 1) := dk_28 (dk_at dksX3_hardOf_0 3 rfl rfl)
theorem dX3_hardOf_4 : decode cX3_hardOf 4 = .ok (.iadd, 1) := dk_96 (dk_at dksX3_hardOf_0 4 rfl rfl)
theorem dX3_hardOf_5 : decode cX3_hardOf 5 = .ok (.iaload, 1) := dk_46 (dk_at dksX3_hardOf_0 5 rfl rfl)
theorem dX3_hardOf_6 : decode cX3_hardOf 6 = .ok (.aload_n 0, 1) := dk_42 (dk_at dksX3_hardOf_0 6 rfl rfl)
theorem dX3_hardOf_7 : decode cX3_hardOf 7 = .ok (.getfield 23, 3) := dk_180 0 23 (dk_at dksX3_hardOf_0 7 rfl rfl)
theorem dX3_hardOf_10 : decode cX3_hardOf 10 = .ok (.iload_n 2, 1) := dk_28 (dk_at dksX3_hardOf_0 10 rfl rfl)
theorem dX3_hardOf_11 : decode cX3_hardOf 11 = .ok (.iaload, 1) := dk_46 (dk_at dksX3_hardOf_0 11 rfl rfl)
theorem dX3_hardOf_12 : decode cX3_hardOf 12 = .ok (.iadd, 1) := dk_96 (dk_at dksX3_hardOf_0 12 rfl rfl)
theorem dX3_hardOf_13 : decode cX3_hardOf 13 = .ok (.iload_n 3, 1) := dk_29 (dk_at dksX3_hardOf_0 13 rfl rfl)
theorem dX3_hardOf_14 : decode cX3_hardOf 14 = .ok (.iconst 5, 1) := dk_8 (dk_at dksX3_hardOf_0 14 rfl rfl)
theorem dX3_hardOf_15 : decode cX3_hardOf 15 = .ok (.if_icmp .le 8, 3) := dk_164 0 8 (dk_at dksX3_hardOf_0 15 rfl rfl)
theorem dX3_hardOf_18 : decode cX3_hardOf 18 = .ok (.bipush 9, 2) := dk_16 9 (dk_at dksX3_hardOf_0 18 rfl rfl)
theorem dX3_hardOf_20 : decode cX3_hardOf 20 = .ok (.goto 4, 3) := dk_167 0 4 (dk_at dksX3_hardOf_0 20 rfl rfl)
theorem dX3_hardOf_23 : decode cX3_hardOf 23 = .ok (.iconst 0, 1) := dk_3 (dk_at dksX3_hardOf_0 23 rfl rfl)
theorem dX3_hardOf_24 : decode cX3_hardOf 24 = .ok (.iadd, 1) := dk_96 (dk_at dksX3_hardOf_1 0 rfl rfl)
theorem dX3_hardOf_25 : decode cX3_hardOf 25 = .ok (.istore 4, 2) := dk_54 4 (dk_at dksX3_hardOf_1 1 rfl rfl)
theorem dX3_hardOf_27 : decode cX3_hardOf 27 = .ok (.aload_n 0, 1) := dk_42 (dk_at dksX3_hardOf_1 3 rfl rfl)
theorem dX3_hardOf_28 : decode cX3_hardOf 28 = .ok (.getfield 218, 3) := dk_180 0 218 (dk_at dksX3_hardOf_1 4 rfl rfl)
theorem dX3_hardOf_31 : decode cX3_hardOf 31 = .ok (.ifCond .le 113, 3) := dk_158 0 113 (dk_at dksX3_hardOf_1 7 rfl rfl)
theorem dX3_hardOf_34 : decode cX3_hardOf 34 = .ok (.aload_n 0, 1) := dk_42 (dk_at dksX3_hardOf_1 10 rfl rfl)
theorem dX3_hardOf_35 : decode cX3_hardOf 35 = .ok (.getfield 46, 3) := dk_180 0 46 (dk_at dksX3_hardOf_1 11 rfl rfl)
theorem dX3_hardOf_38 : decode cX3_hardOf 38 = .ok (.iconst 0, 1) := dk_3 (dk_at dksX3_hardOf_1 14 rfl rfl)
theorem dX3_hardOf_39 : decode cX3_hardOf 39 = .ok (.iload_n 3, 1) := dk_29 (dk_at dksX3_hardOf_1 15 rfl rfl)
theorem dX3_hardOf_40 : decode cX3_hardOf 40 = .ok (.iastore, 1) := dk_79 (dk_at dksX3_hardOf_1 16 rfl rfl)
theorem dX3_hardOf_41 : decode cX3_hardOf 41 = .ok (.aload_n 0, 1) := dk_42 (dk_at dksX3_hardOf_1 17 rfl rfl)
theorem dX3_hardOf_42 : decode cX3_hardOf 42 = .ok (.getfield 46, 3) := dk_180 0 46 (dk_at dksX3_hardOf_1 18 rfl rfl)
theorem dX3_hardOf_45 : decode cX3_hardOf 45 = .ok (.iconst 1, 1) := dk_4 (dk_at dksX3_hardOf_1 21 rfl rfl)
theorem dX3_hardOf_46 : decode cX3_hardOf 46 = .ok (.aload_n 1, 1) := dk_43 (dk_at dksX3_hardOf_1 22 rfl rfl)
theorem dX3_hardOf_47 : decode cX3_hardOf 47 = .ok (.bipush 8, 2) := dk_16 8 (dk_at dksX3_hardOf_2 0 rfl rfl)
theorem dX3_hardOf_49 : decode cX3_hardOf 49 = .ok (.iload_n 2, 1) := dk_28 (dk_at dksX3_hardOf_2 2 rfl rfl)
theorem dX3_hardOf_50 : decode cX3_hardOf 50 = .ok (.iadd, 1) := dk_96 (dk_at dksX3_hardOf_2 3 rfl rfl)
theorem dX3_hardOf_51 : decode cX3_hardOf 51 = .ok (.iaload, 1) := dk_46 (dk_at dksX3_hardOf_2 4 rfl rfl)
theorem dX3_hardOf_52 : decode cX3_hardOf 52 = .ok (.iastore, 1) := dk_79 (dk_at dksX3_hardOf_2 5 rfl rfl)
theorem dX3_hardOf_53 : decode cX3_hardOf 53 = .ok (.aload_n 0, 1) := dk_42 (dk_at dksX3_hardOf_2 6 rfl rfl)
theorem dX3_hardOf_54 : decode cX3_hardOf 54 = .ok (.getfield 46, 3) := dk_180 0 46 (dk_at dksX3_hardOf_2 7 rfl rfl)
theorem dX3_hardOf_57 : decode cX3_hardOf 57 = .ok (.iconst 2, 1) := dk_5 (dk_at dksX3_hardOf_2 10 rfl rfl)
theorem dX3_hardOf_58 : decode cX3_hardOf 58 = .ok (.aload_n 0, 1) := dk_42 (dk_at dksX3_hardOf_2 11 rfl rfl)
theorem dX3_hardOf_59 : decode cX3_hardOf 59 = .ok (.getfield 23, 3) := dk_180 0 23 (dk_at dksX3_hardOf_2 12 rfl rfl)
theorem dX3_hardOf_62 : decode cX3_hardOf 62 = .ok (.iload_n 2, 1) := dk_28 (dk_at dksX3_hardOf_2 15 rfl rfl)
theorem dX3_hardOf_63 : decode cX3_hardOf 63 = .ok (.iaload, 1) := dk_46 (dk_at dksX3_hardOf_2 16 rfl rfl)
theorem dX3_hardOf_64 : decode cX3_hardOf 64 = .ok (.iastore, 1) := dk_79 (dk_at dksX3_hardOf_2 17 rfl rfl)
theorem dX3_hardOf_65 : decode cX3_hardOf 65 = .ok (.aload_n 0, 1) := dk_42 (dk_at dksX3_hardOf_2 18 rfl rfl)
theorem dX3_hardOf_66 : decode cX3_hardOf 66 = .ok (.getfield 46, 3) := dk_180 0 46 (dk_at dksX3_hardOf_2 19 rfl rfl)
theorem dX3_hardOf_69 : decode cX3_hardOf 69 = .ok (.iconst 3, 1) := dk_6 (dk_at dksX3_hardOf_2 22 rfl rfl)
theorem dX3_hardOf_70 : decode cX3_hardOf 70 = .ok (.aload_n 0, 1) := dk_42 (dk_at dksX3_hardOf_2 23 rfl rfl)
theorem dX3_hardOf_71 : decode cX3_hardOf 71 = .ok (.getfield 20, 3) := dk_180 0 20 (dk_at dksX3_hardOf_3 0 rfl rfl)
theorem dX3_hardOf_74 : decode cX3_hardOf 74 = .ok (.iload_n 2, 1) := dk_28 (dk_at dksX3_hardOf_3 3 rfl rfl)
theorem dX3_hardOf_75 : decode cX3_hardOf 75 = .ok (.iaload, 1) := dk_46 (dk_at dksX3_hardOf_3 4 rfl rfl)
theorem dX3_hardOf_76 : decode cX3_hardOf 76 = .ok (.iastore, 1) := dk_79 (dk_at dksX3_hardOf_3 5 rfl rfl)
theorem dX3_hardOf_77 : decode cX3_hardOf 77 = .ok (.aload_n 0, 1) := dk_42 (dk_at dksX3_hardOf_3 6 rfl rfl)
theorem dX3_hardOf_78 : decode cX3_hardOf 78 = .ok (.getfield 46, 3) := dk_180 0 46 (dk_at dksX3_hardOf_3 7 rfl rfl)
theorem dX3_hardOf_81 : decode cX3_hardOf 81 = .ok (.iconst 4, 1) := dk_7 (dk_at dksX3_hardOf_3 10 rfl rfl)
theorem dX3_hardOf_82 : decode cX3_hardOf 82 = .ok (.iload_n 2, 1) := dk_28 (dk_at dksX3_hardOf_3 11 rfl rfl)
theorem dX3_hardOf_83 : decode cX3_hardOf 83 = .ok (.iastore, 1) := dk_79 (dk_at dksX3_hardOf_3 12 rfl rfl)
theorem dX3_hardOf_84 : decode cX3_hardOf 84 = .ok (.aload_n 0, 1) := dk_42 (dk_at dksX3_hardOf_3 13 rfl rfl)
theorem dX3_hardOf_85 : decode cX3_hardOf 85 = .ok (.getfield 46, 3) := dk_180 0 46 (dk_at dksX3_hardOf_3 14 rfl rfl)
theorem dX3_hardOf_88 : decode cX3_hardOf 88 = .ok (.iconst 5, 1) := dk_8 (dk_at dksX3_hardOf_3 17 rfl rfl)
theorem dX3_hardOf_89 : decode cX3_hardOf 89 = .ok (.aload_n 1, 1) := dk_43 (dk_at dksX3_hardOf_3 18 rfl rfl)
theorem dX3_hardOf_90 : decode cX3_hardOf 90 = .ok (.bipush 24, 2) := dk_16 24 (dk_at dksX3_hardOf_3 19 rfl rfl)
theorem dX3_hardOf_92 : decode cX3_hardOf 92 = .ok (.iaload, 1) := dk_46 (dk_at dksX3_hardOf_3 21 rfl rfl)
theorem dX3_hardOf_93 : decode cX3_hardOf 93 = .ok (.bipush 7, 2) := dk_16 7 (dk_at dksX3_hardOf_3 22 rfl rfl)
theorem dX3_hardOf_95 : decode cX3_hardOf 95 = .ok (.irem, 1) := dk_112 (dk_at dksX3_hardOf_4 0 rfl rfl)
theorem dX3_hardOf_96 : decode cX3_hardOf 96 = .ok (.iastore, 1) := dk_79 (dk_at dksX3_hardOf_4 1 rfl rfl)
theorem dX3_hardOf_97 : decode cX3_hardOf 97 = .ok (.aload_n 0, 1) := dk_42 (dk_at dksX3_hardOf_4 2 rfl rfl)
theorem dX3_hardOf_98 : decode cX3_hardOf 98 = .ok (.getfield 46, 3) := dk_180 0 46 (dk_at dksX3_hardOf_4 3 rfl rfl)
theorem dX3_hardOf_101 : decode cX3_hardOf 101 = .ok (.bipush 6, 2) := dk_16 6 (dk_at dksX3_hardOf_4 6 rfl rfl)
theorem dX3_hardOf_103 : decode cX3_hardOf 103 = .ok (.aload_n 0, 1) := dk_42 (dk_at dksX3_hardOf_4 8 rfl rfl)
theorem dX3_hardOf_104 : decode cX3_hardOf 104 = .ok (.getfield 26, 3) := dk_180 0 26 (dk_at dksX3_hardOf_4 9 rfl rfl)
theorem dX3_hardOf_107 : decode cX3_hardOf 107 = .ok (.iload_n 2, 1) := dk_28 (dk_at dksX3_hardOf_4 12 rfl rfl)
theorem dX3_hardOf_108 : decode cX3_hardOf 108 = .ok (.iaload, 1) := dk_46 (dk_at dksX3_hardOf_4 13 rfl rfl)
theorem dX3_hardOf_109 : decode cX3_hardOf 109 = .ok (.invokestatic 221, 3) := dk_184 0 221 (dk_at dksX3_hardOf_4 14 rfl rfl)
theorem dX3_hardOf_112 : decode cX3_hardOf 112 = .ok (.iastore, 1) := dk_79 (dk_at dksX3_hardOf_4 17 rfl rfl)
theorem dX3_hardOf_113 : decode cX3_hardOf 113 = .ok (.aload_n 0, 1) := dk_42 (dk_at dksX3_hardOf_4 18 rfl rfl)
theorem dX3_hardOf_114 : decode cX3_hardOf 114 = .ok (.aload_n 0, 1) := dk_42 (dk_at dksX3_hardOf_4 19 rfl rfl)
theorem dX3_hardOf_115 : decode cX3_hardOf 115 = .ok (.getfield 40, 3) := dk_180 0 40 (dk_at dksX3_hardOf_4 20 rfl rfl)
theorem dX3_hardOf_118 : decode cX3_hardOf 118 = .ok (.aload_n 0, 1) := dk_42 (dk_at dksX3_hardOf_4 23 rfl rfl)
theorem dX3_hardOf_119 : decode cX3_hardOf 119 = .ok (.getfield 218, 3) := dk_180 0 218 (dk_at dksX3_hardOf_5 0 rfl rfl)
theorem dX3_hardOf_122 : decode cX3_hardOf 122 = .ok (.bipush 40, 2) := dk_16 40 (dk_at dksX3_hardOf_5 3 rfl rfl)
theorem dX3_hardOf_124 : decode cX3_hardOf 124 = .ok (.invokevirtual 149, 3) := dk_182 0 149 (dk_at dksX3_hardOf_5 5 rfl rfl)
theorem dX3_hardOf_127 : decode cX3_hardOf 127 = .ok (.aload_n 0, 1) := dk_42 (dk_at dksX3_hardOf_5 8 rfl rfl)
theorem dX3_hardOf_128 : decode cX3_hardOf 128 = .ok (.iconst 1, 1) := dk_4 (dk_at dksX3_hardOf_5 9 rfl rfl)
theorem dX3_hardOf_129 : decode cX3_hardOf 129 = .ok (.putfield 211, 3) := dk_181 0 211 (dk_at dksX3_hardOf_5 10 rfl rfl)
theorem dX3_hardOf_132 : decode cX3_hardOf 132 = .ok (.aload_n 0, 1) := dk_42 (dk_at dksX3_hardOf_5 13 rfl rfl)
theorem dX3_hardOf_133 : decode cX3_hardOf 133 = .ok (.iconst 0, 1) := dk_3 (dk_at dksX3_hardOf_5 14 rfl rfl)
theorem dX3_hardOf_134 : decode cX3_hardOf 134 = .ok (.invokevirtual 198, 3) := dk_182 0 198 (dk_at dksX3_hardOf_5 15 rfl rfl)
theorem dX3_hardOf_137 : decode cX3_hardOf 137 = .ok (.istore 4, 2) := dk_54 4 (dk_at dksX3_hardOf_5 18 rfl rfl)
theorem dX3_hardOf_139 : decode cX3_hardOf 139 = .ok (.aload_n 0, 1) := dk_42 (dk_at dksX3_hardOf_5 20 rfl rfl)
theorem dX3_hardOf_140 : decode cX3_hardOf 140 = .ok (.iconst 0, 1) := dk_3 (dk_at dksX3_hardOf_5 21 rfl rfl)
theorem dX3_hardOf_141 : decode cX3_hardOf 141 = .ok (.putfield 211, 3) := dk_181 0 211 (dk_at dksX3_hardOf_6 0 rfl rfl)
theorem dX3_hardOf_144 : decode cX3_hardOf 144 = .ok (.iconst 0, 1) := dk_3 (dk_at dksX3_hardOf_6 3 rfl rfl)
theorem dX3_hardOf_145 : decode cX3_hardOf 145 = .ok (.sipush 999, 3) := dk_17 3 231 (dk_at dksX3_hardOf_6 4 rfl rfl)
theorem dX3_hardOf_148 : decode cX3_hardOf 148 = .ok (.iload 4, 2) := dk_21 4 (dk_at dksX3_hardOf_6 7 rfl rfl)
theorem dX3_hardOf_150 : decode cX3_hardOf 150 = .ok (.invokestatic 226, 3) := dk_184 0 226 (dk_at dksX3_hardOf_6 9 rfl rfl)
theorem dX3_hardOf_153 : decode cX3_hardOf 153 = .ok (.invokestatic 232, 3) := dk_184 0 232 (dk_at dksX3_hardOf_6 12 rfl rfl)
theorem dX3_hardOf_156 : decode cX3_hardOf 156 = .ok (.ireturn, 1) := dk_172 (dk_at dksX3_hardOf_6 15 rfl rfl)
abbrev cX3_set : ByteArray := prog_9_method_36_code
def yX3_set : MethodName := ⟨RX3, "set", "(II)I"⟩
def dkwX3_set_3 : List UInt8 := [181, 0, 17, 29, 172]
abbrev dktX3_set_3 : List UInt8 := dkwX3_set_3 ++ []
def dkwX3_set_2 : List UInt8 := [167, 0, 7, 42, 180, 0, 17, 62, 27, 154, 0, 11, 42, 28, 181, 0, 13, 167, 0, 8, 42, 28]
abbrev dktX3_set_2 : List UInt8 := dkwX3_set_2 ++ dktX3_set_3
def dkwX3_set_1 : List UInt8 := [160, 0, 13, 28, 3, 16, 9, 184, 0, 123, 154, 0, 5, 2, 172, 27, 154, 0, 10, 42, 180, 0, 13]
abbrev dktX3_set_1 : List UInt8 := dkwX3_set_1 ++ dktX3_set_2
def dkwX3_set_0 : List UInt8 := [42, 3, 181, 0, 114, 27, 154, 0, 16, 28, 4, 16, 8, 184, 0, 123, 154, 0, 23, 167, 0, 18, 27, 4]
abbrev dktX3_set_0 : List UInt8 := dkwX3_set_0 ++ dktX3_set_1
theorem dksX3_set_0 : cX3_set.data.toList.drop 0 = dktX3_set_0 := by decide +kernel
theorem dksX3_set_1 : cX3_set.data.toList.drop 24 = dktX3_set_1 := dk_seg dksX3_set_0 24 rfl rfl
theorem dksX3_set_2 : cX3_set.data.toList.drop 47 = dktX3_set_2 := dk_seg dksX3_set_1 23 rfl rfl
theorem dksX3_set_3 : cX3_set.data.toList.drop 69 = dktX3_set_3 := dk_seg dksX3_set_2 22 rfl rfl
theorem dX3_set_0 : decode cX3_set 0 = .ok (.aload_n 0, 1) := dk_42 (dk_at dksX3_set_0 0 rfl rfl)
theorem dX3_set_1 : decode cX3_set 1 = .ok (.iconst 0, 1) := dk_3 (dk_at dksX3_set_0 1 rfl rfl)
theorem dX3_set_2 : decode cX3_set 2 = .ok (.putfield 114, 3) := dk_181 0 114 (dk_at dksX3_set_0 2 rfl rfl)
theorem dX3_set_5 : decode cX3_set 5 = .ok (.iload_n 1, 1) := dk_27 (dk_at dksX3_set_0 5 rfl rfl)
theorem dX3_set_6 : decode cX3_set 6 = .ok (.ifCond .ne 16, 3) := dk_154 0 16 (dk_at dksX3_set_0 6 rfl rfl)
theorem dX3_set_9 : decode cX3_set 9 = .ok (.iload_n 2, 1) := dk_28 (dk_at dksX3_set_0 9 rfl rfl)
theorem dX3_set_10 : decode cX3_set 10 = .ok (.iconst 1, 1) := dk_4 (dk_at dksX3_set_0 10 rfl rfl)
theorem dX3_set_11 : decode cX3_set 11 = .ok (.bipush 8, 2) := dk_16 8 (dk_at dksX3_set_0 11 rfl rfl)
theorem dX3_set_13 : decode cX3_set 13 = .ok (.invokestatic 123, 3) := dk_184 0 123 (dk_at dksX3_set_0 13 rfl rfl)
theorem dX3_set_16 : decode cX3_set 16 = .ok (.ifCond .ne 23, 3) := dk_154 0 23 (dk_at dksX3_set_0 16 rfl rfl)
theorem dX3_set_19 : decode cX3_set 19 = .ok (.goto 18, 3) := dk_167 0 18 (dk_at dksX3_set_0 19 rfl rfl)
theorem dX3_set_22 : decode cX3_set 22 = .ok (.iload_n 1, 1) := dk_27 (dk_at dksX3_set_0 22 rfl rfl)
theorem dX3_set_23 : decode cX3_set 23 = .ok (.iconst 1, 1) := dk_4 (dk_at dksX3_set_0 23 rfl rfl)
theorem dX3_set_24 : decode cX3_set 24 = .ok (.if_icmp .ne 13, 3) := dk_160 0 13 (dk_at dksX3_set_1 0 rfl rfl)
theorem dX3_set_27 : decode cX3_set 27 = .ok (.iload_n 2, 1) := dk_28 (dk_at dksX3_set_1 3 rfl rfl)
theorem dX3_set_28 : decode cX3_set 28 = .ok (.iconst 0, 1) := dk_3 (dk_at dksX3_set_1 4 rfl rfl)
theorem dX3_set_29 : decode cX3_set 29 = .ok (.bipush 9, 2) := dk_16 9 (dk_at dksX3_set_1 5 rfl rfl)
theorem dX3_set_31 : decode cX3_set 31 = .ok (.invokestatic 123, 3) := dk_184 0 123 (dk_at dksX3_set_1 7 rfl rfl)
theorem dX3_set_34 : decode cX3_set 34 = .ok (.ifCond .ne 5, 3) := dk_154 0 5 (dk_at dksX3_set_1 10 rfl rfl)
theorem dX3_set_37 : decode cX3_set 37 = .ok (.iconst (-1), 1) := dk_2 (dk_at dksX3_set_1 13 rfl rfl)
theorem dX3_set_38 : decode cX3_set 38 = .ok (.ireturn, 1) := dk_172 (dk_at dksX3_set_1 14 rfl rfl)
theorem dX3_set_39 : decode cX3_set 39 = .ok (.iload_n 1, 1) := dk_27 (dk_at dksX3_set_1 15 rfl rfl)
theorem dX3_set_40 : decode cX3_set 40 = .ok (.ifCond .ne 10, 3) := dk_154 0 10 (dk_at dksX3_set_1 16 rfl rfl)
theorem dX3_set_43 : decode cX3_set 43 = .ok (.aload_n 0, 1) := dk_42 (dk_at dksX3_set_1 19 rfl rfl)
theorem dX3_set_44 : decode cX3_set 44 = .ok (.getfield 13, 3) := dk_180 0 13 (dk_at dksX3_set_1 20 rfl rfl)
theorem dX3_set_47 : decode cX3_set 47 = .ok (.goto 7, 3) := dk_167 0 7 (dk_at dksX3_set_2 0 rfl rfl)
theorem dX3_set_50 : decode cX3_set 50 = .ok (.aload_n 0, 1) := dk_42 (dk_at dksX3_set_2 3 rfl rfl)
theorem dX3_set_51 : decode cX3_set 51 = .ok (.getfield 17, 3) := dk_180 0 17 (dk_at dksX3_set_2 4 rfl rfl)
theorem dX3_set_54 : decode cX3_set 54 = .ok (.istore_n 3, 1) := dk_62 (dk_at dksX3_set_2 7 rfl rfl)
theorem dX3_set_55 : decode cX3_set 55 = .ok (.iload_n 1, 1) := dk_27 (dk_at dksX3_set_2 8 rfl rfl)
theorem dX3_set_56 : decode cX3_set 56 = .ok (.ifCond .ne 11, 3) := dk_154 0 11 (dk_at dksX3_set_2 9 rfl rfl)
theorem dX3_set_59 : decode cX3_set 59 = .ok (.aload_n 0, 1) := dk_42 (dk_at dksX3_set_2 12 rfl rfl)
theorem dX3_set_60 : decode cX3_set 60 = .ok (.iload_n 2, 1) := dk_28 (dk_at dksX3_set_2 13 rfl rfl)
theorem dX3_set_61 : decode cX3_set 61 = .ok (.putfield 13, 3) := dk_181 0 13 (dk_at dksX3_set_2 14 rfl rfl)
theorem dX3_set_64 : decode cX3_set 64 = .ok (.goto 8, 3) := dk_167 0 8 (dk_at dksX3_set_2 17 rfl rfl)
theorem dX3_set_67 : decode cX3_set 67 = .ok (.aload_n 0, 1) := dk_42 (dk_at dksX3_set_2 20 rfl rfl)
theorem dX3_set_68 : decode cX3_set 68 = .ok (.iload_n 2, 1) := dk_28 (dk_at dksX3_set_2 21 rfl rfl)
theorem dX3_set_69 : decode cX3_set 69 = .ok (.putfield 17, 3) := dk_181 0 17 (dk_at dksX3_set_3 0 rfl rfl)
theorem dX3_set_72 : decode cX3_set 72 = .ok (.iload_n 3, 1) := dk_29 (dk_at dksX3_set_3 3 rfl rfl)
theorem dX3_set_73 : decode cX3_set 73 = .ok (.ireturn, 1) := dk_172 (dk_at dksX3_set_3 4 rfl rfl)
abbrev cX3_sheet : ByteArray := prog_9_method_37_code
def yX3_sheet : MethodName := ⟨RX3, "sheet", "(IIII)I"⟩
def dkwX3_sheet_6 : List UInt8 := [167, 255, 161, 27, 6, 160, 0, 8, 16, 253, 167, 0, 5, 21, 5, 172]
abbrev dktX3_sheet_6 : List UInt8 := dkwX3_sheet_6 ++ []
def dkwX3_sheet_5 : List UInt8 := [180, 0, 9, 16, 8, 21, 7, 96, 46, 96, 54, 5, 21, 6, 21, 4, 96, 54, 6, 132, 7, 1]
abbrev dktX3_sheet_5 : List UInt8 := dkwX3_sheet_5 ++ dktX3_sheet_6
def dkwX3_sheet_4 : List UInt8 := [161, 0, 7, 3, 167, 0, 14, 3, 16, 99, 21, 8, 184, 0, 226, 184, 0, 232, 79, 21, 5, 42]
abbrev dktX3_sheet_4 : List UInt8 := dkwX3_sheet_4 ++ dktX3_sheet_5
def dkwX3_sheet_3 : List UInt8 := [167, 0, 5, 21, 6, 54, 8, 42, 180, 0, 9, 16, 8, 21, 7, 96, 27, 6, 159, 0, 9, 21, 7, 28]
abbrev dktX3_sheet_3 : List UInt8 := dkwX3_sheet_3 ++ dktX3_sheet_4
def dkwX3_sheet_2 : List UInt8 := [180, 0, 120, 162, 0, 92, 27, 154, 0, 9, 21, 6, 145, 167, 0, 16, 27, 4, 160, 0, 9, 21, 6, 147]
abbrev dktX3_sheet_2 : List UInt8 := dkwX3_sheet_2 ++ dktX3_sheet_3
def dkwX3_sheet_1 : List UInt8 := [162, 0, 10, 28, 156, 0, 6, 16, 254, 172, 3, 54, 5, 29, 54, 6, 3, 54, 7, 21, 7, 42]
abbrev dktX3_sheet_1 : List UInt8 := dkwX3_sheet_1 ++ dktX3_sheet_2
def dkwX3_sheet_0 : List UInt8 := [42, 3, 181, 0, 114, 27, 3, 6, 184, 0, 123, 153, 0, 9, 28, 16, 8, 164, 0, 5, 2, 172, 27, 6]
abbrev dktX3_sheet_0 : List UInt8 := dkwX3_sheet_0 ++ dktX3_sheet_1
theorem dksX3_sheet_0 : cX3_sheet.data.toList.drop 0 = dktX3_sheet_0 := by decide +kernel
theorem dksX3_sheet_1 : cX3_sheet.data.toList.drop 24 = dktX3_sheet_1 := dk_seg dksX3_sheet_0 24 rfl rfl
theorem dksX3_sheet_2 : cX3_sheet.data.toList.drop 46 = dktX3_sheet_2 := dk_seg dksX3_sheet_1 22 rfl rfl
theorem dksX3_sheet_3 : cX3_sheet.data.toList.drop 70 = dktX3_sheet_3 := dk_seg dksX3_sheet_2 24 rfl rfl
theorem dksX3_sheet_4 : cX3_sheet.data.toList.drop 94 = dktX3_sheet_4 := dk_seg dksX3_sheet_3 24 rfl rfl
theorem dksX3_sheet_5 : cX3_sheet.data.toList.drop 116 = dktX3_sheet_5 := dk_seg dksX3_sheet_4 22 rfl rfl
theorem dksX3_sheet_6 : cX3_sheet.data.toList.drop 138 = dktX3_sheet_6 := dk_seg dksX3_sheet_5 22 rfl rfl
theorem dX3_sheet_0 : decode cX3_sheet 0 = .ok (.aload_n 0, 1) := dk_42 (dk_at dksX3_sheet_0 0 rfl rfl)
theorem dX3_sheet_1 : decode cX3_sheet 1 = .ok (.iconst 0, 1) := dk_3 (dk_at dksX3_sheet_0 1 rfl rfl)
theorem dX3_sheet_2 : decode cX3_sheet 2 = .ok (.putfield 114, 3) := dk_181 0 114 (dk_at dksX3_sheet_0 2 rfl rfl)
theorem dX3_sheet_5 : decode cX3_sheet 5 = .ok (.iload_n 1, 1) := dk_27 (dk_at dksX3_sheet_0 5 rfl rfl)
theorem dX3_sheet_6 : decode cX3_sheet 6 = .ok (.iconst 0, 1) := dk_3 (dk_at dksX3_sheet_0 6 rfl rfl)
theorem dX3_sheet_7 : decode cX3_sheet 7 = .ok (.iconst 3, 1) := dk_6 (dk_at dksX3_sheet_0 7 rfl rfl)
theorem dX3_sheet_8 : decode cX3_sheet 8 = .ok (.invokestatic 123, 3) := dk_184 0 123 (dk_at dksX3_sheet_0 8 rfl rfl)
theorem dX3_sheet_11 : decode cX3_sheet 11 = .ok (.ifCond .eq 9, 3) := dk_153 0 9 (dk_at dksX3_sheet_0 11 rfl rfl)
theorem dX3_sheet_14 : decode cX3_sheet 14 = .ok (.iload_n 2, 1) := dk_28 (dk_at dksX3_sheet_0 14 rfl rfl)
theorem dX3_sheet_15 : decode cX3_sheet 15 = .ok (.bipush 8, 2) := dk_16 8 (dk_at dksX3_sheet_0 15 rfl rfl)
theorem dX3_sheet_17 : decode cX3_sheet 17 = .ok (.if_icmp .le 5, 3) := dk_164 0 5 (dk_at dksX3_sheet_0 17 rfl rfl)
theorem dX3_sheet_20 : decode cX3_sheet 20 = .ok (.iconst (-1), 1) := dk_2 (dk_at dksX3_sheet_0 20 rfl rfl)
theorem dX3_sheet_21 : decode cX3_sheet 21 = .ok (.ireturn, 1) := dk_172 (dk_at dksX3_sheet_0 21 rfl rfl)
theorem dX3_sheet_22 : decode cX3_sheet 22 = .ok (.iload_n 1, 1) := dk_27 (dk_at dksX3_sheet_0 22 rfl rfl)
theorem dX3_sheet_23 : decode cX3_sheet 23 = .ok (.iconst 3, 1) := dk_6 (dk_at dksX3_sheet_0 23 rfl rfl)
theorem dX3_sheet_24 : decode cX3_sheet 24 = .ok (.if_icmp .ge 10, 3) := dk_162 0 10 (dk_at dksX3_sheet_1 0 rfl rfl)
theorem dX3_sheet_27 : decode cX3_sheet 27 = .ok (.iload_n 2, 1) := dk_28 (dk_at dksX3_sheet_1 3 rfl rfl)
theorem dX3_sheet_28 : decode cX3_sheet 28 = .ok (.ifCond .ge 6, 3) := dk_156 0 6 (dk_at dksX3_sheet_1 4 rfl rfl)
theorem dX3_sheet_31 : decode cX3_sheet 31 = .ok (.bipush (-2), 2) := dk_16 254 (dk_at dksX3_sheet_1 7 rfl rfl)
theorem dX3_sheet_33 : decode cX3_sheet 33 = .ok (.ireturn, 1) := dk_172 (dk_at dksX3_sheet_1 9 rfl rfl)
theorem dX3_sheet_34 : decode cX3_sheet 34 = .ok (.iconst 0, 1) := dk_3 (dk_at dksX3_sheet_1 10 rfl rfl)
theorem dX3_sheet_35 : decode cX3_sheet 35 = .ok (.istore 5, 2) := dk_54 5 (dk_at dksX3_sheet_1 11 rfl rfl)
theorem dX3_sheet_37 : decode cX3_sheet 37 = .ok (.iload_n 3, 1) := dk_29 (dk_at dksX3_sheet_1 13 rfl rfl)
theorem dX3_sheet_38 : decode cX3_sheet 38 = .ok (.istore 6, 2) := dk_54 6 (dk_at dksX3_sheet_1 14 rfl rfl)
theorem dX3_sheet_40 : decode cX3_sheet 40 = .ok (.iconst 0, 1) := dk_3 (dk_at dksX3_sheet_1 16 rfl rfl)
theorem dX3_sheet_41 : decode cX3_sheet 41 = .ok (.istore 7, 2) := dk_54 7 (dk_at dksX3_sheet_1 17 rfl rfl)
theorem dX3_sheet_43 : decode cX3_sheet 43 = .ok (.iload 7, 2) := dk_21 7 (dk_at dksX3_sheet_1 19 rfl rfl)
theorem dX3_sheet_45 : decode cX3_sheet 45 = .ok (.aload_n 0, 1) := dk_42 (dk_at dksX3_sheet_1 21 rfl rfl)
theorem dX3_sheet_46 : decode cX3_sheet 46 = .ok (.getfield 120, 3) := dk_180 0 120 (dk_at dksX3_sheet_2 0 rfl rfl)
theorem dX3_sheet_49 : decode cX3_sheet 49 = .ok (.if_icmp .ge 92, 3) := dk_162 0 92 (dk_at dksX3_sheet_2 3 rfl rfl)
theorem dX3_sheet_52 : decode cX3_sheet 52 = .ok (.iload_n 1, 1) := dk_27 (dk_at dksX3_sheet_2 6 rfl rfl)
theorem dX3_sheet_53 : decode cX3_sheet 53 = .ok (.ifCond .ne 9, 3) := dk_154 0 9 (dk_at dksX3_sheet_2 7 rfl rfl)
theorem dX3_sheet_56 : decode cX3_sheet 56 = .ok (.iload 6, 2) := dk_21 6 (dk_at dksX3_sheet_2 10 rfl rfl)
theorem dX3_sheet_58 : decode cX3_sheet 58 = .ok (.i2b, 1) := dk_145 (dk_at dksX3_sheet_2 12 rfl rfl)
theorem dX3_sheet_59 : decode cX3_sheet 59 = .ok (.goto 16, 3) := dk_167 0 16 (dk_at dksX3_sheet_2 13 rfl rfl)
theorem dX3_sheet_62 : decode cX3_sheet 62 = .ok (.iload_n 1, 1) := dk_27 (dk_at dksX3_sheet_2 16 rfl rfl)
theorem dX3_sheet_63 : decode cX3_sheet 63 = .ok (.iconst 1, 1) := dk_4 (dk_at dksX3_sheet_2 17 rfl rfl)
theorem dX3_sheet_64 : decode cX3_sheet 64 = .ok (.if_icmp .ne 9, 3) := dk_160 0 9 (dk_at dksX3_sheet_2 18 rfl rfl)
theorem dX3_sheet_67 : decode cX3_sheet 67 = .ok (.iload 6, 2) := dk_21 6 (dk_at dksX3_sheet_2 21 rfl rfl)
theorem dX3_sheet_69 : decode cX3_sheet 69 = .ok (.i2s, 1) := dk_147 (dk_at dksX3_sheet_2 23 rfl rfl)
theorem dX3_sheet_70 : decode cX3_sheet 70 = .ok (.goto 5, 3) := dk_167 0 5 (dk_at dksX3_sheet_3 0 rfl rfl)
theorem dX3_sheet_73 : decode cX3_sheet 73 = .ok (.iload 6, 2) := dk_21 6 (dk_at dksX3_sheet_3 3 rfl rfl)
theorem dX3_sheet_75 : decode cX3_sheet 75 = .ok (.istore 8, 2) := dk_54 8 (dk_at dksX3_sheet_3 5 rfl rfl)
theorem dX3_sheet_77 : decode cX3_sheet 77 = .ok (.aload_n 0, 1) := dk_42 (dk_at dksX3_sheet_3 7 rfl rfl)
theorem dX3_sheet_78 : decode cX3_sheet 78 = .ok (.getfield 9, 3) := dk_180 0 9 (dk_at dksX3_sheet_3 8 rfl rfl)
theorem dX3_sheet_81 : decode cX3_sheet 81 = .ok (.bipush 8, 2) := dk_16 8 (dk_at dksX3_sheet_3 11 rfl rfl)
theorem dX3_sheet_83 : decode cX3_sheet 83 = .ok (.iload 7, 2) := dk_21 7 (dk_at dksX3_sheet_3 13 rfl rfl)
theorem dX3_sheet_85 : decode cX3_sheet 85 = .ok (.iadd, 1) := dk_96 (dk_at dksX3_sheet_3 15 rfl rfl)
theorem dX3_sheet_86 : decode cX3_sheet 86 = .ok (.iload_n 1, 1) := dk_27 (dk_at dksX3_sheet_3 16 rfl rfl)
theorem dX3_sheet_87 : decode cX3_sheet 87 = .ok (.iconst 3, 1) := dk_6 (dk_at dksX3_sheet_3 17 rfl rfl)
theorem dX3_sheet_88 : decode cX3_sheet 88 = .ok (.if_icmp .eq 9, 3) := dk_159 0 9 (dk_at dksX3_sheet_3 18 rfl rfl)
theorem dX3_sheet_91 : decode cX3_sheet 91 = .ok (.iload 7, 2) := dk_21 7 (dk_at dksX3_sheet_3 21 rfl rfl)
theorem dX3_sheet_93 : decode cX3_sheet 93 = .ok (.iload_n 2, 1) := dk_28 (dk_at dksX3_sheet_3 23 rfl rfl)
theorem dX3_sheet_94 : decode cX3_sheet 94 = .ok (.if_icmp .lt 7, 3) := dk_161 0 7 (dk_at dksX3_sheet_4 0 rfl rfl)
theorem dX3_sheet_97 : decode cX3_sheet 97 = .ok (.iconst 0, 1) := dk_3 (dk_at dksX3_sheet_4 3 rfl rfl)
theorem dX3_sheet_98 : decode cX3_sheet 98 = .ok (.goto 14, 3) := dk_167 0 14 (dk_at dksX3_sheet_4 4 rfl rfl)
theorem dX3_sheet_101 : decode cX3_sheet 101 = .ok (.iconst 0, 1) := dk_3 (dk_at dksX3_sheet_4 7 rfl rfl)
theorem dX3_sheet_102 : decode cX3_sheet 102 = .ok (.bipush 99, 2) := dk_16 99 (dk_at dksX3_sheet_4 8 rfl rfl)
theorem dX3_sheet_104 : decode cX3_sheet 104 = .ok (.iload 8, 2) := dk_21 8 (dk_at dksX3_sheet_4 10 rfl rfl)
theorem dX3_sheet_106 : decode cX3_sheet 106 = .ok (.invokestatic 226, 3) := dk_184 0 226 (dk_at dksX3_sheet_4 12 rfl rfl)
theorem dX3_sheet_109 : decode cX3_sheet 109 = .ok (.invokestatic 232, 3) := dk_184 0 232 (dk_at dksX3_sheet_4 15 rfl rfl)
theorem dX3_sheet_112 : decode cX3_sheet 112 = .ok (.iastore, 1) := dk_79 (dk_at dksX3_sheet_4 18 rfl rfl)
theorem dX3_sheet_113 : decode cX3_sheet 113 = .ok (.iload 5, 2) := dk_21 5 (dk_at dksX3_sheet_4 19 rfl rfl)
theorem dX3_sheet_115 : decode cX3_sheet 115 = .ok (.aload_n 0, 1) := dk_42 (dk_at dksX3_sheet_4 21 rfl rfl)
theorem dX3_sheet_116 : decode cX3_sheet 116 = .ok (.getfield 9, 3) := dk_180 0 9 (dk_at dksX3_sheet_5 0 rfl rfl)
theorem dX3_sheet_119 : decode cX3_sheet 119 = .ok (.bipush 8, 2) := dk_16 8 (dk_at dksX3_sheet_5 3 rfl rfl)
theorem dX3_sheet_121 : decode cX3_sheet 121 = .ok (.iload 7, 2) := dk_21 7 (dk_at dksX3_sheet_5 5 rfl rfl)
theorem dX3_sheet_123 : decode cX3_sheet 123 = .ok (.iadd, 1) := dk_96 (dk_at dksX3_sheet_5 7 rfl rfl)
theorem dX3_sheet_124 : decode cX3_sheet 124 = .ok (.iaload, 1) := dk_46 (dk_at dksX3_sheet_5 8 rfl rfl)
theorem dX3_sheet_125 : decode cX3_sheet 125 = .ok (.iadd, 1) := dk_96 (dk_at dksX3_sheet_5 9 rfl rfl)
theorem dX3_sheet_126 : decode cX3_sheet 126 = .ok (.istore 5, 2) := dk_54 5 (dk_at dksX3_sheet_5 10 rfl rfl)
theorem dX3_sheet_128 : decode cX3_sheet 128 = .ok (.iload 6, 2) := dk_21 6 (dk_at dksX3_sheet_5 12 rfl rfl)
theorem dX3_sheet_130 : decode cX3_sheet 130 = .ok (.iload 4, 2) := dk_21 4 (dk_at dksX3_sheet_5 14 rfl rfl)
theorem dX3_sheet_132 : decode cX3_sheet 132 = .ok (.iadd, 1) := dk_96 (dk_at dksX3_sheet_5 16 rfl rfl)
theorem dX3_sheet_133 : decode cX3_sheet 133 = .ok (.istore 6, 2) := dk_54 6 (dk_at dksX3_sheet_5 17 rfl rfl)
theorem dX3_sheet_135 : decode cX3_sheet 135 = .ok (.iinc 7 1, 3) := dk_132 7 1 (dk_at dksX3_sheet_5 19 rfl rfl)
theorem dX3_sheet_138 : decode cX3_sheet 138 = .ok (.goto (-95), 3) := dk_167 255 161 (dk_at dksX3_sheet_6 0 rfl rfl)
theorem dX3_sheet_141 : decode cX3_sheet 141 = .ok (.iload_n 1, 1) := dk_27 (dk_at dksX3_sheet_6 3 rfl rfl)
theorem dX3_sheet_142 : decode cX3_sheet 142 = .ok (.iconst 3, 1) := dk_6 (dk_at dksX3_sheet_6 4 rfl rfl)
theorem dX3_sheet_143 : decode cX3_sheet 143 = .ok (.if_icmp .ne 8, 3) := dk_160 0 8 (dk_at dksX3_sheet_6 5 rfl rfl)
theorem dX3_sheet_146 : decode cX3_sheet 146 = .ok (.bipush (-3), 2) := dk_16 253 (dk_at dksX3_sheet_6 8 rfl rfl)
theorem dX3_sheet_148 : decode cX3_sheet 148 = .ok (.goto 5, 3) := dk_167 0 5 (dk_at dksX3_sheet_6 10 rfl rfl)
theorem dX3_sheet_151 : decode cX3_sheet 151 = .ok (.iload 5, 2) := dk_21 5 (dk_at dksX3_sheet_6 13 rfl rfl)
theorem dX3_sheet_153 : decode cX3_sheet 153 = .ok (.ireturn, 1) := dk_172 (dk_at dksX3_sheet_6 15 rfl rfl)
abbrev cX3_rota : ByteArray := prog_9_method_40_code
def yX3_rota : MethodName := ⟨RX3, "rota", "()I"⟩
def dkwX3_rota_7 : List UInt8 := [2, 160, 0, 7, 3, 167, 0, 4, 4, 96, 60, 132, 2, 1, 167, 255, 205, 27, 172]
abbrev dktX3_rota_7 : List UInt8 := dkwX3_rota_7 ++ []
def dkwX3_rota_6 : List UInt8 := [180, 0, 13, 162, 0, 12, 42, 180, 0, 37, 28, 46, 167, 0, 4, 2, 79, 27, 42, 180, 0, 9, 28, 46]
abbrev dktX3_rota_6 : List UInt8 := dkwX3_rota_6 ++ dktX3_rota_7
def dkwX3_rota_5 : List UInt8 := [180, 0, 9, 182, 0, 253, 3, 60, 3, 61, 28, 16, 8, 162, 0, 51, 42, 180, 0, 9, 28, 28, 42]
abbrev dktX3_rota_5 : List UInt8 := dkwX3_rota_5 ++ dktX3_rota_6
def dkwX3_rota_4 : List UInt8 := [28, 79, 132, 1, 1, 167, 255, 172, 42, 182, 0, 179, 154, 0, 10, 2, 42, 180, 0, 146, 100, 172, 42, 42]
abbrev dktX3_rota_4 : List UInt8 := dkwX3_rota_4 ++ dktX3_rota_5
def dkwX3_rota_3 : List UInt8 := [180, 0, 143, 182, 0, 165, 167, 0, 20, 42, 89, 180, 0, 143, 4, 96, 181, 0, 143, 42, 180, 0, 37, 27]
abbrev dktX3_rota_3 : List UInt8 := dkwX3_rota_3 ++ dktX3_rota_4
def dkwX3_rota_2 : List UInt8 := [16, 48, 100, 61, 42, 182, 0, 157, 16, 45, 159, 0, 22, 42, 28, 182, 0, 127, 154, 0, 14, 42, 42]
abbrev dktX3_rota_2 : List UInt8 := dkwX3_rota_2 ++ dktX3_rota_3
def dkwX3_rota_1 : List UInt8 := [182, 0, 153, 153, 0, 75, 42, 182, 0, 157, 16, 45, 160, 0, 7, 2, 167, 0, 10, 42, 182, 0, 157]
abbrev dktX3_rota_1 : List UInt8 := dkwX3_rota_1 ++ dktX3_rota_2
def dkwX3_rota_0 : List UInt8 := [42, 3, 181, 0, 114, 42, 42, 180, 0, 13, 182, 0, 173, 3, 60, 27, 42, 180, 0, 13, 162, 0, 82, 42]
abbrev dktX3_rota_0 : List UInt8 := dkwX3_rota_0 ++ dktX3_rota_1
theorem dksX3_rota_0 : cX3_rota.data.toList.drop 0 = dktX3_rota_0 := by decide +kernel
theorem dksX3_rota_1 : cX3_rota.data.toList.drop 24 = dktX3_rota_1 := dk_seg dksX3_rota_0 24 rfl rfl
theorem dksX3_rota_2 : cX3_rota.data.toList.drop 47 = dktX3_rota_2 := dk_seg dksX3_rota_1 23 rfl rfl
theorem dksX3_rota_3 : cX3_rota.data.toList.drop 70 = dktX3_rota_3 := dk_seg dksX3_rota_2 23 rfl rfl
theorem dksX3_rota_4 : cX3_rota.data.toList.drop 94 = dktX3_rota_4 := dk_seg dksX3_rota_3 24 rfl rfl
theorem dksX3_rota_5 : cX3_rota.data.toList.drop 118 = dktX3_rota_5 := dk_seg dksX3_rota_4 24 rfl rfl
theorem dksX3_rota_6 : cX3_rota.data.toList.drop 141 = dktX3_rota_6 := dk_seg dksX3_rota_5 23 rfl rfl
theorem dksX3_rota_7 : cX3_rota.data.toList.drop 165 = dktX3_rota_7 := dk_seg dksX3_rota_6 24 rfl rfl
theorem dX3_rota_0 : decode cX3_rota 0 = .ok (.aload_n 0, 1) := dk_42 (dk_at dksX3_rota_0 0 rfl rfl)
theorem dX3_rota_1 : decode cX3_rota 1 = .ok (.iconst 0, 1) := dk_3 (dk_at dksX3_rota_0 1 rfl rfl)
theorem dX3_rota_2 : decode cX3_rota 2 = .ok (.putfield 114, 3) := dk_181 0 114 (dk_at dksX3_rota_0 2 rfl rfl)
theorem dX3_rota_5 : decode cX3_rota 5 = .ok (.aload_n 0, 1) := dk_42 (dk_at dksX3_rota_0 5 rfl rfl)
theorem dX3_rota_6 : decode cX3_rota 6 = .ok (.aload_n 0, 1) := dk_42 (dk_at dksX3_rota_0 6 rfl rfl)
theorem dX3_rota_7 : decode cX3_rota 7 = .ok (.getfield 13, 3) := dk_180 0 13 (dk_at dksX3_rota_0 7 rfl rfl)
theorem dX3_rota_10 : decode cX3_rota 10 = .ok (.invokevirtual 173, 3) := dk_182 0 173 (dk_at dksX3_rota_0 10 rfl rfl)
theorem dX3_rota_13 : decode cX3_rota 13 = .ok (.iconst 0, 1) := dk_3 (dk_at dksX3_rota_0 13 rfl rfl)
theorem dX3_rota_14 : decode cX3_rota 14 = .ok (.istore_n 1, 1) := dk_60 (dk_at dksX3_rota_0 14 rfl rfl)
theorem dX3_rota_15 : decode cX3_rota 15 = .ok (.iload_n 1, 1) := dk_27 (dk_at dksX3_rota_0 15 rfl rfl)
theorem dX3_rota_16 : decode cX3_rota 16 = .ok (.aload_n 0, 1) := dk_42 (dk_at dksX3_rota_0 16 rfl rfl)
theorem dX3_rota_17 : decode cX3_rota 17 = .ok (.getfield 13, 3) := dk_180 0 13 (dk_at dksX3_rota_0 17 rfl rfl)
theorem dX3_rota_20 : decode cX3_rota 20 = .ok (.if_icmp .ge 82, 3) := dk_162 0 82 (dk_at dksX3_rota_0 20 rfl rfl)
theorem dX3_rota_23 : decode cX3_rota 23 = .ok (.aload_n 0, 1) := dk_42 (dk_at dksX3_rota_0 23 rfl rfl)
theorem dX3_rota_24 : decode cX3_rota 24 = .ok (.invokevirtual 153, 3) := dk_182 0 153 (dk_at dksX3_rota_1 0 rfl rfl)
theorem dX3_rota_27 : decode cX3_rota 27 = .ok (.ifCond .eq 75, 3) := dk_153 0 75 (dk_at dksX3_rota_1 3 rfl rfl)
theorem dX3_rota_30 : decode cX3_rota 30 = .ok (.aload_n 0, 1) := dk_42 (dk_at dksX3_rota_1 6 rfl rfl)
theorem dX3_rota_31 : decode cX3_rota 31 = .ok (.invokevirtual 157, 3) := dk_182 0 157 (dk_at dksX3_rota_1 7 rfl rfl)
theorem dX3_rota_34 : decode cX3_rota 34 = .ok (.bipush 45, 2) := dk_16 45 (dk_at dksX3_rota_1 10 rfl rfl)
theorem dX3_rota_36 : decode cX3_rota 36 = .ok (.if_icmp .ne 7, 3) := dk_160 0 7 (dk_at dksX3_rota_1 12 rfl rfl)
theorem dX3_rota_39 : decode cX3_rota 39 = .ok (.iconst (-1), 1) := dk_2 (dk_at dksX3_rota_1 15 rfl rfl)
theorem dX3_rota_40 : decode cX3_rota 40 = .ok (.goto 10, 3) := dk_167 0 10 (dk_at dksX3_rota_1 16 rfl rfl)
theorem dX3_rota_43 : decode cX3_rota 43 = .ok (.aload_n 0, 1) := dk_42 (dk_at dksX3_rota_1 19 rfl rfl)
theorem dX3_rota_44 : decode cX3_rota 44 = .ok (.invokevirtual 157, 3) := dk_182 0 157 (dk_at dksX3_rota_1 20 rfl rfl)
theorem dX3_rota_47 : decode cX3_rota 47 = .ok (.bipush 48, 2) := dk_16 48 (dk_at dksX3_rota_2 0 rfl rfl)
theorem dX3_rota_49 : decode cX3_rota 49 = .ok (.isub, 1) := dk_100 (dk_at dksX3_rota_2 2 rfl rfl)
theorem dX3_rota_50 : decode cX3_rota 50 = .ok (.istore_n 2, 1) := dk_61 (dk_at dksX3_rota_2 3 rfl rfl)
theorem dX3_rota_51 : decode cX3_rota 51 = .ok (.aload_n 0, 1) := dk_42 (dk_at dksX3_rota_2 4 rfl rfl)
theorem dX3_rota_52 : decode cX3_rota 52 = .ok (.invokevirtual 157, 3) := dk_182 0 157 (dk_at dksX3_rota_2 5 rfl rfl)
theorem dX3_rota_55 : decode cX3_rota 55 = .ok (.bipush 45, 2) := dk_16 45 (dk_at dksX3_rota_2 8 rfl rfl)
theorem dX3_rota_57 : decode cX3_rota 57 = .ok (.if_icmp .eq 22, 3) := dk_159 0 22 (dk_at dksX3_rota_2 10 rfl rfl)
theorem dX3_rota_60 : decode cX3_rota 60 = .ok (.aload_n 0, 1) := dk_42 (dk_at dksX3_rota_2 13 rfl rfl)
theorem dX3_rota_61 : decode cX3_rota 61 = .ok (.iload_n 2, 1) := dk_28 (dk_at dksX3_rota_2 14 rfl rfl)
theorem dX3_rota_62 : decode cX3_rota 62 = .ok (.invokevirtual 127, 3) := dk_182 0 127 (dk_at dksX3_rota_2 15 rfl rfl)
theorem dX3_rota_65 : decode cX3_rota 65 = .ok (.ifCond .ne 14, 3) := dk_154 0 14 (dk_at dksX3_rota_2 18 rfl rfl)
theorem dX3_rota_68 : decode cX3_rota 68 = .ok (.aload_n 0, 1) := dk_42 (dk_at dksX3_rota_2 21 rfl rfl)
theorem dX3_rota_69 : decode cX3_rota 69 = .ok (.aload_n 0, 1) := dk_42 (dk_at dksX3_rota_2 22 rfl rfl)
theorem dX3_rota_70 : decode cX3_rota 70 = .ok (.getfield 143, 3) := dk_180 0 143 (dk_at dksX3_rota_3 0 rfl rfl)
theorem dX3_rota_73 : decode cX3_rota 73 = .ok (.invokevirtual 165, 3) := dk_182 0 165 (dk_at dksX3_rota_3 3 rfl rfl)
theorem dX3_rota_76 : decode cX3_rota 76 = .ok (.goto 20, 3) := dk_167 0 20 (dk_at dksX3_rota_3 6 rfl rfl)
theorem dX3_rota_79 : decode cX3_rota 79 = .ok (.aload_n 0, 1) := dk_42 (dk_at dksX3_rota_3 9 rfl rfl)
theorem dX3_rota_80 : decode cX3_rota 80 = .ok (.dup, 1) := dk_89 (dk_at dksX3_rota_3 10 rfl rfl)
theorem dX3_rota_81 : decode cX3_rota 81 = .ok (.getfield 143, 3) := dk_180 0 143 (dk_at dksX3_rota_3 11 rfl rfl)
theorem dX3_rota_84 : decode cX3_rota 84 = .ok (.iconst 1, 1) := dk_4 (dk_at dksX3_rota_3 14 rfl rfl)
theorem dX3_rota_85 : decode cX3_rota 85 = .ok (.iadd, 1) := dk_96 (dk_at dksX3_rota_3 15 rfl rfl)
theorem dX3_rota_86 : decode cX3_rota 86 = .ok (.putfield 143, 3) := dk_181 0 143 (dk_at dksX3_rota_3 16 rfl rfl)
theorem dX3_rota_89 : decode cX3_rota 89 = .ok (.aload_n 0, 1) := dk_42 (dk_at dksX3_rota_3 19 rfl rfl)
theorem dX3_rota_90 : decode cX3_rota 90 = .ok (.getfield 37, 3) := dk_180 0 37 (dk_at dksX3_rota_3 20 rfl rfl)
theorem dX3_rota_93 : decode cX3_rota 93 = .ok (.iload_n 1, 1) := dk_27 (dk_at dksX3_rota_3 23 rfl rfl)
theorem dX3_rota_94 : decode cX3_rota 94 = .ok (.iload_n 2, 1) := dk_28 (dk_at dksX3_rota_4 0 rfl rfl)
theorem dX3_rota_95 : decode cX3_rota 95 = .ok (.iastore, 1) := dk_79 (dk_at dksX3_rota_4 1 rfl rfl)
theorem dX3_rota_96 : decode cX3_rota 96 = .ok (.iinc 1 1, 3) := dk_132 1 1 (dk_at dksX3_rota_4 2 rfl rfl)
theorem dX3_rota_99 : decode cX3_rota 99 = .ok (.goto (-84), 3) := dk_167 255 172 (dk_at dksX3_rota_4 5 rfl rfl)
theorem dX3_rota_102 : decode cX3_rota 102 = .ok (.aload_n 0, 1) := dk_42 (dk_at dksX3_rota_4 8 rfl rfl)
theorem dX3_rota_103 : decode cX3_rota 103 = .ok (.invokevirtual 179, 3) := dk_182 0 179 (dk_at dksX3_rota_4 9 rfl rfl)
theorem dX3_rota_106 : decode cX3_rota 106 = .ok (.ifCond .ne 10, 3) := dk_154 0 10 (dk_at dksX3_rota_4 12 rfl rfl)
theorem dX3_rota_109 : decode cX3_rota 109 = .ok (.iconst (-1), 1) := dk_2 (dk_at dksX3_rota_4 15 rfl rfl)
theorem dX3_rota_110 : decode cX3_rota 110 = .ok (.aload_n 0, 1) := dk_42 (dk_at dksX3_rota_4 16 rfl rfl)
theorem dX3_rota_111 : decode cX3_rota 111 = .ok (.getfield 146, 3) := dk_180 0 146 (dk_at dksX3_rota_4 17 rfl rfl)
theorem dX3_rota_114 : decode cX3_rota 114 = .ok (.isub, 1) := dk_100 (dk_at dksX3_rota_4 20 rfl rfl)
theorem dX3_rota_115 : decode cX3_rota 115 = .ok (.ireturn, 1) := dk_172 (dk_at dksX3_rota_4 21 rfl rfl)
theorem dX3_rota_116 : decode cX3_rota 116 = .ok (.aload_n 0, 1) := dk_42 (dk_at dksX3_rota_4 22 rfl rfl)
theorem dX3_rota_117 : decode cX3_rota 117 = .ok (.aload_n 0, 1) := dk_42 (dk_at dksX3_rota_4 23 rfl rfl)
theorem dX3_rota_118 : decode cX3_rota 118 = .ok (.getfield 9, 3) := dk_180 0 9 (dk_at dksX3_rota_5 0 rfl rfl)
theorem dX3_rota_121 : decode cX3_rota 121 = .ok (.invokevirtual 253, 3) := dk_182 0 253 (dk_at dksX3_rota_5 3 rfl rfl)
theorem dX3_rota_124 : decode cX3_rota 124 = .ok (.iconst 0, 1) := dk_3 (dk_at dksX3_rota_5 6 rfl rfl)
theorem dX3_rota_125 : decode cX3_rota 125 = .ok (.istore_n 1, 1) := dk_60 (dk_at dksX3_rota_5 7 rfl rfl)
theorem dX3_rota_126 : decode cX3_rota 126 = .ok (.iconst 0, 1) := dk_3 (dk_at dksX3_rota_5 8 rfl rfl)
theorem dX3_rota_127 : decode cX3_rota 127 = .ok (.istore_n 2, 1) := dk_61 (dk_at dksX3_rota_5 9 rfl rfl)
theorem dX3_rota_128 : decode cX3_rota 128 = .ok (.iload_n 2, 1) := dk_28 (dk_at dksX3_rota_5 10 rfl rfl)
theorem dX3_rota_129 : decode cX3_rota 129 = .ok (.bipush 8, 2) := dk_16 8 (dk_at dksX3_rota_5 11 rfl rfl)
theorem dX3_rota_131 : decode cX3_rota 131 = .ok (.if_icmp .ge 51, 3) := dk_162 0 51 (dk_at dksX3_rota_5 13 rfl rfl)
theorem dX3_rota_134 : decode cX3_rota 134 = .ok (.aload_n 0, 1) := dk_42 (dk_at dksX3_rota_5 16 rfl rfl)
theorem dX3_rota_135 : decode cX3_rota 135 = .ok (.getfield 9, 3) := dk_180 0 9 (dk_at dksX3_rota_5 17 rfl rfl)
theorem dX3_rota_138 : decode cX3_rota 138 = .ok (.iload_n 2, 1) := dk_28 (dk_at dksX3_rota_5 20 rfl rfl)
theorem dX3_rota_139 : decode cX3_rota 139 = .ok (.iload_n 2, 1) := dk_28 (dk_at dksX3_rota_5 21 rfl rfl)
theorem dX3_rota_140 : decode cX3_rota 140 = .ok (.aload_n 0, 1) := dk_42 (dk_at dksX3_rota_5 22 rfl rfl)
theorem dX3_rota_141 : decode cX3_rota 141 = .ok (.getfield 13, 3) := dk_180 0 13 (dk_at dksX3_rota_6 0 rfl rfl)
theorem dX3_rota_144 : decode cX3_rota 144 = .ok (.if_icmp .ge 12, 3) := dk_162 0 12 (dk_at dksX3_rota_6 3 rfl rfl)
theorem dX3_rota_147 : decode cX3_rota 147 = .ok (.aload_n 0, 1) := dk_42 (dk_at dksX3_rota_6 6 rfl rfl)
theorem dX3_rota_148 : decode cX3_rota 148 = .ok (.getfield 37, 3) := dk_180 0 37 (dk_at dksX3_rota_6 7 rfl rfl)
theorem dX3_rota_151 : decode cX3_rota 151 = .ok (.iload_n 2, 1) := dk_28 (dk_at dksX3_rota_6 10 rfl rfl)
theorem dX3_rota_152 : decode cX3_rota 152 = .ok (.iaload, 1) := dk_46 (dk_at dksX3_rota_6 11 rfl rfl)
theorem dX3_rota_153 : decode cX3_rota 153 = .ok (.goto 4, 3) := dk_167 0 4 (dk_at dksX3_rota_6 12 rfl rfl)
theorem dX3_rota_156 : decode cX3_rota 156 = .ok (.iconst (-1), 1) := dk_2 (dk_at dksX3_rota_6 15 rfl rfl)
theorem dX3_rota_157 : decode cX3_rota 157 = .ok (.iastore, 1) := dk_79 (dk_at dksX3_rota_6 16 rfl rfl)
theorem dX3_rota_158 : decode cX3_rota 158 = .ok (.iload_n 1, 1) := dk_27 (dk_at dksX3_rota_6 17 rfl rfl)
theorem dX3_rota_159 : decode cX3_rota 159 = .ok (.aload_n 0, 1) := dk_42 (dk_at dksX3_rota_6 18 rfl rfl)
theorem dX3_rota_160 : decode cX3_rota 160 = .ok (.getfield 9, 3) := dk_180 0 9 (dk_at dksX3_rota_6 19 rfl rfl)
theorem dX3_rota_163 : decode cX3_rota 163 = .ok (.iload_n 2, 1) := dk_28 (dk_at dksX3_rota_6 22 rfl rfl)
theorem dX3_rota_164 : decode cX3_rota 164 = .ok (.iaload, 1) := dk_46 (dk_at dksX3_rota_6 23 rfl rfl)
theorem dX3_rota_165 : decode cX3_rota 165 = .ok (.iconst (-1), 1) := dk_2 (dk_at dksX3_rota_7 0 rfl rfl)
theorem dX3_rota_166 : decode cX3_rota 166 = .ok (.if_icmp .ne 7, 3) := dk_160 0 7 (dk_at dksX3_rota_7 1 rfl rfl)
theorem dX3_rota_169 : decode cX3_rota 169 = .ok (.iconst 0, 1) := dk_3 (dk_at dksX3_rota_7 4 rfl rfl)
theorem dX3_rota_170 : decode cX3_rota 170 = .ok (.goto 4, 3) := dk_167 0 4 (dk_at dksX3_rota_7 5 rfl rfl)
theorem dX3_rota_173 : decode cX3_rota 173 = .ok (.iconst 1, 1) := dk_4 (dk_at dksX3_rota_7 8 rfl rfl)
theorem dX3_rota_174 : decode cX3_rota 174 = .ok (.iadd, 1) := dk_96 (dk_at dksX3_rota_7 9 rfl rfl)
theorem dX3_rota_175 : decode cX3_rota 175 = .ok (.istore_n 1, 1) := dk_60 (dk_at dksX3_rota_7 10 rfl rfl)
theorem dX3_rota_176 : decode cX3_rota 176 = .ok (.iinc 2 1, 3) := dk_132 2 1 (dk_at dksX3_rota_7 11 rfl rfl)
theorem dX3_rota_179 : decode cX3_rota 179 = .ok (.goto (-51), 3) := dk_167 255 205 (dk_at dksX3_rota_7 14 rfl rfl)
theorem dX3_rota_182 : decode cX3_rota 182 = .ok (.iload_n 1, 1) := dk_27 (dk_at dksX3_rota_7 17 rfl rfl)
theorem dX3_rota_183 : decode cX3_rota 183 = .ok (.ireturn, 1) := dk_172 (dk_at dksX3_rota_7 18 rfl rfl)
abbrev cX3_remember : ByteArray := prog_9_method_39_code
def yX3_remember : MethodName := ⟨RX3, "remember", "([I)V"⟩
def dkwX3_remember_3 : List UInt8 := [96, 181, 0, 182, 177]
abbrev dktX3_remember_3 : List UInt8 := dkwX3_remember_3 ++ []
def dkwX3_remember_2 : List UInt8 := [181, 0, 182, 43, 42, 180, 0, 49, 16, 27, 42, 180, 0, 182, 104, 184, 0, 249, 42, 89, 180, 0, 182, 4]
abbrev dktX3_remember_2 : List UInt8 := dkwX3_remember_2 ++ dktX3_remember_3
def dkwX3_remember_1 : List UInt8 := [180, 0, 49, 28, 16, 27, 96, 46, 79, 132, 2, 1, 167, 255, 231, 42, 89, 180, 0, 182, 4, 100]
abbrev dktX3_remember_1 : List UInt8 := dkwX3_remember_1 ++ dktX3_remember_2
def dkwX3_remember_0 : List UInt8 := [42, 180, 0, 182, 16, 12, 160, 0, 43, 3, 61, 28, 17, 1, 41, 162, 0, 24, 42, 180, 0, 49, 28, 42]
abbrev dktX3_remember_0 : List UInt8 := dkwX3_remember_0 ++ dktX3_remember_1
theorem dksX3_remember_0 : cX3_remember.data.toList.drop 0 = dktX3_remember_0 := by decide +kernel
theorem dksX3_remember_1 : cX3_remember.data.toList.drop 24 = dktX3_remember_1 := dk_seg dksX3_remember_0 24 rfl rfl
theorem dksX3_remember_2 : cX3_remember.data.toList.drop 46 = dktX3_remember_2 := dk_seg dksX3_remember_1 22 rfl rfl
theorem dksX3_remember_3 : cX3_remember.data.toList.drop 70 = dktX3_remember_3 := dk_seg dksX3_remember_2 24 rfl rfl
theorem dX3_remember_0 : decode cX3_remember 0 = .ok (.aload_n 0, 1) := dk_42 (dk_at dksX3_remember_0 0 rfl rfl)
theorem dX3_remember_1 : decode cX3_remember 1 = .ok (.getfield 182, 3) := dk_180 0 182 (dk_at dksX3_remember_0 1 rfl rfl)
theorem dX3_remember_4 : decode cX3_remember 4 = .ok (.bipush 12, 2) := dk_16 12 (dk_at dksX3_remember_0 4 rfl rfl)
theorem dX3_remember_6 : decode cX3_remember 6 = .ok (.if_icmp .ne 43, 3) := dk_160 0 43 (dk_at dksX3_remember_0 6 rfl rfl)
theorem dX3_remember_9 : decode cX3_remember 9 = .ok (.iconst 0, 1) := dk_3 (dk_at dksX3_remember_0 9 rfl rfl)
theorem dX3_remember_10 : decode cX3_remember 10 = .ok (.istore_n 2, 1) := dk_61 (dk_at dksX3_remember_0 10 rfl rfl)
theorem dX3_remember_11 : decode cX3_remember 11 = .ok (.iload_n 2, 1) := dk_28 (dk_at dksX3_remember_0 11 rfl rfl)
theorem dX3_remember_12 : decode cX3_remember 12 = .ok (.sipush 297, 3) := dk_17 1 41 (dk_at dksX3_remember_0 12 rfl rfl)
theorem dX3_remember_15 : decode cX3_remember 15 = .ok (.if_icmp .ge 24, 3) := dk_162 0 24 (dk_at dksX3_remember_0 15 rfl rfl)
theorem dX3_remember_18 : decode cX3_remember 18 = .ok (.aload_n 0, 1) := dk_42 (dk_at dksX3_remember_0 18 rfl rfl)
theorem dX3_remember_19 : decode cX3_remember 19 = .ok (.getfield 49, 3) := dk_180 0 49 (dk_at dksX3_remember_0 19 rfl rfl)
theorem dX3_remember_22 : decode cX3_remember 22 = .ok (.iload_n 2, 1) := dk_28 (dk_at dksX3_remember_0 22 rfl rfl)
theorem dX3_remember_23 : decode cX3_remember 23 = .ok (.aload_n 0, 1) := dk_42 (dk_at dksX3_remember_0 23 rfl rfl)
theorem dX3_remember_24 : decode cX3_remember 24 = .ok (.getfield 49, 3) := dk_180 0 49 (dk_at dksX3_remember_1 0 rfl rfl)
theorem dX3_remember_27 : decode cX3_remember 27 = .ok (.iload_n 2, 1) := dk_28 (dk_at dksX3_remember_1 3 rfl rfl)
theorem dX3_remember_28 : decode cX3_remember 28 = .ok (.bipush 27, 2) := dk_16 27 (dk_at dksX3_remember_1 4 rfl rfl)
theorem dX3_remember_30 : decode cX3_remember 30 = .ok (.iadd, 1) := dk_96 (dk_at dksX3_remember_1 6 rfl rfl)
theorem dX3_remember_31 : decode cX3_remember 31 = .ok (.iaload, 1) := dk_46 (dk_at dksX3_remember_1 7 rfl rfl)
theorem dX3_remember_32 : decode cX3_remember 32 = .ok (.iastore, 1) := dk_79 (dk_at dksX3_remember_1 8 rfl rfl)
theorem dX3_remember_33 : decode cX3_remember 33 = .ok (.iinc 2 1, 3) := dk_132 2 1 (dk_at dksX3_remember_1 9 rfl rfl)
theorem dX3_remember_36 : decode cX3_remember 36 = .ok (.goto (-25), 3) := dk_167 255 231 (dk_at dksX3_remember_1 12 rfl rfl)
theorem dX3_remember_39 : decode cX3_remember 39 = .ok (.aload_n 0, 1) := dk_42 (dk_at dksX3_remember_1 15 rfl rfl)
theorem dX3_remember_40 : decode cX3_remember 40 = .ok (.dup, 1) := dk_89 (dk_at dksX3_remember_1 16 rfl rfl)
theorem dX3_remember_41 : decode cX3_remember 41 = .ok (.getfield 182, 3) := dk_180 0 182 (dk_at dksX3_remember_1 17 rfl rfl)
theorem dX3_remember_44 : decode cX3_remember 44 = .ok (.iconst 1, 1) := dk_4 (dk_at dksX3_remember_1 20 rfl rfl)
theorem dX3_remember_45 : decode cX3_remember 45 = .ok (.isub, 1) := dk_100 (dk_at dksX3_remember_1 21 rfl rfl)
theorem dX3_remember_46 : decode cX3_remember 46 = .ok (.putfield 182, 3) := dk_181 0 182 (dk_at dksX3_remember_2 0 rfl rfl)
theorem dX3_remember_49 : decode cX3_remember 49 = .ok (.aload_n 1, 1) := dk_43 (dk_at dksX3_remember_2 3 rfl rfl)
theorem dX3_remember_50 : decode cX3_remember 50 = .ok (.aload_n 0, 1) := dk_42 (dk_at dksX3_remember_2 4 rfl rfl)
theorem dX3_remember_51 : decode cX3_remember 51 = .ok (.getfield 49, 3) := dk_180 0 49 (dk_at dksX3_remember_2 5 rfl rfl)
theorem dX3_remember_54 : decode cX3_remember 54 = .ok (.bipush 27, 2) := dk_16 27 (dk_at dksX3_remember_2 8 rfl rfl)
theorem dX3_remember_56 : decode cX3_remember 56 = .ok (.aload_n 0, 1) := dk_42 (dk_at dksX3_remember_2 10 rfl rfl)
theorem dX3_remember_57 : decode cX3_remember 57 = .ok (.getfield 182, 3) := dk_180 0 182 (dk_at dksX3_remember_2 11 rfl rfl)
theorem dX3_remember_60 : decode cX3_remember 60 = .ok (.imul, 1) := dk_104 (dk_at dksX3_remember_2 14 rfl rfl)
theorem dX3_remember_61 : decode cX3_remember 61 = .ok (.invokestatic 249, 3) := dk_184 0 249 (dk_at dksX3_remember_2 15 rfl rfl)
theorem dX3_remember_64 : decode cX3_remember 64 = .ok (.aload_n 0, 1) := dk_42 (dk_at dksX3_remember_2 18 rfl rfl)
theorem dX3_remember_65 : decode cX3_remember 65 = .ok (.dup, 1) := dk_89 (dk_at dksX3_remember_2 19 rfl rfl)
theorem dX3_remember_66 : decode cX3_remember 66 = .ok (.getfield 182, 3) := dk_180 0 182 (dk_at dksX3_remember_2 20 rfl rfl)
theorem dX3_remember_69 : decode cX3_remember 69 = .ok (.iconst 1, 1) := dk_4 (dk_at dksX3_remember_2 23 rfl rfl)
theorem dX3_remember_70 : decode cX3_remember 70 = .ok (.iadd, 1) := dk_96 (dk_at dksX3_remember_3 0 rfl rfl)
theorem dX3_remember_71 : decode cX3_remember 71 = .ok (.putfield 182, 3) := dk_181 0 182 (dk_at dksX3_remember_3 1 rfl rfl)
theorem dX3_remember_74 : decode cX3_remember 74 = .ok (.return_, 1) := dk_177 (dk_at dksX3_remember_3 4 rfl rfl)
abbrev cX3_lay : ByteArray := prog_9_method_38_code
def yX3_lay : MethodName := ⟨RX3, "lay", "([I[II)V"⟩
def dkwX3_lay_0 : List UInt8 := [3, 62, 29, 16, 27, 162, 0, 17, 43, 28, 29, 96, 42, 29, 46, 79, 132, 3, 1, 167, 255, 239, 177]
abbrev dktX3_lay_0 : List UInt8 := dkwX3_lay_0 ++ []
theorem dksX3_lay_0 : cX3_lay.data.toList.drop 0 = dktX3_lay_0 := by decide +kernel
theorem dX3_lay_0 : decode cX3_lay 0 = .ok (.iconst 0, 1) := dk_3 (dk_at dksX3_lay_0 0 rfl rfl)
theorem dX3_lay_1 : decode cX3_lay 1 = .ok (.istore_n 3, 1) := dk_62 (dk_at dksX3_lay_0 1 rfl rfl)
theorem dX3_lay_2 : decode cX3_lay 2 = .ok (.iload_n 3, 1) := dk_29 (dk_at dksX3_lay_0 2 rfl rfl)
theorem dX3_lay_3 : decode cX3_lay 3 = .ok (.bipush 27, 2) := dk_16 27 (dk_at dksX3_lay_0 3 rfl rfl)
theorem dX3_lay_5 : decode cX3_lay 5 = .ok (.if_icmp .ge 17, 3) := dk_162 0 17 (dk_at dksX3_lay_0 5 rfl rfl)
theorem dX3_lay_8 : decode cX3_lay 8 = .ok (.aload_n 1, 1) := dk_43 (dk_at dksX3_lay_0 8 rfl rfl)
theorem dX3_lay_9 : decode cX3_lay 9 = .ok (.iload_n 2, 1) := dk_28 (dk_at dksX3_lay_0 9 rfl rfl)
theorem dX3_lay_10 : decode cX3_lay 10 = .ok (.iload_n 3, 1) := dk_29 (dk_at dksX3_lay_0 10 rfl rfl)
theorem dX3_lay_11 : decode cX3_lay 11 = .ok (.iadd, 1) := dk_96 (dk_at dksX3_lay_0 11 rfl rfl)
theorem dX3_lay_12 : decode cX3_lay 12 = .ok (.aload_n 0, 1) := dk_42 (dk_at dksX3_lay_0 12 rfl rfl)
theorem dX3_lay_13 : decode cX3_lay 13 = .ok (.iload_n 3, 1) := dk_29 (dk_at dksX3_lay_0 13 rfl rfl)
theorem dX3_lay_14 : decode cX3_lay 14 = .ok (.iaload, 1) := dk_46 (dk_at dksX3_lay_0 14 rfl rfl)
theorem dX3_lay_15 : decode cX3_lay 15 = .ok (.iastore, 1) := dk_79 (dk_at dksX3_lay_0 15 rfl rfl)
theorem dX3_lay_16 : decode cX3_lay 16 = .ok (.iinc 3 1, 3) := dk_132 3 1 (dk_at dksX3_lay_0 16 rfl rfl)
theorem dX3_lay_19 : decode cX3_lay 19 = .ok (.goto (-17), 3) := dk_167 255 239 (dk_at dksX3_lay_0 19 rfl rfl)
theorem dX3_lay_22 : decode cX3_lay 22 = .ok (.return_, 1) := dk_177 (dk_at dksX3_lay_0 22 rfl rfl)
abbrev cX3_give : ByteArray := prog_9_method_42_code
def yX3_give : MethodName := ⟨RX3, "give", "(II)I"⟩
def dkwX3_give_1 : List UInt8 := [182, 0, 253, 42, 180, 0, 9, 27, 46, 62, 42, 180, 0, 9, 27, 28, 79, 29, 172]
abbrev dktX3_give_1 : List UInt8 := dkwX3_give_1 ++ []
def dkwX3_give_0 : List UInt8 := [42, 3, 181, 0, 114, 42, 27, 28, 182, 1, 1, 154, 0, 6, 16, 254, 172, 42, 42, 180, 0, 9]
abbrev dktX3_give_0 : List UInt8 := dkwX3_give_0 ++ dktX3_give_1
theorem dksX3_give_0 : cX3_give.data.toList.drop 0 = dktX3_give_0 := by decide +kernel
theorem dksX3_give_1 : cX3_give.data.toList.drop 22 = dktX3_give_1 := dk_seg dksX3_give_0 22 rfl rfl
theorem dX3_give_0 : decode cX3_give 0 = .ok (.aload_n 0, 1) := dk_42 (dk_at dksX3_give_0 0 rfl rfl)
theorem dX3_give_1 : decode cX3_give 1 = .ok (.iconst 0, 1) := dk_3 (dk_at dksX3_give_0 1 rfl rfl)
theorem dX3_give_2 : decode cX3_give 2 = .ok (.putfield 114, 3) := dk_181 0 114 (dk_at dksX3_give_0 2 rfl rfl)
theorem dX3_give_5 : decode cX3_give 5 = .ok (.aload_n 0, 1) := dk_42 (dk_at dksX3_give_0 5 rfl rfl)
theorem dX3_give_6 : decode cX3_give 6 = .ok (.iload_n 1, 1) := dk_27 (dk_at dksX3_give_0 6 rfl rfl)
theorem dX3_give_7 : decode cX3_give 7 = .ok (.iload_n 2, 1) := dk_28 (dk_at dksX3_give_0 7 rfl rfl)
theorem dX3_give_8 : decode cX3_give 8 = .ok (.invokevirtual 257, 3) := dk_182 1 1 (dk_at dksX3_give_0 8 rfl rfl)
theorem dX3_give_11 : decode cX3_give 11 = .ok (.ifCond .ne 6, 3) := dk_154 0 6 (dk_at dksX3_give_0 11 rfl rfl)
theorem dX3_give_14 : decode cX3_give 14 = .ok (.bipush (-2), 2) := dk_16 254 (dk_at dksX3_give_0 14 rfl rfl)
theorem dX3_give_16 : decode cX3_give 16 = .ok (.ireturn, 1) := dk_172 (dk_at dksX3_give_0 16 rfl rfl)
theorem dX3_give_17 : decode cX3_give 17 = .ok (.aload_n 0, 1) := dk_42 (dk_at dksX3_give_0 17 rfl rfl)
theorem dX3_give_18 : decode cX3_give 18 = .ok (.aload_n 0, 1) := dk_42 (dk_at dksX3_give_0 18 rfl rfl)
theorem dX3_give_19 : decode cX3_give 19 = .ok (.getfield 9, 3) := dk_180 0 9 (dk_at dksX3_give_0 19 rfl rfl)
theorem dX3_give_22 : decode cX3_give 22 = .ok (.invokevirtual 253, 3) := dk_182 0 253 (dk_at dksX3_give_1 0 rfl rfl)
theorem dX3_give_25 : decode cX3_give 25 = .ok (.aload_n 0, 1) := dk_42 (dk_at dksX3_give_1 3 rfl rfl)
theorem dX3_give_26 : decode cX3_give 26 = .ok (.getfield 9, 3) := dk_180 0 9 (dk_at dksX3_give_1 4 rfl rfl)
theorem dX3_give_29 : decode cX3_give 29 = .ok (.iload_n 1, 1) := dk_27 (dk_at dksX3_give_1 7 rfl rfl)
theorem dX3_give_30 : decode cX3_give 30 = .ok (.iaload, 1) := dk_46 (dk_at dksX3_give_1 8 rfl rfl)
theorem dX3_give_31 : decode cX3_give 31 = .ok (.istore_n 3, 1) := dk_62 (dk_at dksX3_give_1 9 rfl rfl)
theorem dX3_give_32 : decode cX3_give 32 = .ok (.aload_n 0, 1) := dk_42 (dk_at dksX3_give_1 10 rfl rfl)
theorem dX3_give_33 : decode cX3_give 33 = .ok (.getfield 9, 3) := dk_180 0 9 (dk_at dksX3_give_1 11 rfl rfl)
theorem dX3_give_36 : decode cX3_give 36 = .ok (.iload_n 1, 1) := dk_27 (dk_at dksX3_give_1 14 rfl rfl)
theorem dX3_give_37 : decode cX3_give 37 = .ok (.iload_n 2, 1) := dk_28 (dk_at dksX3_give_1 15 rfl rfl)
theorem dX3_give_38 : decode cX3_give 38 = .ok (.iastore, 1) := dk_79 (dk_at dksX3_give_1 16 rfl rfl)
theorem dX3_give_39 : decode cX3_give 39 = .ok (.iload_n 3, 1) := dk_29 (dk_at dksX3_give_1 17 rfl rfl)
theorem dX3_give_40 : decode cX3_give 40 = .ok (.ireturn, 1) := dk_172 (dk_at dksX3_give_1 18 rfl rfl)
abbrev cX3_isGift : ByteArray := prog_9_method_41_code
def yX3_isGift : MethodName := ⟨RX3, "isGift", "(II)Z"⟩
def dkwX3_isGift_1 : List UInt8 := [3, 172]
abbrev dktX3_isGift_1 : List UInt8 := dkwX3_isGift_1 ++ []
def dkwX3_isGift_0 : List UInt8 := [27, 184, 0, 242, 153, 0, 20, 28, 2, 159, 0, 11, 42, 28, 182, 0, 127, 153, 0, 7, 4, 167, 0, 4]
abbrev dktX3_isGift_0 : List UInt8 := dkwX3_isGift_0 ++ dktX3_isGift_1
theorem dksX3_isGift_0 : cX3_isGift.data.toList.drop 0 = dktX3_isGift_0 := by decide +kernel
theorem dksX3_isGift_1 : cX3_isGift.data.toList.drop 24 = dktX3_isGift_1 := dk_seg dksX3_isGift_0 24 rfl rfl
theorem dX3_isGift_0 : decode cX3_isGift 0 = .ok (.iload_n 1, 1) := dk_27 (dk_at dksX3_isGift_0 0 rfl rfl)
theorem dX3_isGift_1 : decode cX3_isGift 1 = .ok (.invokestatic 242, 3) := dk_184 0 242 (dk_at dksX3_isGift_0 1 rfl rfl)
theorem dX3_isGift_4 : decode cX3_isGift 4 = .ok (.ifCond .eq 20, 3) := dk_153 0 20 (dk_at dksX3_isGift_0 4 rfl rfl)
theorem dX3_isGift_7 : decode cX3_isGift 7 = .ok (.iload_n 2, 1) := dk_28 (dk_at dksX3_isGift_0 7 rfl rfl)
theorem dX3_isGift_8 : decode cX3_isGift 8 = .ok (.iconst (-1), 1) := dk_2 (dk_at dksX3_isGift_0 8 rfl rfl)
theorem dX3_isGift_9 : decode cX3_isGift 9 = .ok (.if_icmp .eq 11, 3) := dk_159 0 11 (dk_at dksX3_isGift_0 9 rfl rfl)
theorem dX3_isGift_12 : decode cX3_isGift 12 = .ok (.aload_n 0, 1) := dk_42 (dk_at dksX3_isGift_0 12 rfl rfl)
theorem dX3_isGift_13 : decode cX3_isGift 13 = .ok (.iload_n 2, 1) := dk_28 (dk_at dksX3_isGift_0 13 rfl rfl)
theorem dX3_isGift_14 : decode cX3_isGift 14 = .ok (.invokevirtual 127, 3) := dk_182 0 127 (dk_at dksX3_isGift_0 14 rfl rfl)
theorem dX3_isGift_17 : decode cX3_isGift 17 = .ok (.ifCond .eq 7, 3) := dk_153 0 7 (dk_at dksX3_isGift_0 17 rfl rfl)
theorem dX3_isGift_20 : decode cX3_isGift 20 = .ok (.iconst 1, 1) := dk_4 (dk_at dksX3_isGift_0 20 rfl rfl)
theorem dX3_isGift_21 : decode cX3_isGift 21 = .ok (.goto 4, 3) := dk_167 0 4 (dk_at dksX3_isGift_0 21 rfl rfl)
theorem dX3_isGift_24 : decode cX3_isGift 24 = .ok (.iconst 0, 1) := dk_3 (dk_at dksX3_isGift_1 0 rfl rfl)
theorem dX3_isGift_25 : decode cX3_isGift 25 = .ok (.ireturn, 1) := dk_172 (dk_at dksX3_isGift_1 1 rfl rfl)
abbrev cX3_ill : ByteArray := prog_9_method_44_code
def yX3_ill : MethodName := ⟨RX3, "ill", "(I)I"⟩
def dkwX3_ill_2 : List UInt8 := [182, 1, 5, 184, 0, 221, 172]
abbrev dktX3_ill_2 : List UInt8 := dkwX3_ill_2 ++ []
def dkwX3_ill_1 : List UInt8 := [180, 0, 9, 16, 16, 27, 96, 4, 42, 180, 0, 9, 16, 16, 27, 96, 46, 100, 79, 42, 42, 180, 0, 9]
abbrev dktX3_ill_1 : List UInt8 := dkwX3_ill_1 ++ dktX3_ill_2
def dkwX3_ill_0 : List UInt8 := [42, 3, 181, 0, 114, 42, 27, 182, 0, 127, 154, 0, 5, 2, 172, 42, 42, 180, 0, 9, 182, 0, 253, 42]
abbrev dktX3_ill_0 : List UInt8 := dkwX3_ill_0 ++ dktX3_ill_1
theorem dksX3_ill_0 : cX3_ill.data.toList.drop 0 = dktX3_ill_0 := by decide +kernel
theorem dksX3_ill_1 : cX3_ill.data.toList.drop 24 = dktX3_ill_1 := dk_seg dksX3_ill_0 24 rfl rfl
theorem dksX3_ill_2 : cX3_ill.data.toList.drop 48 = dktX3_ill_2 := dk_seg dksX3_ill_1 24 rfl rfl
theorem dX3_ill_0 : decode cX3_ill 0 = .ok (.aload_n 0, 1) := dk_42 (dk_at dksX3_ill_0 0 rfl rfl)
theorem dX3_ill_1 : decode cX3_ill 1 = .ok (.iconst 0, 1) := dk_3 (dk_at dksX3_ill_0 1 rfl rfl)
theorem dX3_ill_2 : decode cX3_ill 2 = .ok (.putfield 114, 3) := dk_181 0 114 (dk_at dksX3_ill_0 2 rfl rfl)
theorem dX3_ill_5 : decode cX3_ill 5 = .ok (.aload_n 0, 1) := dk_42 (dk_at dksX3_ill_0 5 rfl rfl)
theorem dX3_ill_6 : decode cX3_ill 6 = .ok (.iload_n 1, 1) := dk_27 (dk_at dksX3_ill_0 6 rfl rfl)
theorem dX3_ill_7 : decode cX3_ill 7 = .ok (.invokevirtual 127, 3) := dk_182 0 127 (dk_at dksX3_ill_0 7 rfl rfl)
theorem dX3_ill_10 : decode cX3_ill 10 = .ok (.ifCond .ne 5, 3) := dk_154 0 5 (dk_at dksX3_ill_0 10 rfl rfl)
theorem dX3_ill_13 : decode cX3_ill 13 = .ok (.iconst (-1), 1) := dk_2 (dk_at dksX3_ill_0 13 rfl rfl)
theorem dX3_ill_14 : decode cX3_ill 14 = .ok (.ireturn, 1) := dk_172 (dk_at dksX3_ill_0 14 rfl rfl)
theorem dX3_ill_15 : decode cX3_ill 15 = .ok (.aload_n 0, 1) := dk_42 (dk_at dksX3_ill_0 15 rfl rfl)
theorem dX3_ill_16 : decode cX3_ill 16 = .ok (.aload_n 0, 1) := dk_42 (dk_at dksX3_ill_0 16 rfl rfl)
theorem dX3_ill_17 : decode cX3_ill 17 = .ok (.getfield 9, 3) := dk_180 0 9 (dk_at dksX3_ill_0 17 rfl rfl)
theorem dX3_ill_20 : decode cX3_ill 20 = .ok (.invokevirtual 253, 3) := dk_182 0 253 (dk_at dksX3_ill_0 20 rfl rfl)
theorem dX3_ill_23 : decode cX3_ill 23 = .ok (.aload_n 0, 1) := dk_42 (dk_at dksX3_ill_0 23 rfl rfl)
theorem dX3_ill_24 : decode cX3_ill 24 = .ok (.getfield 9, 3) := dk_180 0 9 (dk_at dksX3_ill_1 0 rfl rfl)
theorem dX3_ill_27 : decode cX3_ill 27 = .ok (.bipush 16, 2) := dk_16 16 (dk_at dksX3_ill_1 3 rfl rfl)
theorem dX3_ill_29 : decode cX3_ill 29 = .ok (.iload_n 1, 1) := dk_27 (dk_at dksX3_ill_1 5 rfl rfl)
theorem dX3_ill_30 : decode cX3_ill 30 = .ok (.iadd, 1) := dk_96 (dk_at dksX3_ill_1 6 rfl rfl)
theorem dX3_ill_31 : decode cX3_ill 31 = .ok (.iconst 1, 1) := dk_4 (dk_at dksX3_ill_1 7 rfl rfl)
theorem dX3_ill_32 : decode cX3_ill 32 = .ok (.aload_n 0, 1) := dk_42 (dk_at dksX3_ill_1 8 rfl rfl)
theorem dX3_ill_33 : decode cX3_ill 33 = .ok (.getfield 9, 3) := dk_180 0 9 (dk_at dksX3_ill_1 9 rfl rfl)
theorem dX3_ill_36 : decode cX3_ill 36 = .ok (.bipush 16, 2) := dk_16 16 (dk_at dksX3_ill_1 12 rfl rfl)
theorem dX3_ill_38 : decode cX3_ill 38 = .ok (.iload_n 1, 1) := dk_27 (dk_at dksX3_ill_1 14 rfl rfl)
theorem dX3_ill_39 : decode cX3_ill 39 = .ok (.iadd, 1) := dk_96 (dk_at dksX3_ill_1 15 rfl rfl)
theorem dX3_ill_40 : decode cX3_ill 40 = .ok (.iaload, 1) := dk_46 (dk_at dksX3_ill_1 16 rfl rfl)
theorem dX3_ill_41 : decode cX3_ill 41 = .ok (.isub, 1) := dk_100 (dk_at dksX3_ill_1 17 rfl rfl)
theorem dX3_ill_42 : decode cX3_ill 42 = .ok (.iastore, 1) := dk_79 (dk_at dksX3_ill_1 18 rfl rfl)
theorem dX3_ill_43 : decode cX3_ill 43 = .ok (.aload_n 0, 1) := dk_42 (dk_at dksX3_ill_1 19 rfl rfl)
theorem dX3_ill_44 : decode cX3_ill 44 = .ok (.aload_n 0, 1) := dk_42 (dk_at dksX3_ill_1 20 rfl rfl)
theorem dX3_ill_45 : decode cX3_ill 45 = .ok (.getfield 9, 3) := dk_180 0 9 (dk_at dksX3_ill_1 21 rfl rfl)
theorem dX3_ill_48 : decode cX3_ill 48 = .ok (.invokevirtual 261, 3) := dk_182 1 5 (dk_at dksX3_ill_2 0 rfl rfl)
theorem dX3_ill_51 : decode cX3_ill 51 = .ok (.invokestatic 221, 3) := dk_184 0 221 (dk_at dksX3_ill_2 3 rfl rfl)
theorem dX3_ill_54 : decode cX3_ill 54 = .ok (.ireturn, 1) := dk_172 (dk_at dksX3_ill_2 6 rfl rfl)
abbrev cX3_illBits : ByteArray := prog_9_method_43_code
def yX3_illBits : MethodName := ⟨RX3, "illBits", "([I)I"⟩
def dkwX3_illBits_1 : List UInt8 := [132, 3, 1, 167, 255, 234, 28, 172]
abbrev dktX3_illBits_1 : List UInt8 := dkwX3_illBits_1 ++ []
def dkwX3_illBits_0 : List UInt8 := [3, 61, 3, 62, 29, 42, 180, 0, 120, 162, 0, 20, 28, 43, 16, 16, 29, 96, 46, 29, 120, 128, 61]
abbrev dktX3_illBits_0 : List UInt8 := dkwX3_illBits_0 ++ dktX3_illBits_1
theorem dksX3_illBits_0 : cX3_illBits.data.toList.drop 0 = dktX3_illBits_0 := by decide +kernel
theorem dksX3_illBits_1 : cX3_illBits.data.toList.drop 23 = dktX3_illBits_1 := dk_seg dksX3_illBits_0 23 rfl rfl
theorem dX3_illBits_0 : decode cX3_illBits 0 = .ok (.iconst 0, 1) := dk_3 (dk_at dksX3_illBits_0 0 rfl rfl)
theorem dX3_illBits_1 : decode cX3_illBits 1 = .ok (.istore_n 2, 1) := dk_61 (dk_at dksX3_illBits_0 1 rfl rfl)
theorem dX3_illBits_2 : decode cX3_illBits 2 = .ok (.iconst 0, 1) := dk_3 (dk_at dksX3_illBits_0 2 rfl rfl)
theorem dX3_illBits_3 : decode cX3_illBits 3 = .ok (.istore_n 3, 1) := dk_62 (dk_at dksX3_illBits_0 3 rfl rfl)
theorem dX3_illBits_4 : decode cX3_illBits 4 = .ok (.iload_n 3, 1) := dk_29 (dk_at dksX3_illBits_0 4 rfl rfl)
theorem dX3_illBits_5 : decode cX3_illBits 5 = .ok (.aload_n 0, 1) := dk_42 (dk_at dksX3_illBits_0 5 rfl rfl)
theorem dX3_illBits_6 : decode cX3_illBits 6 = .ok (.getfield 120, 3) := dk_180 0 120 (dk_at dksX3_illBits_0 6 rfl rfl)
theorem dX3_illBits_9 : decode cX3_illBits 9 = .ok (.if_icmp .ge 20, 3) := dk_162 0 20 (dk_at dksX3_illBits_0 9 rfl rfl)
theorem dX3_illBits_12 : decode cX3_illBits 12 = .ok (.iload_n 2, 1) := dk_28 (dk_at dksX3_illBits_0 12 rfl rfl)
theorem dX3_illBits_13 : decode cX3_illBits 13 = .ok (.aload_n 1, 1) := dk_43 (dk_at dksX3_illBits_0 13 rfl rfl)
theorem dX3_illBits_14 : decode cX3_illBits 14 = .ok (.bipush 16, 2) := dk_16 16 (dk_at dksX3_illBits_0 14 rfl rfl)
theorem dX3_illBits_16 : decode cX3_illBits 16 = .ok (.iload_n 3, 1) := dk_29 (dk_at dksX3_illBits_0 16 rfl rfl)
theorem dX3_illBits_17 : decode cX3_illBits 17 = .ok (.iadd, 1) := dk_96 (dk_at dksX3_illBits_0 17 rfl rfl)
theorem dX3_illBits_18 : decode cX3_illBits 18 = .ok (.iaload, 1) := dk_46 (dk_at dksX3_illBits_0 18 rfl rfl)
theorem dX3_illBits_19 : decode cX3_illBits 19 = .ok (.iload_n 3, 1) := dk_29 (dk_at dksX3_illBits_0 19 rfl rfl)
theorem dX3_illBits_20 : decode cX3_illBits 20 = .ok (.ishl, 1) := dk_120 (dk_at dksX3_illBits_0 20 rfl rfl)
theorem dX3_illBits_21 : decode cX3_illBits 21 = .ok (.ior, 1) := dk_128 (dk_at dksX3_illBits_0 21 rfl rfl)
theorem dX3_illBits_22 : decode cX3_illBits 22 = .ok (.istore_n 2, 1) := dk_61 (dk_at dksX3_illBits_0 22 rfl rfl)
theorem dX3_illBits_23 : decode cX3_illBits 23 = .ok (.iinc 3 1, 3) := dk_132 3 1 (dk_at dksX3_illBits_1 0 rfl rfl)
theorem dX3_illBits_26 : decode cX3_illBits 26 = .ok (.goto (-22), 3) := dk_167 255 234 (dk_at dksX3_illBits_1 3 rfl rfl)
theorem dX3_illBits_29 : decode cX3_illBits 29 = .ok (.iload_n 2, 1) := dk_28 (dk_at dksX3_illBits_1 6 rfl rfl)
theorem dX3_illBits_30 : decode cX3_illBits 30 = .ok (.ireturn, 1) := dk_172 (dk_at dksX3_illBits_1 7 rfl rfl)
abbrev cX3_nights : ByteArray := prog_9_method_48_code
def yX3_nights : MethodName := ⟨RX3, "nights", "(I)I"⟩
def dkwX3_nights_4 : List UInt8 := [100, 172]
abbrev dktX3_nights_4 : List UInt8 := dkwX3_nights_4 ++ []
def dkwX3_nights_3 : List UInt8 := [182, 1, 28, 42, 42, 42, 180, 0, 9, 182, 1, 32, 133, 182, 1, 28, 42, 180, 0, 9, 16, 25, 46, 28]
abbrev dktX3_nights_3 : List UInt8 := dkwX3_nights_3 ++ dktX3_nights_4
def dkwX3_nights_2 : List UInt8 := [180, 0, 9, 27, 182, 1, 24, 42, 3, 181, 0, 117, 42, 42, 180, 0, 9, 16, 26, 46, 29, 100, 133]
abbrev dktX3_nights_2 : List UInt8 := dkwX3_nights_2 ++ dktX3_nights_3
def dkwX3_nights_1 : List UInt8 := [180, 0, 9, 182, 0, 253, 42, 180, 0, 9, 16, 25, 46, 61, 42, 180, 0, 9, 16, 26, 46, 62, 42, 42]
abbrev dktX3_nights_1 : List UInt8 := dkwX3_nights_1 ++ dktX3_nights_2
def dkwX3_nights_0 : List UInt8 := [42, 3, 181, 0, 114, 27, 3, 16, 30, 184, 0, 123, 154, 0, 5, 2, 172, 27, 158, 0, 11, 42, 42]
abbrev dktX3_nights_0 : List UInt8 := dkwX3_nights_0 ++ dktX3_nights_1
theorem dksX3_nights_0 : cX3_nights.data.toList.drop 0 = dktX3_nights_0 := by decide +kernel
theorem dksX3_nights_1 : cX3_nights.data.toList.drop 23 = dktX3_nights_1 := dk_seg dksX3_nights_0 23 rfl rfl
theorem dksX3_nights_2 : cX3_nights.data.toList.drop 47 = dktX3_nights_2 := dk_seg dksX3_nights_1 24 rfl rfl
theorem dksX3_nights_3 : cX3_nights.data.toList.drop 70 = dktX3_nights_3 := dk_seg dksX3_nights_2 23 rfl rfl
theorem dksX3_nights_4 : cX3_nights.data.toList.drop 94 = dktX3_nights_4 := dk_seg dksX3_nights_3 24 rfl rfl
theorem dX3_nights_0 : decode cX3_nights 0 = .ok (.aload_n 0, 1) := dk_42 (dk_at dksX3_nights_0 0 rfl rfl)
theorem dX3_nights_1 : decode cX3_nights 1 = .ok (.iconst 0, 1) := dk_3 (dk_at dksX3_nights_0 1 rfl rfl)
theorem dX3_nights_2 : decode cX3_nights 2 = .ok (.putfield 114, 3) := dk_181 0 114 (dk_at dksX3_nights_0 2 rfl rfl)
theorem dX3_nights_5 : decode cX3_nights 5 = .ok (.iload_n 1, 1) := dk_27 (dk_at dksX3_nights_0 5 rfl rfl)
theorem dX3_nights_6 : decode cX3_nights 6 = .ok (.iconst 0, 1) := dk_3 (dk_at dksX3_nights_0 6 rfl rfl)
theorem dX3_nights_7 : decode cX3_nights 7 = .ok (.bipush 30, 2) := dk_16 30 (dk_at dksX3_nights_0 7 rfl rfl)
theorem dX3_nights_9 : decode cX3_nights 9 = .ok (.invokestatic 123, 3) := dk_184 0 123 (dk_at dksX3_nights_0 9 rfl rfl)
theorem dX3_nights_12 : decode cX3_nights 12 = .ok (.ifCond .ne 5, 3) := dk_154 0 5 (dk_at dksX3_nights_0 12 rfl rfl)
theorem dX3_nights_15 : decode cX3_nights 15 = .ok (.iconst (-1), 1) := dk_2 (dk_at dksX3_nights_0 15 rfl rfl)
theorem dX3_nights_16 : decode cX3_nights 16 = .ok (.ireturn, 1) := dk_172 (dk_at dksX3_nights_0 16 rfl rfl)
theorem dX3_nights_17 : decode cX3_nights 17 = .ok (.iload_n 1, 1) := dk_27 (dk_at dksX3_nights_0 17 rfl rfl)
theorem dX3_nights_18 : decode cX3_nights 18 = .ok (.ifCond .le 11, 3) := dk_158 0 11 (dk_at dksX3_nights_0 18 rfl rfl)
theorem dX3_nights_21 : decode cX3_nights 21 = .ok (.aload_n 0, 1) := dk_42 (dk_at dksX3_nights_0 21 rfl rfl)
theorem dX3_nights_22 : decode cX3_nights 22 = .ok (.aload_n 0, 1) := dk_42 (dk_at dksX3_nights_0 22 rfl rfl)
theorem dX3_nights_23 : decode cX3_nights 23 = .ok (.getfield 9, 3) := dk_180 0 9 (dk_at dksX3_nights_1 0 rfl rfl)
theorem dX3_nights_26 : decode cX3_nights 26 = .ok (.invokevirtual 253, 3) := dk_182 0 253 (dk_at dksX3_nights_1 3 rfl rfl)
theorem dX3_nights_29 : decode cX3_nights 29 = .ok (.aload_n 0, 1) := dk_42 (dk_at dksX3_nights_1 6 rfl rfl)
theorem dX3_nights_30 : decode cX3_nights 30 = .ok (.getfield 9, 3) := dk_180 0 9 (dk_at dksX3_nights_1 7 rfl rfl)
theorem dX3_nights_33 : decode cX3_nights 33 = .ok (.bipush 25, 2) := dk_16 25 (dk_at dksX3_nights_1 10 rfl rfl)
theorem dX3_nights_35 : decode cX3_nights 35 = .ok (.iaload, 1) := dk_46 (dk_at dksX3_nights_1 12 rfl rfl)
theorem dX3_nights_36 : decode cX3_nights 36 = .ok (.istore_n 2, 1) := dk_61 (dk_at dksX3_nights_1 13 rfl rfl)
theorem dX3_nights_37 : decode cX3_nights 37 = .ok (.aload_n 0, 1) := dk_42 (dk_at dksX3_nights_1 14 rfl rfl)
theorem dX3_nights_38 : decode cX3_nights 38 = .ok (.getfield 9, 3) := dk_180 0 9 (dk_at dksX3_nights_1 15 rfl rfl)
theorem dX3_nights_41 : decode cX3_nights 41 = .ok (.bipush 26, 2) := dk_16 26 (dk_at dksX3_nights_1 18 rfl rfl)
theorem dX3_nights_43 : decode cX3_nights 43 = .ok (.iaload, 1) := dk_46 (dk_at dksX3_nights_1 20 rfl rfl)
theorem dX3_nights_44 : decode cX3_nights 44 = .ok (.istore_n 3, 1) := dk_62 (dk_at dksX3_nights_1 21 rfl rfl)
theorem dX3_nights_45 : decode cX3_nights 45 = .ok (.aload_n 0, 1) := dk_42 (dk_at dksX3_nights_1 22 rfl rfl)
theorem dX3_nights_46 : decode cX3_nights 46 = .ok (.aload_n 0, 1) := dk_42 (dk_at dksX3_nights_1 23 rfl rfl)
theorem dX3_nights_47 : decode cX3_nights 47 = .ok (.getfield 9, 3) := dk_180 0 9 (dk_at dksX3_nights_2 0 rfl rfl)
theorem dX3_nights_50 : decode cX3_nights 50 = .ok (.iload_n 1, 1) := dk_27 (dk_at dksX3_nights_2 3 rfl rfl)
theorem dX3_nights_51 : decode cX3_nights 51 = .ok (.invokevirtual 280, 3) := dk_182 1 24 (dk_at dksX3_nights_2 4 rfl rfl)
theorem dX3_nights_54 : decode cX3_nights 54 = .ok (.aload_n 0, 1) := dk_42 (dk_at dksX3_nights_2 7 rfl rfl)
theorem dX3_nights_55 : decode cX3_nights 55 = .ok (.iconst 0, 1) := dk_3 (dk_at dksX3_nights_2 8 rfl rfl)
theorem dX3_nights_56 : decode cX3_nights 56 = .ok (.putfield 117, 3) := dk_181 0 117 (dk_at dksX3_nights_2 9 rfl rfl)
theorem dX3_nights_59 : decode cX3_nights 59 = .ok (.aload_n 0, 1) := dk_42 (dk_at dksX3_nights_2 12 rfl rfl)
theorem dX3_nights_60 : decode cX3_nights 60 = .ok (.aload_n 0, 1) := dk_42 (dk_at dksX3_nights_2 13 rfl rfl)
theorem dX3_nights_61 : decode cX3_nights 61 = .ok (.getfield 9, 3) := dk_180 0 9 (dk_at dksX3_nights_2 14 rfl rfl)
theorem dX3_nights_64 : decode cX3_nights 64 = .ok (.bipush 26, 2) := dk_16 26 (dk_at dksX3_nights_2 17 rfl rfl)
theorem dX3_nights_66 : decode cX3_nights 66 = .ok (.iaload, 1) := dk_46 (dk_at dksX3_nights_2 19 rfl rfl)
theorem dX3_nights_67 : decode cX3_nights 67 = .ok (.iload_n 3, 1) := dk_29 (dk_at dksX3_nights_2 20 rfl rfl)
theorem dX3_nights_68 : decode cX3_nights 68 = .ok (.isub, 1) := dk_100 (dk_at dksX3_nights_2 21 rfl rfl)
theorem dX3_nights_69 : decode cX3_nights 69 = .ok (.i2l, 1) := dk_133 (dk_at dksX3_nights_2 22 rfl rfl)
theorem dX3_nights_70 : decode cX3_nights 70 = .ok (.invokevirtual 284, 3) := dk_182 1 28 (dk_at dksX3_nights_3 0 rfl rfl)
theorem dX3_nights_73 : decode cX3_nights 73 = .ok (.aload_n 0, 1) := dk_42 (dk_at dksX3_nights_3 3 rfl rfl)
theorem dX3_nights_74 : decode cX3_nights 74 = .ok (.aload_n 0, 1) := dk_42 (dk_at dksX3_nights_3 4 rfl rfl)
theorem dX3_nights_75 : decode cX3_nights 75 = .ok (.aload_n 0, 1) := dk_42 (dk_at dksX3_nights_3 5 rfl rfl)
theorem dX3_nights_76 : decode cX3_nights 76 = .ok (.getfield 9, 3) := dk_180 0 9 (dk_at dksX3_nights_3 6 rfl rfl)
theorem dX3_nights_79 : decode cX3_nights 79 = .ok (.invokevirtual 288, 3) := dk_182 1 32 (dk_at dksX3_nights_3 9 rfl rfl)
theorem dX3_nights_82 : decode cX3_nights 82 = .ok (.i2l, 1) := dk_133 (dk_at dksX3_nights_3 12 rfl rfl)
theorem dX3_nights_83 : decode cX3_nights 83 = .ok (.invokevirtual 284, 3) := dk_182 1 28 (dk_at dksX3_nights_3 13 rfl rfl)
theorem dX3_nights_86 : decode cX3_nights 86 = .ok (.aload_n 0, 1) := dk_42 (dk_at dksX3_nights_3 16 rfl rfl)
theorem dX3_nights_87 : decode cX3_nights 87 = .ok (.getfield 9, 3) := dk_180 0 9 (dk_at dksX3_nights_3 17 rfl rfl)
theorem dX3_nights_90 : decode cX3_nights 90 = .ok (.bipush 25, 2) := dk_16 25 (dk_at dksX3_nights_3 20 rfl rfl)
theorem dX3_nights_92 : decode cX3_nights 92 = .ok (.iaload, 1) := dk_46 (dk_at dksX3_nights_3 22 rfl rfl)
theorem dX3_nights_93 : decode cX3_nights 93 = .ok (.iload_n 2, 1) := dk_28 (dk_at dksX3_nights_3 23 rfl rfl)
theorem dX3_nights_94 : decode cX3_nights 94 = .ok (.isub, 1) := dk_100 (dk_at dksX3_nights_4 0 rfl rfl)
theorem dX3_nights_95 : decode cX3_nights 95 = .ok (.ireturn, 1) := dk_172 (dk_at dksX3_nights_4 1 rfl rfl)
abbrev cX3_goNights : ByteArray := prog_9_method_46_code
def yX3_goNights : MethodName := ⟨RX3, "goNights", "([II)V"⟩
def dkwX3_goNights_0 : List UInt8 := [3, 62, 29, 28, 162, 0, 14, 42, 43, 182, 1, 21, 132, 3, 1, 167, 255, 243, 177]
abbrev dktX3_goNights_0 : List UInt8 := dkwX3_goNights_0 ++ []
theorem dksX3_goNights_0 : cX3_goNights.data.toList.drop 0 = dktX3_goNights_0 := by decide +kernel
theorem dX3_goNights_0 : decode cX3_goNights 0 = .ok (.iconst 0, 1) := dk_3 (dk_at dksX3_goNights_0 0 rfl rfl)
theorem dX3_goNights_1 : decode cX3_goNights 1 = .ok (.istore_n 3, 1) := dk_62 (dk_at dksX3_goNights_0 1 rfl rfl)
theorem dX3_goNights_2 : decode cX3_goNights 2 = .ok (.iload_n 3, 1) := dk_29 (dk_at dksX3_goNights_0 2 rfl rfl)
theorem dX3_goNights_3 : decode cX3_goNights 3 = .ok (.iload_n 2, 1) := dk_28 (dk_at dksX3_goNights_0 3 rfl rfl)
theorem dX3_goNights_4 : decode cX3_goNights 4 = .ok (.if_icmp .ge 14, 3) := dk_162 0 14 (dk_at dksX3_goNights_0 4 rfl rfl)
theorem dX3_goNights_7 : decode cX3_goNights 7 = .ok (.aload_n 0, 1) := dk_42 (dk_at dksX3_goNights_0 7 rfl rfl)
theorem dX3_goNights_8 : decode cX3_goNights 8 = .ok (.aload_n 1, 1) := dk_43 (dk_at dksX3_goNights_0 8 rfl rfl)
theorem dX3_goNights_9 : decode cX3_goNights 9 = .ok (.invokevirtual 277, 3) := dk_182 1 21 (dk_at dksX3_goNights_0 9 rfl rfl)
theorem dX3_goNights_12 : decode cX3_goNights 12 = .ok (.iinc 3 1, 3) := dk_132 3 1 (dk_at dksX3_goNights_0 12 rfl rfl)
theorem dX3_goNights_15 : decode cX3_goNights 15 = .ok (.goto (-13), 3) := dk_167 255 243 (dk_at dksX3_goNights_0 15 rfl rfl)
theorem dX3_goNights_18 : decode cX3_goNights 18 = .ok (.return_, 1) := dk_177 (dk_at dksX3_goNights_0 18 rfl rfl)
abbrev cX3_goNight : ByteArray := prog_9_method_45_code
def yX3_goNight : MethodName := ⟨RX3, "goNight", "([I)V"⟩
def dkwX3_goNight_14 : List UInt8 := [180, 1, 12, 184, 0, 221, 96, 79, 43, 16, 24, 92, 46, 4, 96, 79, 177]
abbrev dktX3_goNight_14 : List UInt8 := dkwX3_goNight_14 ++ []
def dkwX3_goNight_13 : List UInt8 := [167, 255, 197, 43, 16, 25, 92, 46, 42, 180, 1, 9, 184, 0, 221, 96, 79, 43, 16, 26, 92, 46, 42]
abbrev dktX3_goNight_13 : List UInt8 := dkwX3_goNight_13 ++ dktX3_goNight_14
def dkwX3_goNight_12 : List UInt8 := [16, 99, 43, 16, 8, 29, 96, 46, 42, 180, 0, 61, 29, 46, 96, 184, 0, 226, 79, 132, 3, 1]
abbrev dktX3_goNight_12 : List UInt8 := dkwX3_goNight_12 ++ dktX3_goNight_13
def dkwX3_goNight_11 : List UInt8 := [180, 0, 58, 29, 46, 154, 0, 18, 3, 43, 16, 8, 29, 96, 46, 8, 100, 184, 0, 232, 167, 0, 21]
abbrev dktX3_goNight_11 : List UInt8 := dkwX3_goNight_11 ++ dktX3_goNight_12
def dkwX3_goNight_10 : List UInt8 := [132, 3, 1, 167, 255, 66, 3, 62, 29, 42, 180, 0, 120, 162, 0, 57, 43, 16, 8, 29, 96, 42]
abbrev dktX3_goNight_10 : List UInt8 := dkwX3_goNight_10 ++ dktX3_goNight_11
def dkwX3_goNight_9 : List UInt8 := [180, 1, 9, 4, 29, 120, 128, 181, 1, 9, 21, 5, 153, 0, 8, 21, 4, 167, 0, 4, 2, 61]
abbrev dktX3_goNight_9 : List UInt8 := dkwX3_goNight_9 ++ dktX3_goNight_10
def dkwX3_goNight_8 : List UInt8 := [180, 0, 17, 164, 0, 30, 42, 89, 180, 1, 9, 4, 29, 120, 128, 181, 1, 9, 167, 0, 15, 42, 89]
abbrev dktX3_goNight_8 : List UInt8 := dkwX3_goNight_8 ++ dktX3_goNight_9
def dkwX3_goNight_7 : List UInt8 := [21, 4, 159, 0, 54, 42, 180, 0, 23, 28, 46, 42, 180, 0, 23, 21, 4, 46, 100, 184, 1, 18, 42]
abbrev dktX3_goNight_7 : List UInt8 := dkwX3_goNight_7 ++ dktX3_goNight_8
def dkwX3_goNight_6 : List UInt8 := [182, 0, 245, 96, 79, 42, 89, 180, 1, 12, 4, 29, 120, 128, 181, 1, 12, 28, 2, 159, 0, 60, 28]
abbrev dktX3_goNight_6 : List UInt8 := dkwX3_goNight_6 ++ dktX3_goNight_7
def dkwX3_goNight_5 : List UInt8 := [180, 0, 58, 21, 4, 92, 46, 4, 96, 79, 42, 180, 0, 61, 21, 4, 92, 46, 42, 43, 21, 4, 29]
abbrev dktX3_goNight_5 : List UInt8 := dkwX3_goNight_5 ++ dktX3_goNight_6
def dkwX3_goNight_4 : List UInt8 := [180, 0, 20, 21, 4, 46, 162, 0, 7, 4, 167, 0, 4, 3, 54, 5, 21, 5, 153, 0, 94, 42]
abbrev dktX3_goNight_4 : List UInt8 := dkwX3_goNight_4 ++ dktX3_goNight_5
def dkwX3_goNight_3 : List UInt8 := [184, 1, 15, 153, 0, 34, 43, 16, 16, 21, 4, 96, 46, 154, 0, 24, 42, 180, 0, 58, 21, 4, 46, 42]
abbrev dktX3_goNight_3 : List UInt8 := dkwX3_goNight_3 ++ dktX3_goNight_4
def dkwX3_goNight_2 : List UInt8 := [162, 0, 188, 43, 29, 46, 54, 4, 21, 4, 2, 159, 0, 48, 42, 180, 0, 26, 21, 4, 46, 29]
abbrev dktX3_goNight_2 : List UInt8 := dkwX3_goNight_2 ++ dktX3_goNight_3
def dkwX3_goNight_1 : List UInt8 := [79, 42, 180, 0, 61, 28, 3, 79, 132, 2, 1, 167, 255, 233, 2, 61, 3, 62, 29, 42, 180, 0, 13]
abbrev dktX3_goNight_1 : List UInt8 := dkwX3_goNight_1 ++ dktX3_goNight_2
def dkwX3_goNight_0 : List UInt8 := [42, 3, 181, 1, 9, 42, 3, 181, 1, 12, 3, 61, 28, 16, 8, 162, 0, 23, 42, 180, 0, 58, 28, 3]
abbrev dktX3_goNight_0 : List UInt8 := dkwX3_goNight_0 ++ dktX3_goNight_1
theorem dksX3_goNight_0 : cX3_goNight.data.toList.drop 0 = dktX3_goNight_0 := by decide +kernel
theorem dksX3_goNight_1 : cX3_goNight.data.toList.drop 24 = dktX3_goNight_1 := dk_seg dksX3_goNight_0 24 rfl rfl
theorem dksX3_goNight_2 : cX3_goNight.data.toList.drop 47 = dktX3_goNight_2 := dk_seg dksX3_goNight_1 23 rfl rfl
theorem dksX3_goNight_3 : cX3_goNight.data.toList.drop 69 = dktX3_goNight_3 := dk_seg dksX3_goNight_2 22 rfl rfl
theorem dksX3_goNight_4 : cX3_goNight.data.toList.drop 93 = dktX3_goNight_4 := dk_seg dksX3_goNight_3 24 rfl rfl
theorem dksX3_goNight_5 : cX3_goNight.data.toList.drop 115 = dktX3_goNight_5 := dk_seg dksX3_goNight_4 22 rfl rfl
theorem dksX3_goNight_6 : cX3_goNight.data.toList.drop 138 = dktX3_goNight_6 := dk_seg dksX3_goNight_5 23 rfl rfl
theorem dksX3_goNight_7 : cX3_goNight.data.toList.drop 161 = dktX3_goNight_7 := dk_seg dksX3_goNight_6 23 rfl rfl
theorem dksX3_goNight_8 : cX3_goNight.data.toList.drop 184 = dktX3_goNight_8 := dk_seg dksX3_goNight_7 23 rfl rfl
theorem dksX3_goNight_9 : cX3_goNight.data.toList.drop 207 = dktX3_goNight_9 := dk_seg dksX3_goNight_8 23 rfl rfl
theorem dksX3_goNight_10 : cX3_goNight.data.toList.drop 229 = dktX3_goNight_10 := dk_seg dksX3_goNight_9 22 rfl rfl
theorem dksX3_goNight_11 : cX3_goNight.data.toList.drop 251 = dktX3_goNight_11 := dk_seg dksX3_goNight_10 22 rfl rfl
theorem dksX3_goNight_12 : cX3_goNight.data.toList.drop 274 = dktX3_goNight_12 := dk_seg dksX3_goNight_11 23 rfl rfl
theorem dksX3_goNight_13 : cX3_goNight.data.toList.drop 296 = dktX3_goNight_13 := dk_seg dksX3_goNight_12 22 rfl rfl
theorem dksX3_goNight_14 : cX3_goNight.data.toList.drop 319 = dktX3_goNight_14 := dk_seg dksX3_goNight_13 23 rfl rfl
theorem dX3_goNight_0 : decode cX3_goNight 0 = .ok (.aload_n 0, 1) := dk_42 (dk_at dksX3_goNight_0 0 rfl rfl)
theorem dX3_goNight_1 : decode cX3_goNight 1 = .ok (.iconst 0, 1) := dk_3 (dk_at dksX3_goNight_0 1 rfl rfl)
theorem dX3_goNight_2 : decode cX3_goNight 2 = .ok (.putfield 265, 3) := dk_181 1 9 (dk_at dksX3_goNight_0 2 rfl rfl)
theorem dX3_goNight_5 : decode cX3_goNight 5 = .ok (.aload_n 0, 1) := dk_42 (dk_at dksX3_goNight_0 5 rfl rfl)
theorem dX3_goNight_6 : decode cX3_goNight 6 = .ok (.iconst 0, 1) := dk_3 (dk_at dksX3_goNight_0 6 rfl rfl)
theorem dX3_goNight_7 : decode cX3_goNight 7 = .ok (.putfield 268, 3) := dk_181 1 12 (dk_at dksX3_goNight_0 7 rfl rfl)
theorem dX3_goNight_10 : decode cX3_goNight 10 = .ok (.iconst 0, 1) := dk_3 (dk_at dksX3_goNight_0 10 rfl rfl)
theorem dX3_goNight_11 : decode cX3_goNight 11 = .ok (.istore_n 2, 1) := dk_61 (dk_at dksX3_goNight_0 11 rfl rfl)
theorem dX3_goNight_12 : decode cX3_goNight 12 = .ok (.iload_n 2, 1) := dk_28 (dk_at dksX3_goNight_0 12 rfl rfl)
theorem dX3_goNight_13 : decode cX3_goNight 13 = .ok (.bipush 8, 2) := dk_16 8 (dk_at dksX3_goNight_0 13 rfl rfl)
theorem dX3_goNight_15 : decode cX3_goNight 15 = .ok (.if_icmp .ge 23, 3) := dk_162 0 23 (dk_at dksX3_goNight_0 15 rfl rfl)
theorem dX3_goNight_18 : decode cX3_goNight 18 = .ok (.aload_n 0, 1) := dk_42 (dk_at dksX3_goNight_0 18 rfl rfl)
theorem dX3_goNight_19 : decode cX3_goNight 19 = .ok (.getfield 58, 3) := dk_180 0 58 (dk_at dksX3_goNight_0 19 rfl rfl)
theorem dX3_goNight_22 : decode cX3_goNight 22 = .ok (.iload_n 2, 1) := dk_28 (dk_at dksX3_goNight_0 22 rfl rfl)
theorem dX3_goNight_23 : decode cX3_goNight 23 = .ok (.iconst 0, 1) := dk_3 (dk_at dksX3_goNight_0 23 rfl rfl)
theorem dX3_goNight_24 : decode cX3_goNight 24 = .ok (.iastore, 1) := dk_79 (dk_at dksX3_goNight_1 0 rfl rfl)
theorem dX3_goNight_25 : decode cX3_goNight 25 = .ok (.aload_n 0, 1) := dk_42 (dk_at dksX3_goNight_1 1 rfl rfl)
theorem dX3_goNight_26 : decode cX3_goNight 26 = .ok (.getfield 61, 3) := dk_180 0 61 (dk_at dksX3_goNight_1 2 rfl rfl)
theorem dX3_goNight_29 : decode cX3_goNight 29 = .ok (.iload_n 2, 1) := dk_28 (dk_at dksX3_goNight_1 5 rfl rfl)
theorem dX3_goNight_30 : decode cX3_goNight 30 = .ok (.iconst 0, 1) := dk_3 (dk_at dksX3_goNight_1 6 rfl rfl)
theorem dX3_goNight_31 : decode cX3_goNight 31 = .ok (.iastore, 1) := dk_79 (dk_at dksX3_goNight_1 7 rfl rfl)
theorem dX3_goNight_32 : decode cX3_goNight 32 = .ok (.iinc 2 1, 3) := dk_132 2 1 (dk_at dksX3_goNight_1 8 rfl rfl)
theorem dX3_goNight_35 : decode cX3_goNight 35 = .ok (.goto (-23), 3) := dk_167 255 233 (dk_at dksX3_goNight_1 11 rfl rfl)
theorem dX3_goNight_38 : decode cX3_goNight 38 = .ok (.iconst (-1), 1) := dk_2 (dk_at dksX3_goNight_1 14 rfl rfl)
theorem dX3_goNight_39 : decode cX3_goNight 39 = .ok (.istore_n 2, 1) := dk_61 (dk_at dksX3_goNight_1 15 rfl rfl)
theorem dX3_goNight_40 : decode cX3_goNight 40 = .ok (.iconst 0, 1) := dk_3 (dk_at dksX3_goNight_1 16 rfl rfl)
theorem dX3_goNight_41 : decode cX3_goNight 41 = .ok (.istore_n 3, 1) := dk_62 (dk_at dksX3_goNight_1 17 rfl rfl)
theorem dX3_goNight_42 : decode cX3_goNight 42 = .ok (.iload_n 3, 1) := dk_29 (dk_at dksX3_goNight_1 18 rfl rfl)
theorem dX3_goNight_43 : decode cX3_goNight 43 = .ok (.aload_n 0, 1) := dk_42 (dk_at dksX3_goNight_1 19 rfl rfl)
theorem dX3_goNight_44 : decode cX3_goNight 44 = .ok (.getfield 13, 3) := dk_180 0 13 (dk_at dksX3_goNight_1 20 rfl rfl)
theorem dX3_goNight_47 : decode cX3_goNight 47 = .ok (.if_icmp .ge 188, 3) := dk_162 0 188 (dk_at dksX3_goNight_2 0 rfl rfl)
theorem dX3_goNight_50 : decode cX3_goNight 50 = .ok (.aload_n 1, 1) := dk_43 (dk_at dksX3_goNight_2 3 rfl rfl)
theorem dX3_goNight_51 : decode cX3_goNight 51 = .ok (.iload_n 3, 1) := dk_29 (dk_at dksX3_goNight_2 4 rfl rfl)
theorem dX3_goNight_52 : decode cX3_goNight 52 = .ok (.iaload, 1) := dk_46 (dk_at dksX3_goNight_2 5 rfl rfl)
theorem dX3_goNight_53 : decode cX3_goNight 53 = .ok (.istore 4, 2) := dk_54 4 (dk_at dksX3_goNight_2 6 rfl rfl)
theorem dX3_goNight_55 : decode cX3_goNight 55 = .ok (.iload 4, 2) := dk_21 4 (dk_at dksX3_goNight_2 8 rfl rfl)
theorem dX3_goNight_57 : decode cX3_goNight 57 = .ok (.iconst (-1), 1) := dk_2 (dk_at dksX3_goNight_2 10 rfl rfl)
theorem dX3_goNight_58 : decode cX3_goNight 58 = .ok (.if_icmp .eq 48, 3) := dk_159 0 48 (dk_at dksX3_goNight_2 11 rfl rfl)
theorem dX3_goNight_61 : decode cX3_goNight 61 = .ok (.aload_n 0, 1) := dk_42 (dk_at dksX3_goNight_2 14 rfl rfl)
theorem dX3_goNight_62 : decode cX3_goNight 62 = .ok (.getfield 26, 3) := dk_180 0 26 (dk_at dksX3_goNight_2 15 rfl rfl)
theorem dX3_goNight_65 : decode cX3_goNight 65 = .ok (.iload 4, 2) := dk_21 4 (dk_at dksX3_goNight_2 18 rfl rfl)
theorem dX3_goNight_67 : decode cX3_goNight 67 = .ok (.iaload, 1) := dk_46 (dk_at dksX3_goNight_2 20 rfl rfl)
theorem dX3_goNight_68 : decode cX3_goNight 68 = .ok (.iload_n 3, 1) := dk_29 (dk_at dksX3_goNight_2 21 rfl rfl)
theorem dX3_goNight_69 : decode cX3_goNight 69 = .ok (.invokestatic 271, 3) := dk_184 1 15 (dk_at dksX3_goNight_3 0 rfl rfl)
theorem dX3_goNight_72 : decode cX3_goNight 72 = .ok (.ifCond .eq 34, 3) := dk_153 0 34 (dk_at dksX3_goNight_3 3 rfl rfl)
theorem dX3_goNight_75 : decode cX3_goNight 75 = .ok (.aload_n 1, 1) := dk_43 (dk_at dksX3_goNight_3 6 rfl rfl)
theorem dX3_goNight_76 : decode cX3_goNight 76 = .ok (.bipush 16, 2) := dk_16 16 (dk_at dksX3_goNight_3 7 rfl rfl)
theorem dX3_goNight_78 : decode cX3_goNight 78 = .ok (.iload 4, 2) := dk_21 4 (dk_at dksX3_goNight_3 9 rfl rfl)
theorem dX3_goNight_80 : decode cX3_goNight 80 = .ok (.iadd, 1) := dk_96 (dk_at dksX3_goNight_3 11 rfl rfl)
theorem dX3_goNight_81 : decode cX3_goNight 81 = .ok (.iaload, 1) := dk_46 (dk_at dksX3_goNight_3 12 rfl rfl)
theorem dX3_goNight_82 : decode cX3_goNight 82 = .ok (.ifCond .ne 24, 3) := dk_154 0 24 (dk_at dksX3_goNight_3 13 rfl rfl)
theorem dX3_goNight_85 : decode cX3_goNight 85 = .ok (.aload_n 0, 1) := dk_42 (dk_at dksX3_goNight_3 16 rfl rfl)
theorem dX3_goNight_86 : decode cX3_goNight 86 = .ok (.getfield 58, 3) := dk_180 0 58 (dk_at dksX3_goNight_3 17 rfl rfl)
theorem dX3_goNight_89 : decode cX3_goNight 89 = .ok (.iload 4, 2) := dk_21 4 (dk_at dksX3_goNight_3 20 rfl rfl)
theorem dX3_goNight_91 : decode cX3_goNight 91 = .ok (.iaload, 1) := dk_46 (dk_at dksX3_goNight_3 22 rfl rfl)
theorem dX3_goNight_92 : decode cX3_goNight 92 = .ok (.aload_n 0, 1) := dk_42 (dk_at dksX3_goNight_3 23 rfl rfl)
theorem dX3_goNight_93 : decode cX3_goNight 93 = .ok (.getfield 20, 3) := dk_180 0 20 (dk_at dksX3_goNight_4 0 rfl rfl)
theorem dX3_goNight_96 : decode cX3_goNight 96 = .ok (.iload 4, 2) := dk_21 4 (dk_at dksX3_goNight_4 3 rfl rfl)
theorem dX3_goNight_98 : decode cX3_goNight 98 = .ok (.iaload, 1) := dk_46 (dk_at dksX3_goNight_4 5 rfl rfl)
theorem dX3_goNight_99 : decode cX3_goNight 99 = .ok (.if_icmp .ge 7, 3) := dk_162 0 7 (dk_at dksX3_goNight_4 6 rfl rfl)
theorem dX3_goNight_102 : decode cX3_goNight 102 = .ok (.iconst 1, 1) := dk_4 (dk_at dksX3_goNight_4 9 rfl rfl)
theorem dX3_goNight_103 : decode cX3_goNight 103 = .ok (.goto 4, 3) := dk_167 0 4 (dk_at dksX3_goNight_4 10 rfl rfl)
theorem dX3_goNight_106 : decode cX3_goNight 106 = .ok (.iconst 0, 1) := dk_3 (dk_at dksX3_goNight_4 13 rfl rfl)
theorem dX3_goNight_107 : decode cX3_goNight 107 = .ok (.istore 5, 2) := dk_54 5 (dk_at dksX3_goNight_4 14 rfl rfl)
theorem dX3_goNight_109 : decode cX3_goNight 109 = .ok (.iload 5, 2) := dk_21 5 (dk_at dksX3_goNight_4 16 rfl rfl)
theorem dX3_goNight_111 : decode cX3_goNight 111 = .ok (.ifCond .eq 94, 3) := dk_153 0 94 (dk_at dksX3_goNight_4 18 rfl rfl)
theorem dX3_goNight_114 : decode cX3_goNight 114 = .ok (.aload_n 0, 1) := dk_42 (dk_at dksX3_goNight_4 21 rfl rfl)
theorem dX3_goNight_115 : decode cX3_goNight 115 = .ok (.getfield 58, 3) := dk_180 0 58 (dk_at dksX3_goNight_5 0 rfl rfl)
theorem dX3_goNight_118 : decode cX3_goNight 118 = .ok (.iload 4, 2) := dk_21 4 (dk_at dksX3_goNight_5 3 rfl rfl)
theorem dX3_goNight_120 : decode cX3_goNight 120 = .ok (.dup2, 1) := dk_92 (dk_at dksX3_goNight_5 5 rfl rfl)
theorem dX3_goNight_121 : decode cX3_goNight 121 = .ok (.iaload, 1) := dk_46 (dk_at dksX3_goNight_5 6 rfl rfl)
theorem dX3_goNight_122 : decode cX3_goNight 122 = .ok (.iconst 1, 1) := dk_4 (dk_at dksX3_goNight_5 7 rfl rfl)
theorem dX3_goNight_123 : decode cX3_goNight 123 = .ok (.iadd, 1) := dk_96 (dk_at dksX3_goNight_5 8 rfl rfl)
theorem dX3_goNight_124 : decode cX3_goNight 124 = .ok (.iastore, 1) := dk_79 (dk_at dksX3_goNight_5 9 rfl rfl)
theorem dX3_goNight_125 : decode cX3_goNight 125 = .ok (.aload_n 0, 1) := dk_42 (dk_at dksX3_goNight_5 10 rfl rfl)
theorem dX3_goNight_126 : decode cX3_goNight 126 = .ok (.getfield 61, 3) := dk_180 0 61 (dk_at dksX3_goNight_5 11 rfl rfl)
theorem dX3_goNight_129 : decode cX3_goNight 129 = .ok (.iload 4, 2) := dk_21 4 (dk_at dksX3_goNight_5 14 rfl rfl)
theorem dX3_goNight_131 : decode cX3_goNight 131 = .ok (.dup2, 1) := dk_92 (dk_at dksX3_goNight_5 16 rfl rfl)
theorem dX3_goNight_132 : decode cX3_goNight 132 = .ok (.iaload, 1) := dk_46 (dk_at dksX3_goNight_5 17 rfl rfl)
theorem dX3_goNight_133 : decode cX3_goNight 133 = .ok (.aload_n 0, 1) := dk_42 (dk_at dksX3_goNight_5 18 rfl rfl)
theorem dX3_goNight_134 : decode cX3_goNight 134 = .ok (.aload_n 1, 1) := dk_43 (dk_at dksX3_goNight_5 19 rfl rfl)
theorem dX3_goNight_135 : decode cX3_goNight 135 = .ok (.iload 4, 2) := dk_21 4 (dk_at dksX3_goNight_5 20 rfl rfl)
theorem dX3_goNight_137 : decode cX3_goNight 137 = .ok (.iload_n 3, 1) := dk_29 (dk_at dksX3_goNight_5 22 rfl rfl)
theorem dX3_goNight_138 : decode cX3_goNight 138 = .ok (.invokevirtual 245, 3) := dk_182 0 245 (dk_at dksX3_goNight_6 0 rfl rfl)
theorem dX3_goNight_141 : decode cX3_goNight 141 = .ok (.iadd, 1) := dk_96 (dk_at dksX3_goNight_6 3 rfl rfl)
theorem dX3_goNight_142 : decode cX3_goNight 142 = .ok (.iastore, 1) := dk_79 (dk_at dksX3_goNight_6 4 rfl rfl)
theorem dX3_goNight_143 : decode cX3_goNight 143 = .ok (.aload_n 0, 1) := dk_42 (dk_at dksX3_goNight_6 5 rfl rfl)
theorem dX3_goNight_144 : decode cX3_goNight 144 = .ok (.dup, 1) := dk_89 (dk_at dksX3_goNight_6 6 rfl rfl)
theorem dX3_goNight_145 : decode cX3_goNight 145 = .ok (.getfield 268, 3) := dk_180 1 12 (dk_at dksX3_goNight_6 7 rfl rfl)
theorem dX3_goNight_148 : decode cX3_goNight 148 = .ok (.iconst 1, 1) := dk_4 (dk_at dksX3_goNight_6 10 rfl rfl)
theorem dX3_goNight_149 : decode cX3_goNight 149 = .ok (.iload_n 3, 1) := dk_29 (dk_at dksX3_goNight_6 11 rfl rfl)
theorem dX3_goNight_150 : decode cX3_goNight 150 = .ok (.ishl, 1) := dk_120 (dk_at dksX3_goNight_6 12 rfl rfl)
theorem dX3_goNight_151 : decode cX3_goNight 151 = .ok (.ior, 1) := dk_128 (dk_at dksX3_goNight_6 13 rfl rfl)
theorem dX3_goNight_152 : decode cX3_goNight 152 = .ok (.putfield 268, 3) := dk_181 1 12 (dk_at dksX3_goNight_6 14 rfl rfl)
theorem dX3_goNight_155 : decode cX3_goNight 155 = .ok (.iload_n 2, 1) := dk_28 (dk_at dksX3_goNight_6 17 rfl rfl)
theorem dX3_goNight_156 : decode cX3_goNight 156 = .ok (.iconst (-1), 1) := dk_2 (dk_at dksX3_goNight_6 18 rfl rfl)
theorem dX3_goNight_157 : decode cX3_goNight 157 = .ok (.if_icmp .eq 60, 3) := dk_159 0 60 (dk_at dksX3_goNight_6 19 rfl rfl)
theorem dX3_goNight_160 : decode cX3_goNight 160 = .ok (.iload_n 2, 1) := dk_28 (dk_at dksX3_goNight_6 22 rfl rfl)
theorem dX3_goNight_161 : decode cX3_goNight 161 = .ok (.iload 4, 2) := dk_21 4 (dk_at dksX3_goNight_7 0 rfl rfl)
theorem dX3_goNight_163 : decode cX3_goNight 163 = .ok (.if_icmp .eq 54, 3) := dk_159 0 54 (dk_at dksX3_goNight_7 2 rfl rfl)
theorem dX3_goNight_166 : decode cX3_goNight 166 = .ok (.aload_n 0, 1) := dk_42 (dk_at dksX3_goNight_7 5 rfl rfl)
theorem dX3_goNight_167 : decode cX3_goNight 167 = .ok (.getfield 23, 3) := dk_180 0 23 (dk_at dksX3_goNight_7 6 rfl rfl)
theorem dX3_goNight_170 : decode cX3_goNight 170 = .ok (.iload_n 2, 1) := dk_28 (dk_at dksX3_goNight_7 9 rfl rfl)
theorem dX3_goNight_171 : decode cX3_goNight 171 = .ok (.iaload, 1) := dk_46 (dk_at dksX3_goNight_7 10 rfl rfl)
theorem dX3_goNight_172 : decode cX3_goNight 172 = .ok (.aload_n 0, 1) := dk_42 (dk_at dksX3_goNight_7 11 rfl rfl)
theorem dX3_goNight_173 : decode cX3_goNight 173 = .ok (.getfield 23, 3) := dk_180 0 23 (dk_at dksX3_goNight_7 12 rfl rfl)
theorem dX3_goNight_176 : decode cX3_goNight 176 = .ok (.iload 4, 2) := dk_21 4 (dk_at dksX3_goNight_7 15 rfl rfl)
theorem dX3_goNight_178 : decode cX3_goNight 178 = .ok (.iaload, 1) := dk_46 (dk_at dksX3_goNight_7 17 rfl rfl)
theorem dX3_goNight_179 : decode cX3_goNight 179 = .ok (.isub, 1) := dk_100 (dk_at dksX3_goNight_7 18 rfl rfl)
theorem dX3_goNight_180 : decode cX3_goNight 180 = .ok (.invokestatic 274, 3) := dk_184 1 18 (dk_at dksX3_goNight_7 19 rfl rfl)
theorem dX3_goNight_183 : decode cX3_goNight 183 = .ok (.aload_n 0, 1) := dk_42 (dk_at dksX3_goNight_7 22 rfl rfl)
theorem dX3_goNight_184 : decode cX3_goNight 184 = .ok (.getfield 17, 3) := dk_180 0 17 (dk_at dksX3_goNight_8 0 rfl rfl)
theorem dX3_goNight_187 : decode cX3_goNight 187 = .ok (.if_icmp .le 30, 3) := dk_164 0 30 (dk_at dksX3_goNight_8 3 rfl rfl)
theorem dX3_goNight_190 : decode cX3_goNight 190 = .ok (.aload_n 0, 1) := dk_42 (dk_at dksX3_goNight_8 6 rfl rfl)
theorem dX3_goNight_191 : decode cX3_goNight 191 = .ok (.dup, 1) := dk_89 (dk_at dksX3_goNight_8 7 rfl rfl)
theorem dX3_goNight_192 : decode cX3_goNight 192 = .ok (.getfield 265, 3) := dk_180 1 9 (dk_at dksX3_goNight_8 8 rfl rfl)
theorem dX3_goNight_195 : decode cX3_goNight 195 = .ok (.iconst 1, 1) := dk_4 (dk_at dksX3_goNight_8 11 rfl rfl)
theorem dX3_goNight_196 : decode cX3_goNight 196 = .ok (.iload_n 3, 1) := dk_29 (dk_at dksX3_goNight_8 12 rfl rfl)
theorem dX3_goNight_197 : decode cX3_goNight 197 = .ok (.ishl, 1) := dk_120 (dk_at dksX3_goNight_8 13 rfl rfl)
theorem dX3_goNight_198 : decode cX3_goNight 198 = .ok (.ior, 1) := dk_128 (dk_at dksX3_goNight_8 14 rfl rfl)
theorem dX3_goNight_199 : decode cX3_goNight 199 = .ok (.putfield 265, 3) := dk_181 1 9 (dk_at dksX3_goNight_8 15 rfl rfl)
theorem dX3_goNight_202 : decode cX3_goNight 202 = .ok (.goto 15, 3) := dk_167 0 15 (dk_at dksX3_goNight_8 18 rfl rfl)
theorem dX3_goNight_205 : decode cX3_goNight 205 = .ok (.aload_n 0, 1) := dk_42 (dk_at dksX3_goNight_8 21 rfl rfl)
theorem dX3_goNight_206 : decode cX3_goNight 206 = .ok (.dup, 1) := dk_89 (dk_at dksX3_goNight_8 22 rfl rfl)
theorem dX3_goNight_207 : decode cX3_goNight 207 = .ok (.getfield 265, 3) := dk_180 1 9 (dk_at dksX3_goNight_9 0 rfl rfl)
theorem dX3_goNight_210 : decode cX3_goNight 210 = .ok (.iconst 1, 1) := dk_4 (dk_at dksX3_goNight_9 3 rfl rfl)
theorem dX3_goNight_211 : decode cX3_goNight 211 = .ok (.iload_n 3, 1) := dk_29 (dk_at dksX3_goNight_9 4 rfl rfl)
theorem dX3_goNight_212 : decode cX3_goNight 212 = .ok (.ishl, 1) := dk_120 (dk_at dksX3_goNight_9 5 rfl rfl)
theorem dX3_goNight_213 : decode cX3_goNight 213 = .ok (.ior, 1) := dk_128 (dk_at dksX3_goNight_9 6 rfl rfl)
theorem dX3_goNight_214 : decode cX3_goNight 214 = .ok (.putfield 265, 3) := dk_181 1 9 (dk_at dksX3_goNight_9 7 rfl rfl)
theorem dX3_goNight_217 : decode cX3_goNight 217 = .ok (.iload 5, 2) := dk_21 5 (dk_at dksX3_goNight_9 10 rfl rfl)
theorem dX3_goNight_219 : decode cX3_goNight 219 = .ok (.ifCond .eq 8, 3) := dk_153 0 8 (dk_at dksX3_goNight_9 12 rfl rfl)
theorem dX3_goNight_222 : decode cX3_goNight 222 = .ok (.iload 4, 2) := dk_21 4 (dk_at dksX3_goNight_9 15 rfl rfl)
theorem dX3_goNight_224 : decode cX3_goNight 224 = .ok (.goto 4, 3) := dk_167 0 4 (dk_at dksX3_goNight_9 17 rfl rfl)
theorem dX3_goNight_227 : decode cX3_goNight 227 = .ok (.iconst (-1), 1) := dk_2 (dk_at dksX3_goNight_9 20 rfl rfl)
theorem dX3_goNight_228 : decode cX3_goNight 228 = .ok (.istore_n 2, 1) := dk_61 (dk_at dksX3_goNight_9 21 rfl rfl)
theorem dX3_goNight_229 : decode cX3_goNight 229 = .ok (.iinc 3 1, 3) := dk_132 3 1 (dk_at dksX3_goNight_10 0 rfl rfl)
theorem dX3_goNight_232 : decode cX3_goNight 232 = .ok (.goto (-190), 3) := dk_167 255 66 (dk_at dksX3_goNight_10 3 rfl rfl)
theorem dX3_goNight_235 : decode cX3_goNight 235 = .ok (.iconst 0, 1) := dk_3 (dk_at dksX3_goNight_10 6 rfl rfl)
theorem dX3_goNight_236 : decode cX3_goNight 236 = .ok (.istore_n 3, 1) := dk_62 (dk_at dksX3_goNight_10 7 rfl rfl)
theorem dX3_goNight_237 : decode cX3_goNight 237 = .ok (.iload_n 3, 1) := dk_29 (dk_at dksX3_goNight_10 8 rfl rfl)
theorem dX3_goNight_238 : decode cX3_goNight 238 = .ok (.aload_n 0, 1) := dk_42 (dk_at dksX3_goNight_10 9 rfl rfl)
theorem dX3_goNight_239 : decode cX3_goNight 239 = .ok (.getfield 120, 3) := dk_180 0 120 (dk_at dksX3_goNight_10 10 rfl rfl)
theorem dX3_goNight_242 : decode cX3_goNight 242 = .ok (.if_icmp .ge 57, 3) := dk_162 0 57 (dk_at dksX3_goNight_10 13 rfl rfl)
theorem dX3_goNight_245 : decode cX3_goNight 245 = .ok (.aload_n 1, 1) := dk_43 (dk_at dksX3_goNight_10 16 rfl rfl)
theorem dX3_goNight_246 : decode cX3_goNight 246 = .ok (.bipush 8, 2) := dk_16 8 (dk_at dksX3_goNight_10 17 rfl rfl)
theorem dX3_goNight_248 : decode cX3_goNight 248 = .ok (.iload_n 3, 1) := dk_29 (dk_at dksX3_goNight_10 19 rfl rfl)
theorem dX3_goNight_249 : decode cX3_goNight 249 = .ok (.iadd, 1) := dk_96 (dk_at dksX3_goNight_10 20 rfl rfl)
theorem dX3_goNight_250 : decode cX3_goNight 250 = .ok (.aload_n 0, 1) := dk_42 (dk_at dksX3_goNight_10 21 rfl rfl)
theorem dX3_goNight_251 : decode cX3_goNight 251 = .ok (.getfield 58, 3) := dk_180 0 58 (dk_at dksX3_goNight_11 0 rfl rfl)
theorem dX3_goNight_254 : decode cX3_goNight 254 = .ok (.iload_n 3, 1) := dk_29 (dk_at dksX3_goNight_11 3 rfl rfl)
theorem dX3_goNight_255 : decode cX3_goNight 255 = .ok (.iaload, 1) := dk_46 (dk_at dksX3_goNight_11 4 rfl rfl)
theorem dX3_goNight_256 : decode cX3_goNight 256 = .ok (.ifCond .ne 18, 3) := dk_154 0 18 (dk_at dksX3_goNight_11 5 rfl rfl)
theorem dX3_goNight_259 : decode cX3_goNight 259 = .ok (.iconst 0, 1) := dk_3 (dk_at dksX3_goNight_11 8 rfl rfl)
theorem dX3_goNight_260 : decode cX3_goNight 260 = .ok (.aload_n 1, 1) := dk_43 (dk_at dksX3_goNight_11 9 rfl rfl)
theorem dX3_goNight_261 : decode cX3_goNight 261 = .ok (.bipush 8, 2) := dk_16 8 (dk_at dksX3_goNight_11 10 rfl rfl)
theorem dX3_goNight_263 : decode cX3_goNight 263 = .ok (.iload_n 3, 1) := dk_29 (dk_at dksX3_goNight_11 12 rfl rfl)
theorem dX3_goNight_264 : decode cX3_goNight 264 = .ok (.iadd, 1) := dk_96 (dk_at dksX3_goNight_11 13 rfl rfl)
theorem dX3_goNight_265 : decode cX3_goNight 265 = .ok (.iaload, 1) := dk_46 (dk_at dksX3_goNight_11 14 rfl rfl)
theorem dX3_goNight_266 : decode cX3_goNight 266 = .ok (.iconst 5, 1) := dk_8 (dk_at dksX3_goNight_11 15 rfl rfl)
theorem dX3_goNight_267 : decode cX3_goNight 267 = .ok (.isub, 1) := dk_100 (dk_at dksX3_goNight_11 16 rfl rfl)
theorem dX3_goNight_268 : decode cX3_goNight 268 = .ok (.invokestatic 232, 3) := dk_184 0 232 (dk_at dksX3_goNight_11 17 rfl rfl)
theorem dX3_goNight_271 : decode cX3_goNight 271 = .ok (.goto 21, 3) := dk_167 0 21 (dk_at dksX3_goNight_11 20 rfl rfl)
theorem dX3_goNight_274 : decode cX3_goNight 274 = .ok (.bipush 99, 2) := dk_16 99 (dk_at dksX3_goNight_12 0 rfl rfl)
theorem dX3_goNight_276 : decode cX3_goNight 276 = .ok (.aload_n 1, 1) := dk_43 (dk_at dksX3_goNight_12 2 rfl rfl)
theorem dX3_goNight_277 : decode cX3_goNight 277 = .ok (.bipush 8, 2) := dk_16 8 (dk_at dksX3_goNight_12 3 rfl rfl)
theorem dX3_goNight_279 : decode cX3_goNight 279 = .ok (.iload_n 3, 1) := dk_29 (dk_at dksX3_goNight_12 5 rfl rfl)
theorem dX3_goNight_280 : decode cX3_goNight 280 = .ok (.iadd, 1) := dk_96 (dk_at dksX3_goNight_12 6 rfl rfl)
theorem dX3_goNight_281 : decode cX3_goNight 281 = .ok (.iaload, 1) := dk_46 (dk_at dksX3_goNight_12 7 rfl rfl)
theorem dX3_goNight_282 : decode cX3_goNight 282 = .ok (.aload_n 0, 1) := dk_42 (dk_at dksX3_goNight_12 8 rfl rfl)
theorem dX3_goNight_283 : decode cX3_goNight 283 = .ok (.getfield 61, 3) := dk_180 0 61 (dk_at dksX3_goNight_12 9 rfl rfl)
theorem dX3_goNight_286 : decode cX3_goNight 286 = .ok (.iload_n 3, 1) := dk_29 (dk_at dksX3_goNight_12 12 rfl rfl)
theorem dX3_goNight_287 : decode cX3_goNight 287 = .ok (.iaload, 1) := dk_46 (dk_at dksX3_goNight_12 13 rfl rfl)
theorem dX3_goNight_288 : decode cX3_goNight 288 = .ok (.iadd, 1) := dk_96 (dk_at dksX3_goNight_12 14 rfl rfl)
theorem dX3_goNight_289 : decode cX3_goNight 289 = .ok (.invokestatic 226, 3) := dk_184 0 226 (dk_at dksX3_goNight_12 15 rfl rfl)
theorem dX3_goNight_292 : decode cX3_goNight 292 = .ok (.iastore, 1) := dk_79 (dk_at dksX3_goNight_12 18 rfl rfl)
theorem dX3_goNight_293 : decode cX3_goNight 293 = .ok (.iinc 3 1, 3) := dk_132 3 1 (dk_at dksX3_goNight_12 19 rfl rfl)
theorem dX3_goNight_296 : decode cX3_goNight 296 = .ok (.goto (-59), 3) := dk_167 255 197 (dk_at dksX3_goNight_13 0 rfl rfl)
theorem dX3_goNight_299 : decode cX3_goNight 299 = .ok (.aload_n 1, 1) := dk_43 (dk_at dksX3_goNight_13 3 rfl rfl)
theorem dX3_goNight_300 : decode cX3_goNight 300 = .ok (.bipush 25, 2) := dk_16 25 (dk_at dksX3_goNight_13 4 rfl rfl)
theorem dX3_goNight_302 : decode cX3_goNight 302 = .ok (.dup2, 1) := dk_92 (dk_at dksX3_goNight_13 6 rfl rfl)
theorem dX3_goNight_303 : decode cX3_goNight 303 = .ok (.iaload, 1) := dk_46 (dk_at dksX3_goNight_13 7 rfl rfl)
theorem dX3_goNight_304 : decode cX3_goNight 304 = .ok (.aload_n 0, 1) := dk_42 (dk_at dksX3_goNight_13 8 rfl rfl)
theorem dX3_goNight_305 : decode cX3_goNight 305 = .ok (.getfield 265, 3) := dk_180 1 9 (dk_at dksX3_goNight_13 9 rfl rfl)
theorem dX3_goNight_308 : decode cX3_goNight 308 = .ok (.invokestatic 221, 3) := dk_184 0 221 (dk_at dksX3_goNight_13 12 rfl rfl)
theorem dX3_goNight_311 : decode cX3_goNight 311 = .ok (.iadd, 1) := dk_96 (dk_at dksX3_goNight_13 15 rfl rfl)
theorem dX3_goNight_312 : decode cX3_goNight 312 = .ok (.iastore, 1) := dk_79 (dk_at dksX3_goNight_13 16 rfl rfl)
theorem dX3_goNight_313 : decode cX3_goNight 313 = .ok (.aload_n 1, 1) := dk_43 (dk_at dksX3_goNight_13 17 rfl rfl)
theorem dX3_goNight_314 : decode cX3_goNight 314 = .ok (.bipush 26, 2) := dk_16 26 (dk_at dksX3_goNight_13 18 rfl rfl)
theorem dX3_goNight_316 : decode cX3_goNight 316 = .ok (.dup2, 1) := dk_92 (dk_at dksX3_goNight_13 20 rfl rfl)
theorem dX3_goNight_317 : decode cX3_goNight 317 = .ok (.iaload, 1) := dk_46 (dk_at dksX3_goNight_13 21 rfl rfl)
theorem dX3_goNight_318 : decode cX3_goNight 318 = .ok (.aload_n 0, 1) := dk_42 (dk_at dksX3_goNight_13 22 rfl rfl)
theorem dX3_goNight_319 : decode cX3_goNight 319 = .ok (.getfield 268, 3) := dk_180 1 12 (dk_at dksX3_goNight_14 0 rfl rfl)
theorem dX3_goNight_322 : decode cX3_goNight 322 = .ok (.invokestatic 221, 3) := dk_184 0 221 (dk_at dksX3_goNight_14 3 rfl rfl)
theorem dX3_goNight_325 : decode cX3_goNight 325 = .ok (.iadd, 1) := dk_96 (dk_at dksX3_goNight_14 6 rfl rfl)
theorem dX3_goNight_326 : decode cX3_goNight 326 = .ok (.iastore, 1) := dk_79 (dk_at dksX3_goNight_14 7 rfl rfl)
theorem dX3_goNight_327 : decode cX3_goNight 327 = .ok (.aload_n 1, 1) := dk_43 (dk_at dksX3_goNight_14 8 rfl rfl)
theorem dX3_goNight_328 : decode cX3_goNight 328 = .ok (.bipush 24, 2) := dk_16 24 (dk_at dksX3_goNight_14 9 rfl rfl)
theorem dX3_goNight_330 : decode cX3_goNight 330 = .ok (.dup2, 1) := dk_92 (dk_at dksX3_goNight_14 11 rfl rfl)
theorem dX3_goNight_331 : decode cX3_goNight 331 = .ok (.iaload, 1) := dk_46 (dk_at dksX3_goNight_14 12 rfl rfl)
theorem dX3_goNight_332 : decode cX3_goNight 332 = .ok (.iconst 1, 1) := dk_4 (dk_at dksX3_goNight_14 13 rfl rfl)
theorem dX3_goNight_333 : decode cX3_goNight 333 = .ok (.iadd, 1) := dk_96 (dk_at dksX3_goNight_14 14 rfl rfl)
theorem dX3_goNight_334 : decode cX3_goNight 334 = .ok (.iastore, 1) := dk_79 (dk_at dksX3_goNight_14 15 rfl rfl)
theorem dX3_goNight_335 : decode cX3_goNight 335 = .ok (.return_, 1) := dk_177 (dk_at dksX3_goNight_14 16 rfl rfl)
abbrev cX3_has : ByteArray := prog_9_method_4_code
def yX3_has : MethodName := ⟨RX3, "has", "(II)Z"⟩
def dkwX3_has_0 : List UInt8 := [26, 27, 122, 4, 126, 4, 160, 0, 7, 4, 167, 0, 4, 3, 172]
abbrev dktX3_has_0 : List UInt8 := dkwX3_has_0 ++ []
theorem dksX3_has_0 : cX3_has.data.toList.drop 0 = dktX3_has_0 := by decide +kernel
theorem dX3_has_0 : decode cX3_has 0 = .ok (.iload_n 0, 1) := dk_26 (dk_at dksX3_has_0 0 rfl rfl)
theorem dX3_has_1 : decode cX3_has 1 = .ok (.iload_n 1, 1) := dk_27 (dk_at dksX3_has_0 1 rfl rfl)
theorem dX3_has_2 : decode cX3_has 2 = .ok (.ishr, 1) := dk_122 (dk_at dksX3_has_0 2 rfl rfl)
theorem dX3_has_3 : decode cX3_has 3 = .ok (.iconst 1, 1) := dk_4 (dk_at dksX3_has_0 3 rfl rfl)
theorem dX3_has_4 : decode cX3_has 4 = .ok (.iand, 1) := dk_126 (dk_at dksX3_has_0 4 rfl rfl)
theorem dX3_has_5 : decode cX3_has 5 = .ok (.iconst 1, 1) := dk_4 (dk_at dksX3_has_0 5 rfl rfl)
theorem dX3_has_6 : decode cX3_has 6 = .ok (.if_icmp .ne 7, 3) := dk_160 0 7 (dk_at dksX3_has_0 6 rfl rfl)
theorem dX3_has_9 : decode cX3_has 9 = .ok (.iconst 1, 1) := dk_4 (dk_at dksX3_has_0 9 rfl rfl)
theorem dX3_has_10 : decode cX3_has 10 = .ok (.goto 4, 3) := dk_167 0 4 (dk_at dksX3_has_0 10 rfl rfl)
theorem dX3_has_13 : decode cX3_has 13 = .ok (.iconst 0, 1) := dk_3 (dk_at dksX3_has_0 13 rfl rfl)
theorem dX3_has_14 : decode cX3_has 14 = .ok (.ireturn, 1) := dk_172 (dk_at dksX3_has_0 14 rfl rfl)
abbrev cX3_tell : ByteArray := prog_9_method_6_code
def yX3_tell : MethodName := ⟨RX3, "tell", "(J)V"⟩
def dkwX3_tell_0 : List UInt8 := [42, 180, 0, 33, 42, 180, 0, 117, 31, 80, 42, 89, 180, 0, 117, 4, 96, 181, 0, 117, 177]
abbrev dktX3_tell_0 : List UInt8 := dkwX3_tell_0 ++ []
theorem dksX3_tell_0 : cX3_tell.data.toList.drop 0 = dktX3_tell_0 := by decide +kernel
theorem dX3_tell_0 : decode cX3_tell 0 = .ok (.aload_n 0, 1) := dk_42 (dk_at dksX3_tell_0 0 rfl rfl)
theorem dX3_tell_1 : decode cX3_tell 1 = .ok (.getfield 33, 3) := dk_180 0 33 (dk_at dksX3_tell_0 1 rfl rfl)
theorem dX3_tell_4 : decode cX3_tell 4 = .ok (.aload_n 0, 1) := dk_42 (dk_at dksX3_tell_0 4 rfl rfl)
theorem dX3_tell_5 : decode cX3_tell 5 = .ok (.getfield 117, 3) := dk_180 0 117 (dk_at dksX3_tell_0 5 rfl rfl)
theorem dX3_tell_8 : decode cX3_tell 8 = .ok (.lload_n 1, 1) := dk_31 (dk_at dksX3_tell_0 8 rfl rfl)
theorem dX3_tell_9 : decode cX3_tell 9 = .ok (.lastore, 1) := dk_80 (dk_at dksX3_tell_0 9 rfl rfl)
theorem dX3_tell_10 : decode cX3_tell 10 = .ok (.aload_n 0, 1) := dk_42 (dk_at dksX3_tell_0 10 rfl rfl)
theorem dX3_tell_11 : decode cX3_tell 11 = .ok (.dup, 1) := dk_89 (dk_at dksX3_tell_0 11 rfl rfl)
theorem dX3_tell_12 : decode cX3_tell 12 = .ok (.getfield 117, 3) := dk_180 0 117 (dk_at dksX3_tell_0 12 rfl rfl)
theorem dX3_tell_15 : decode cX3_tell 15 = .ok (.iconst 1, 1) := dk_4 (dk_at dksX3_tell_0 15 rfl rfl)
theorem dX3_tell_16 : decode cX3_tell 16 = .ok (.iadd, 1) := dk_96 (dk_at dksX3_tell_0 16 rfl rfl)
theorem dX3_tell_17 : decode cX3_tell 17 = .ok (.putfield 117, 3) := dk_181 0 117 (dk_at dksX3_tell_0 17 rfl rfl)
theorem dX3_tell_20 : decode cX3_tell 20 = .ok (.return_, 1) := dk_177 (dk_at dksX3_tell_0 20 rfl rfl)
abbrev cX3_tired : ByteArray := prog_9_method_47_code
def yX3_tired : MethodName := ⟨RX3, "tired", "([I)I"⟩
def dkwX3_tired_1 : List UInt8 := [167, 255, 236, 28, 172]
abbrev dktX3_tired_1 : List UInt8 := dkwX3_tired_1 ++ []
def dkwX3_tired_0 : List UInt8 := [3, 61, 3, 62, 29, 42, 180, 0, 120, 162, 0, 18, 28, 43, 16, 8, 29, 96, 46, 96, 61, 132, 3, 1]
abbrev dktX3_tired_0 : List UInt8 := dkwX3_tired_0 ++ dktX3_tired_1
theorem dksX3_tired_0 : cX3_tired.data.toList.drop 0 = dktX3_tired_0 := by decide +kernel
theorem dksX3_tired_1 : cX3_tired.data.toList.drop 24 = dktX3_tired_1 := dk_seg dksX3_tired_0 24 rfl rfl
theorem dX3_tired_0 : decode cX3_tired 0 = .ok (.iconst 0, 1) := dk_3 (dk_at dksX3_tired_0 0 rfl rfl)
theorem dX3_tired_1 : decode cX3_tired 1 = .ok (.istore_n 2, 1) := dk_61 (dk_at dksX3_tired_0 1 rfl rfl)
theorem dX3_tired_2 : decode cX3_tired 2 = .ok (.iconst 0, 1) := dk_3 (dk_at dksX3_tired_0 2 rfl rfl)
theorem dX3_tired_3 : decode cX3_tired 3 = .ok (.istore_n 3, 1) := dk_62 (dk_at dksX3_tired_0 3 rfl rfl)
theorem dX3_tired_4 : decode cX3_tired 4 = .ok (.iload_n 3, 1) := dk_29 (dk_at dksX3_tired_0 4 rfl rfl)
theorem dX3_tired_5 : decode cX3_tired 5 = .ok (.aload_n 0, 1) := dk_42 (dk_at dksX3_tired_0 5 rfl rfl)
theorem dX3_tired_6 : decode cX3_tired 6 = .ok (.getfield 120, 3) := dk_180 0 120 (dk_at dksX3_tired_0 6 rfl rfl)
theorem dX3_tired_9 : decode cX3_tired 9 = .ok (.if_icmp .ge 18, 3) := dk_162 0 18 (dk_at dksX3_tired_0 9 rfl rfl)
theorem dX3_tired_12 : decode cX3_tired 12 = .ok (.iload_n 2, 1) := dk_28 (dk_at dksX3_tired_0 12 rfl rfl)
theorem dX3_tired_13 : decode cX3_tired 13 = .ok (.aload_n 1, 1) := dk_43 (dk_at dksX3_tired_0 13 rfl rfl)
theorem dX3_tired_14 : decode cX3_tired 14 = .ok (.bipush 8, 2) := dk_16 8 (dk_at dksX3_tired_0 14 rfl rfl)
theorem dX3_tired_16 : decode cX3_tired 16 = .ok (.iload_n 3, 1) := dk_29 (dk_at dksX3_tired_0 16 rfl rfl)
theorem dX3_tired_17 : decode cX3_tired 17 = .ok (.iadd, 1) := dk_96 (dk_at dksX3_tired_0 17 rfl rfl)
theorem dX3_tired_18 : decode cX3_tired 18 = .ok (.iaload, 1) := dk_46 (dk_at dksX3_tired_0 18 rfl rfl)
theorem dX3_tired_19 : decode cX3_tired 19 = .ok (.iadd, 1) := dk_96 (dk_at dksX3_tired_0 19 rfl rfl)
theorem dX3_tired_20 : decode cX3_tired 20 = .ok (.istore_n 2, 1) := dk_61 (dk_at dksX3_tired_0 20 rfl rfl)
theorem dX3_tired_21 : decode cX3_tired 21 = .ok (.iinc 3 1, 3) := dk_132 3 1 (dk_at dksX3_tired_0 21 rfl rfl)
theorem dX3_tired_24 : decode cX3_tired 24 = .ok (.goto (-20), 3) := dk_167 255 236 (dk_at dksX3_tired_1 0 rfl rfl)
theorem dX3_tired_27 : decode cX3_tired 27 = .ok (.iload_n 2, 1) := dk_28 (dk_at dksX3_tired_1 3 rfl rfl)
theorem dX3_tired_28 : decode cX3_tired 28 = .ok (.ireturn, 1) := dk_172 (dk_at dksX3_tired_1 4 rfl rfl)
abbrev cX3_year : ByteArray := prog_9_method_50_code
def yX3_year : MethodName := ⟨RX3, "year", "()I"⟩
def dkwX3_year_6 : List UInt8 := [167, 0, 4, 9, 182, 1, 28, 42, 42, 180, 0, 9, 16, 25, 46, 133, 182, 1, 28, 28, 172]
abbrev dktX3_year_6 : List UInt8 := dkwX3_year_6 ++ []
def dkwX3_year_5 : List UInt8 := [158, 0, 11, 42, 42, 180, 0, 52, 182, 0, 253, 42, 3, 181, 0, 117, 42, 28, 27, 162, 0, 7, 10]
abbrev dktX3_year_5 : List UInt8 := dkwX3_year_5 ++ dktX3_year_6
def dkwX3_year_4 : List UInt8 := [42, 180, 0, 64, 6, 28, 104, 5, 96, 46, 182, 1, 38, 153, 0, 9, 132, 2, 1, 167, 255, 213, 28]
abbrev dktX3_year_4 : List UInt8 := dkwX3_year_4 ++ dktX3_year_5
def dkwX3_year_3 : List UInt8 := [28, 27, 162, 0, 44, 42, 42, 180, 0, 64, 6, 28, 104, 46, 42, 180, 0, 64, 6, 28, 104, 4, 96, 46]
abbrev dktX3_year_3 : List UInt8 := dkwX3_year_3 ++ dktX3_year_4
def dkwX3_year_2 : List UInt8 := [154, 0, 10, 2, 42, 180, 0, 146, 100, 172, 42, 180, 0, 9, 42, 180, 0, 52, 3, 184, 0, 249, 3, 61]
abbrev dktX3_year_2 : List UInt8 := dkwX3_year_2 ++ dktX3_year_3
def dkwX3_year_1 : List UInt8 := [42, 180, 0, 137, 162, 0, 16, 42, 6, 27, 104, 182, 1, 35, 132, 1, 1, 167, 255, 228, 42, 182, 0, 179]
abbrev dktX3_year_1 : List UInt8 := dkwX3_year_1 ++ dktX3_year_2
def dkwX3_year_0 : List UInt8 := [42, 3, 181, 0, 114, 42, 16, 60, 182, 0, 173, 3, 60, 42, 182, 0, 153, 153, 0, 27, 42, 180, 0, 143]
abbrev dktX3_year_0 : List UInt8 := dkwX3_year_0 ++ dktX3_year_1
theorem dksX3_year_0 : cX3_year.data.toList.drop 0 = dktX3_year_0 := by decide +kernel
theorem dksX3_year_1 : cX3_year.data.toList.drop 24 = dktX3_year_1 := dk_seg dksX3_year_0 24 rfl rfl
theorem dksX3_year_2 : cX3_year.data.toList.drop 48 = dktX3_year_2 := dk_seg dksX3_year_1 24 rfl rfl
theorem dksX3_year_3 : cX3_year.data.toList.drop 72 = dktX3_year_3 := dk_seg dksX3_year_2 24 rfl rfl
theorem dksX3_year_4 : cX3_year.data.toList.drop 96 = dktX3_year_4 := dk_seg dksX3_year_3 24 rfl rfl
theorem dksX3_year_5 : cX3_year.data.toList.drop 119 = dktX3_year_5 := dk_seg dksX3_year_4 23 rfl rfl
theorem dksX3_year_6 : cX3_year.data.toList.drop 142 = dktX3_year_6 := dk_seg dksX3_year_5 23 rfl rfl
theorem dX3_year_0 : decode cX3_year 0 = .ok (.aload_n 0, 1) := dk_42 (dk_at dksX3_year_0 0 rfl rfl)
theorem dX3_year_1 : decode cX3_year 1 = .ok (.iconst 0, 1) := dk_3 (dk_at dksX3_year_0 1 rfl rfl)
theorem dX3_year_2 : decode cX3_year 2 = .ok (.putfield 114, 3) := dk_181 0 114 (dk_at dksX3_year_0 2 rfl rfl)
theorem dX3_year_5 : decode cX3_year 5 = .ok (.aload_n 0, 1) := dk_42 (dk_at dksX3_year_0 5 rfl rfl)
theorem dX3_year_6 : decode cX3_year 6 = .ok (.bipush 60, 2) := dk_16 60 (dk_at dksX3_year_0 6 rfl rfl)
theorem dX3_year_8 : decode cX3_year 8 = .ok (.invokevirtual 173, 3) := dk_182 0 173 (dk_at dksX3_year_0 8 rfl rfl)
theorem dX3_year_11 : decode cX3_year 11 = .ok (.iconst 0, 1) := dk_3 (dk_at dksX3_year_0 11 rfl rfl)
theorem dX3_year_12 : decode cX3_year 12 = .ok (.istore_n 1, 1) := dk_60 (dk_at dksX3_year_0 12 rfl rfl)
theorem dX3_year_13 : decode cX3_year 13 = .ok (.aload_n 0, 1) := dk_42 (dk_at dksX3_year_0 13 rfl rfl)
theorem dX3_year_14 : decode cX3_year 14 = .ok (.invokevirtual 153, 3) := dk_182 0 153 (dk_at dksX3_year_0 14 rfl rfl)
theorem dX3_year_17 : decode cX3_year 17 = .ok (.ifCond .eq 27, 3) := dk_153 0 27 (dk_at dksX3_year_0 17 rfl rfl)
theorem dX3_year_20 : decode cX3_year 20 = .ok (.aload_n 0, 1) := dk_42 (dk_at dksX3_year_0 20 rfl rfl)
theorem dX3_year_21 : decode cX3_year 21 = .ok (.getfield 143, 3) := dk_180 0 143 (dk_at dksX3_year_0 21 rfl rfl)
theorem dX3_year_24 : decode cX3_year 24 = .ok (.aload_n 0, 1) := dk_42 (dk_at dksX3_year_1 0 rfl rfl)
theorem dX3_year_25 : decode cX3_year 25 = .ok (.getfield 137, 3) := dk_180 0 137 (dk_at dksX3_year_1 1 rfl rfl)
theorem dX3_year_28 : decode cX3_year 28 = .ok (.if_icmp .ge 16, 3) := dk_162 0 16 (dk_at dksX3_year_1 4 rfl rfl)
theorem dX3_year_31 : decode cX3_year 31 = .ok (.aload_n 0, 1) := dk_42 (dk_at dksX3_year_1 7 rfl rfl)
theorem dX3_year_32 : decode cX3_year 32 = .ok (.iconst 3, 1) := dk_6 (dk_at dksX3_year_1 8 rfl rfl)
theorem dX3_year_33 : decode cX3_year 33 = .ok (.iload_n 1, 1) := dk_27 (dk_at dksX3_year_1 9 rfl rfl)
theorem dX3_year_34 : decode cX3_year 34 = .ok (.imul, 1) := dk_104 (dk_at dksX3_year_1 10 rfl rfl)
theorem dX3_year_35 : decode cX3_year 35 = .ok (.invokevirtual 291, 3) := dk_182 1 35 (dk_at dksX3_year_1 11 rfl rfl)
theorem dX3_year_38 : decode cX3_year 38 = .ok (.iinc 1 1, 3) := dk_132 1 1 (dk_at dksX3_year_1 14 rfl rfl)
theorem dX3_year_41 : decode cX3_year 41 = .ok (.goto (-28), 3) := dk_167 255 228 (dk_at dksX3_year_1 17 rfl rfl)
theorem dX3_year_44 : decode cX3_year 44 = .ok (.aload_n 0, 1) := dk_42 (dk_at dksX3_year_1 20 rfl rfl)
theorem dX3_year_45 : decode cX3_year 45 = .ok (.invokevirtual 179, 3) := dk_182 0 179 (dk_at dksX3_year_1 21 rfl rfl)
theorem dX3_year_48 : decode cX3_year 48 = .ok (.ifCond .ne 10, 3) := dk_154 0 10 (dk_at dksX3_year_2 0 rfl rfl)
theorem dX3_year_51 : decode cX3_year 51 = .ok (.iconst (-1), 1) := dk_2 (dk_at dksX3_year_2 3 rfl rfl)
theorem dX3_year_52 : decode cX3_year 52 = .ok (.aload_n 0, 1) := dk_42 (dk_at dksX3_year_2 4 rfl rfl)
theorem dX3_year_53 : decode cX3_year 53 = .ok (.getfield 146, 3) := dk_180 0 146 (dk_at dksX3_year_2 5 rfl rfl)
theorem dX3_year_56 : decode cX3_year 56 = .ok (.isub, 1) := dk_100 (dk_at dksX3_year_2 8 rfl rfl)
theorem dX3_year_57 : decode cX3_year 57 = .ok (.ireturn, 1) := dk_172 (dk_at dksX3_year_2 9 rfl rfl)
theorem dX3_year_58 : decode cX3_year 58 = .ok (.aload_n 0, 1) := dk_42 (dk_at dksX3_year_2 10 rfl rfl)
theorem dX3_year_59 : decode cX3_year 59 = .ok (.getfield 9, 3) := dk_180 0 9 (dk_at dksX3_year_2 11 rfl rfl)
theorem dX3_year_62 : decode cX3_year 62 = .ok (.aload_n 0, 1) := dk_42 (dk_at dksX3_year_2 14 rfl rfl)
theorem dX3_year_63 : decode cX3_year 63 = .ok (.getfield 52, 3) := dk_180 0 52 (dk_at dksX3_year_2 15 rfl rfl)
theorem dX3_year_66 : decode cX3_year 66 = .ok (.iconst 0, 1) := dk_3 (dk_at dksX3_year_2 18 rfl rfl)
theorem dX3_year_67 : decode cX3_year 67 = .ok (.invokestatic 249, 3) := dk_184 0 249 (dk_at dksX3_year_2 19 rfl rfl)
theorem dX3_year_70 : decode cX3_year 70 = .ok (.iconst 0, 1) := dk_3 (dk_at dksX3_year_2 22 rfl rfl)
theorem dX3_year_71 : decode cX3_year 71 = .ok (.istore_n 2, 1) := dk_61 (dk_at dksX3_year_2 23 rfl rfl)
theorem dX3_year_72 : decode cX3_year 72 = .ok (.iload_n 2, 1) := dk_28 (dk_at dksX3_year_3 0 rfl rfl)
theorem dX3_year_73 : decode cX3_year 73 = .ok (.iload_n 1, 1) := dk_27 (dk_at dksX3_year_3 1 rfl rfl)
theorem dX3_year_74 : decode cX3_year 74 = .ok (.if_icmp .ge 44, 3) := dk_162 0 44 (dk_at dksX3_year_3 2 rfl rfl)
theorem dX3_year_77 : decode cX3_year 77 = .ok (.aload_n 0, 1) := dk_42 (dk_at dksX3_year_3 5 rfl rfl)
theorem dX3_year_78 : decode cX3_year 78 = .ok (.aload_n 0, 1) := dk_42 (dk_at dksX3_year_3 6 rfl rfl)
theorem dX3_year_79 : decode cX3_year 79 = .ok (.getfield 64, 3) := dk_180 0 64 (dk_at dksX3_year_3 7 rfl rfl)
theorem dX3_year_82 : decode cX3_year 82 = .ok (.iconst 3, 1) := dk_6 (dk_at dksX3_year_3 10 rfl rfl)
theorem dX3_year_83 : decode cX3_year 83 = .ok (.iload_n 2, 1) := dk_28 (dk_at dksX3_year_3 11 rfl rfl)
theorem dX3_year_84 : decode cX3_year 84 = .ok (.imul, 1) := dk_104 (dk_at dksX3_year_3 12 rfl rfl)
theorem dX3_year_85 : decode cX3_year 85 = .ok (.iaload, 1) := dk_46 (dk_at dksX3_year_3 13 rfl rfl)
theorem dX3_year_86 : decode cX3_year 86 = .ok (.aload_n 0, 1) := dk_42 (dk_at dksX3_year_3 14 rfl rfl)
theorem dX3_year_87 : decode cX3_year 87 = .ok (.getfield 64, 3) := dk_180 0 64 (dk_at dksX3_year_3 15 rfl rfl)
theorem dX3_year_90 : decode cX3_year 90 = .ok (.iconst 3, 1) := dk_6 (dk_at dksX3_year_3 18 rfl rfl)
theorem dX3_year_91 : decode cX3_year 91 = .ok (.iload_n 2, 1) := dk_28 (dk_at dksX3_year_3 19 rfl rfl)
theorem dX3_year_92 : decode cX3_year 92 = .ok (.imul, 1) := dk_104 (dk_at dksX3_year_3 20 rfl rfl)
theorem dX3_year_93 : decode cX3_year 93 = .ok (.iconst 1, 1) := dk_4 (dk_at dksX3_year_3 21 rfl rfl)
theorem dX3_year_94 : decode cX3_year 94 = .ok (.iadd, 1) := dk_96 (dk_at dksX3_year_3 22 rfl rfl)
theorem dX3_year_95 : decode cX3_year 95 = .ok (.iaload, 1) := dk_46 (dk_at dksX3_year_3 23 rfl rfl)
theorem dX3_year_96 : decode cX3_year 96 = .ok (.aload_n 0, 1) := dk_42 (dk_at dksX3_year_4 0 rfl rfl)
theorem dX3_year_97 : decode cX3_year 97 = .ok (.getfield 64, 3) := dk_180 0 64 (dk_at dksX3_year_4 1 rfl rfl)
theorem dX3_year_100 : decode cX3_year 100 = .ok (.iconst 3, 1) := dk_6 (dk_at dksX3_year_4 4 rfl rfl)
theorem dX3_year_101 : decode cX3_year 101 = .ok (.iload_n 2, 1) := dk_28 (dk_at dksX3_year_4 5 rfl rfl)
theorem dX3_year_102 : decode cX3_year 102 = .ok (.imul, 1) := dk_104 (dk_at dksX3_year_4 6 rfl rfl)
theorem dX3_year_103 : decode cX3_year 103 = .ok (.iconst 2, 1) := dk_5 (dk_at dksX3_year_4 7 rfl rfl)
theorem dX3_year_104 : decode cX3_year 104 = .ok (.iadd, 1) := dk_96 (dk_at dksX3_year_4 8 rfl rfl)
theorem dX3_year_105 : decode cX3_year 105 = .ok (.iaload, 1) := dk_46 (dk_at dksX3_year_4 9 rfl rfl)
theorem dX3_year_106 : decode cX3_year 106 = .ok (.invokevirtual 294, 3) := dk_182 1 38 (dk_at dksX3_year_4 10 rfl rfl)
theorem dX3_year_109 : decode cX3_year 109 = .ok (.ifCond .eq 9, 3) := dk_153 0 9 (dk_at dksX3_year_4 13 rfl rfl)
theorem dX3_year_112 : decode cX3_year 112 = .ok (.iinc 2 1, 3) := dk_132 2 1 (dk_at dksX3_year_4 16 rfl rfl)
theorem dX3_year_115 : decode cX3_year 115 = .ok (.goto (-43), 3) := dk_167 255 213 (dk_at dksX3_year_4 19 rfl rfl)
theorem dX3_year_118 : decode cX3_year 118 = .ok (.iload_n 2, 1) := dk_28 (dk_at dksX3_year_4 22 rfl rfl)
theorem dX3_year_119 : decode cX3_year 119 = .ok (.ifCond .le 11, 3) := dk_158 0 11 (dk_at dksX3_year_5 0 rfl rfl)
theorem dX3_year_122 : decode cX3_year 122 = .ok (.aload_n 0, 1) := dk_42 (dk_at dksX3_year_5 3 rfl rfl)
theorem dX3_year_123 : decode cX3_year 123 = .ok (.aload_n 0, 1) := dk_42 (dk_at dksX3_year_5 4 rfl rfl)
theorem dX3_year_124 : decode cX3_year 124 = .ok (.getfield 52, 3) := dk_180 0 52 (dk_at dksX3_year_5 5 rfl rfl)
theorem dX3_year_127 : decode cX3_year 127 = .ok (.invokevirtual 253, 3) := dk_182 0 253 (dk_at dksX3_year_5 8 rfl rfl)
theorem dX3_year_130 : decode cX3_year 130 = .ok (.aload_n 0, 1) := dk_42 (dk_at dksX3_year_5 11 rfl rfl)
theorem dX3_year_131 : decode cX3_year 131 = .ok (.iconst 0, 1) := dk_3 (dk_at dksX3_year_5 12 rfl rfl)
theorem dX3_year_132 : decode cX3_year 132 = .ok (.putfield 117, 3) := dk_181 0 117 (dk_at dksX3_year_5 13 rfl rfl)
theorem dX3_year_135 : decode cX3_year 135 = .ok (.aload_n 0, 1) := dk_42 (dk_at dksX3_year_5 16 rfl rfl)
theorem dX3_year_136 : decode cX3_year 136 = .ok (.iload_n 2, 1) := dk_28 (dk_at dksX3_year_5 17 rfl rfl)
theorem dX3_year_137 : decode cX3_year 137 = .ok (.iload_n 1, 1) := dk_27 (dk_at dksX3_year_5 18 rfl rfl)
theorem dX3_year_138 : decode cX3_year 138 = .ok (.if_icmp .ge 7, 3) := dk_162 0 7 (dk_at dksX3_year_5 19 rfl rfl)
theorem dX3_year_141 : decode cX3_year 141 = .ok (.lconst 1, 1) := dk_10 (dk_at dksX3_year_5 22 rfl rfl)
theorem dX3_year_142 : decode cX3_year 142 = .ok (.goto 4, 3) := dk_167 0 4 (dk_at dksX3_year_6 0 rfl rfl)
theorem dX3_year_145 : decode cX3_year 145 = .ok (.lconst 0, 1) := dk_9 (dk_at dksX3_year_6 3 rfl rfl)
theorem dX3_year_146 : decode cX3_year 146 = .ok (.invokevirtual 284, 3) := dk_182 1 28 (dk_at dksX3_year_6 4 rfl rfl)
theorem dX3_year_149 : decode cX3_year 149 = .ok (.aload_n 0, 1) := dk_42 (dk_at dksX3_year_6 7 rfl rfl)
theorem dX3_year_150 : decode cX3_year 150 = .ok (.aload_n 0, 1) := dk_42 (dk_at dksX3_year_6 8 rfl rfl)
theorem dX3_year_151 : decode cX3_year 151 = .ok (.getfield 9, 3) := dk_180 0 9 (dk_at dksX3_year_6 9 rfl rfl)
theorem dX3_year_154 : decode cX3_year 154 = .ok (.bipush 25, 2) := dk_16 25 (dk_at dksX3_year_6 12 rfl rfl)
theorem dX3_year_156 : decode cX3_year 156 = .ok (.iaload, 1) := dk_46 (dk_at dksX3_year_6 14 rfl rfl)
theorem dX3_year_157 : decode cX3_year 157 = .ok (.i2l, 1) := dk_133 (dk_at dksX3_year_6 15 rfl rfl)
theorem dX3_year_158 : decode cX3_year 158 = .ok (.invokevirtual 284, 3) := dk_182 1 28 (dk_at dksX3_year_6 16 rfl rfl)
theorem dX3_year_161 : decode cX3_year 161 = .ok (.iload_n 2, 1) := dk_28 (dk_at dksX3_year_6 19 rfl rfl)
theorem dX3_year_162 : decode cX3_year 162 = .ok (.ireturn, 1) := dk_172 (dk_at dksX3_year_6 20 rfl rfl)
abbrev cX3_readAct : ByteArray := prog_9_method_51_code
def yX3_readAct : MethodName := ⟨RX3, "readAct", "(I)V"⟩
def dkwX3_readAct_5 : List UInt8 := [96, 42, 16, 48, 16, 10, 182, 0, 169, 79, 177]
abbrev dktX3_readAct_5 : List UInt8 := dkwX3_readAct_5 ++ []
def dkwX3_readAct_4 : List UInt8 := [167, 0, 11, 42, 16, 48, 16, 10, 182, 0, 169, 79, 28, 16, 120, 160, 0, 19, 42, 180, 0, 64, 27, 5]
abbrev dktX3_readAct_4 : List UInt8 := dkwX3_readAct_4 ++ dktX3_readAct_5
def dkwX3_readAct_3 : List UInt8 := [16, 103, 160, 0, 32, 42, 180, 0, 64, 27, 5, 96, 42, 16, 45, 182, 0, 161, 153, 0, 7, 2]
abbrev dktX3_readAct_3 : List UInt8 := dkwX3_readAct_3 ++ dktX3_readAct_4
def dkwX3_readAct_2 : List UInt8 := [42, 180, 0, 64, 27, 28, 79, 42, 180, 0, 64, 27, 4, 96, 42, 16, 48, 16, 10, 182, 0, 169, 79, 28]
abbrev dktX3_readAct_2 : List UInt8 := dkwX3_readAct_2 ++ dktX3_readAct_3
def dkwX3_readAct_1 : List UInt8 := [16, 120, 159, 0, 12, 42, 42, 180, 0, 143, 182, 0, 165, 177, 42, 89, 180, 0, 143, 4, 96, 181, 0, 143]
abbrev dktX3_readAct_1 : List UInt8 := dkwX3_readAct_1 ++ dktX3_readAct_2
def dkwX3_readAct_0 : List UInt8 := [42, 182, 0, 157, 61, 28, 16, 110, 159, 0, 30, 28, 16, 105, 159, 0, 24, 28, 16, 103, 159, 0, 18, 28]
abbrev dktX3_readAct_0 : List UInt8 := dkwX3_readAct_0 ++ dktX3_readAct_1
theorem dksX3_readAct_0 : cX3_readAct.data.toList.drop 0 = dktX3_readAct_0 := by decide +kernel
theorem dksX3_readAct_1 : cX3_readAct.data.toList.drop 24 = dktX3_readAct_1 := dk_seg dksX3_readAct_0 24 rfl rfl
theorem dksX3_readAct_2 : cX3_readAct.data.toList.drop 48 = dktX3_readAct_2 := dk_seg dksX3_readAct_1 24 rfl rfl
theorem dksX3_readAct_3 : cX3_readAct.data.toList.drop 72 = dktX3_readAct_3 := dk_seg dksX3_readAct_2 24 rfl rfl
theorem dksX3_readAct_4 : cX3_readAct.data.toList.drop 94 = dktX3_readAct_4 := dk_seg dksX3_readAct_3 22 rfl rfl
theorem dksX3_readAct_5 : cX3_readAct.data.toList.drop 118 = dktX3_readAct_5 := dk_seg dksX3_readAct_4 24 rfl rfl
theorem dX3_readAct_0 : decode cX3_readAct 0 = .ok (.aload_n 0, 1) := dk_42 (dk_at dksX3_readAct_0 0 rfl rfl)
theorem dX3_readAct_1 : decode cX3_readAct 1 = .ok (.invokevirtual 157, 3) := dk_182 0 157 (dk_at dksX3_readAct_0 1 rfl rfl)
theorem dX3_readAct_4 : decode cX3_readAct 4 = .ok (.istore_n 2, 1) := dk_61 (dk_at dksX3_readAct_0 4 rfl rfl)
theorem dX3_readAct_5 : decode cX3_readAct 5 = .ok (.iload_n 2, 1) := dk_28 (dk_at dksX3_readAct_0 5 rfl rfl)
theorem dX3_readAct_6 : decode cX3_readAct 6 = .ok (.bipush 110, 2) := dk_16 110 (dk_at dksX3_readAct_0 6 rfl rfl)
theorem dX3_readAct_8 : decode cX3_readAct 8 = .ok (.if_icmp .eq 30, 3) := dk_159 0 30 (dk_at dksX3_readAct_0 8 rfl rfl)
theorem dX3_readAct_11 : decode cX3_readAct 11 = .ok (.iload_n 2, 1) := dk_28 (dk_at dksX3_readAct_0 11 rfl rfl)
theorem dX3_readAct_12 : decode cX3_readAct 12 = .ok (.bipush 105, 2) := dk_16 105 (dk_at dksX3_readAct_0 12 rfl rfl)
theorem dX3_readAct_14 : decode cX3_readAct 14 = .ok (.if_icmp .eq 24, 3) := dk_159 0 24 (dk_at dksX3_readAct_0 14 rfl rfl)
theorem dX3_readAct_17 : decode cX3_readAct 17 = .ok (.iload_n 2, 1) := dk_28 (dk_at dksX3_readAct_0 17 rfl rfl)
theorem dX3_readAct_18 : decode cX3_readAct 18 = .ok (.bipush 103, 2) := dk_16 103 (dk_at dksX3_readAct_0 18 rfl rfl)
theorem dX3_readAct_20 : decode cX3_readAct 20 = .ok (.if_icmp .eq 18, 3) := dk_159 0 18 (dk_at dksX3_readAct_0 20 rfl rfl)
theorem dX3_readAct_23 : decode cX3_readAct 23 = .ok (.iload_n 2, 1) := dk_28 (dk_at dksX3_readAct_0 23 rfl rfl)
theorem dX3_readAct_24 : decode cX3_readAct 24 = .ok (.bipush 120, 2) := dk_16 120 (dk_at dksX3_readAct_1 0 rfl rfl)
theorem dX3_readAct_26 : decode cX3_readAct 26 = .ok (.if_icmp .eq 12, 3) := dk_159 0 12 (dk_at dksX3_readAct_1 2 rfl rfl)
theorem dX3_readAct_29 : decode cX3_readAct 29 = .ok (.aload_n 0, 1) := dk_42 (dk_at dksX3_readAct_1 5 rfl rfl)
theorem dX3_readAct_30 : decode cX3_readAct 30 = .ok (.aload_n 0, 1) := dk_42 (dk_at dksX3_readAct_1 6 rfl rfl)
theorem dX3_readAct_31 : decode cX3_readAct 31 = .ok (.getfield 143, 3) := dk_180 0 143 (dk_at dksX3_readAct_1 7 rfl rfl)
theorem dX3_readAct_34 : decode cX3_readAct 34 = .ok (.invokevirtual 165, 3) := dk_182 0 165 (dk_at dksX3_readAct_1 10 rfl rfl)
theorem dX3_readAct_37 : decode cX3_readAct 37 = .ok (.return_, 1) := dk_177 (dk_at dksX3_readAct_1 13 rfl rfl)
theorem dX3_readAct_38 : decode cX3_readAct 38 = .ok (.aload_n 0, 1) := dk_42 (dk_at dksX3_readAct_1 14 rfl rfl)
theorem dX3_readAct_39 : decode cX3_readAct 39 = .ok (.dup, 1) := dk_89 (dk_at dksX3_readAct_1 15 rfl rfl)
theorem dX3_readAct_40 : decode cX3_readAct 40 = .ok (.getfield 143, 3) := dk_180 0 143 (dk_at dksX3_readAct_1 16 rfl rfl)
theorem dX3_readAct_43 : decode cX3_readAct 43 = .ok (.iconst 1, 1) := dk_4 (dk_at dksX3_readAct_1 19 rfl rfl)
theorem dX3_readAct_44 : decode cX3_readAct 44 = .ok (.iadd, 1) := dk_96 (dk_at dksX3_readAct_1 20 rfl rfl)
theorem dX3_readAct_45 : decode cX3_readAct 45 = .ok (.putfield 143, 3) := dk_181 0 143 (dk_at dksX3_readAct_1 21 rfl rfl)
theorem dX3_readAct_48 : decode cX3_readAct 48 = .ok (.aload_n 0, 1) := dk_42 (dk_at dksX3_readAct_2 0 rfl rfl)
theorem dX3_readAct_49 : decode cX3_readAct 49 = .ok (.getfield 64, 3) := dk_180 0 64 (dk_at dksX3_readAct_2 1 rfl rfl)
theorem dX3_readAct_52 : decode cX3_readAct 52 = .ok (.iload_n 1, 1) := dk_27 (dk_at dksX3_readAct_2 4 rfl rfl)
theorem dX3_readAct_53 : decode cX3_readAct 53 = .ok (.iload_n 2, 1) := dk_28 (dk_at dksX3_readAct_2 5 rfl rfl)
theorem dX3_readAct_54 : decode cX3_readAct 54 = .ok (.iastore, 1) := dk_79 (dk_at dksX3_readAct_2 6 rfl rfl)
theorem dX3_readAct_55 : decode cX3_readAct 55 = .ok (.aload_n 0, 1) := dk_42 (dk_at dksX3_readAct_2 7 rfl rfl)
theorem dX3_readAct_56 : decode cX3_readAct 56 = .ok (.getfield 64, 3) := dk_180 0 64 (dk_at dksX3_readAct_2 8 rfl rfl)
theorem dX3_readAct_59 : decode cX3_readAct 59 = .ok (.iload_n 1, 1) := dk_27 (dk_at dksX3_readAct_2 11 rfl rfl)
theorem dX3_readAct_60 : decode cX3_readAct 60 = .ok (.iconst 1, 1) := dk_4 (dk_at dksX3_readAct_2 12 rfl rfl)
theorem dX3_readAct_61 : decode cX3_readAct 61 = .ok (.iadd, 1) := dk_96 (dk_at dksX3_readAct_2 13 rfl rfl)
theorem dX3_readAct_62 : decode cX3_readAct 62 = .ok (.aload_n 0, 1) := dk_42 (dk_at dksX3_readAct_2 14 rfl rfl)
theorem dX3_readAct_63 : decode cX3_readAct 63 = .ok (.bipush 48, 2) := dk_16 48 (dk_at dksX3_readAct_2 15 rfl rfl)
theorem dX3_readAct_65 : decode cX3_readAct 65 = .ok (.bipush 10, 2) := dk_16 10 (dk_at dksX3_readAct_2 17 rfl rfl)
theorem dX3_readAct_67 : decode cX3_readAct 67 = .ok (.invokevirtual 169, 3) := dk_182 0 169 (dk_at dksX3_readAct_2 19 rfl rfl)
theorem dX3_readAct_70 : decode cX3_readAct 70 = .ok (.iastore, 1) := dk_79 (dk_at dksX3_readAct_2 22 rfl rfl)
theorem dX3_readAct_71 : decode cX3_readAct 71 = .ok (.iload_n 2, 1) := dk_28 (dk_at dksX3_readAct_2 23 rfl rfl)
theorem dX3_readAct_72 : decode cX3_readAct 72 = .ok (.bipush 103, 2) := dk_16 103 (dk_at dksX3_readAct_3 0 rfl rfl)
theorem dX3_readAct_74 : decode cX3_readAct 74 = .ok (.if_icmp .ne 32, 3) := dk_160 0 32 (dk_at dksX3_readAct_3 2 rfl rfl)
theorem dX3_readAct_77 : decode cX3_readAct 77 = .ok (.aload_n 0, 1) := dk_42 (dk_at dksX3_readAct_3 5 rfl rfl)
theorem dX3_readAct_78 : decode cX3_readAct 78 = .ok (.getfield 64, 3) := dk_180 0 64 (dk_at dksX3_readAct_3 6 rfl rfl)
theorem dX3_readAct_81 : decode cX3_readAct 81 = .ok (.iload_n 1, 1) := dk_27 (dk_at dksX3_readAct_3 9 rfl rfl)
theorem dX3_readAct_82 : decode cX3_readAct 82 = .ok (.iconst 2, 1) := dk_5 (dk_at dksX3_readAct_3 10 rfl rfl)
theorem dX3_readAct_83 : decode cX3_readAct 83 = .ok (.iadd, 1) := dk_96 (dk_at dksX3_readAct_3 11 rfl rfl)
theorem dX3_readAct_84 : decode cX3_readAct 84 = .ok (.aload_n 0, 1) := dk_42 (dk_at dksX3_readAct_3 12 rfl rfl)
theorem dX3_readAct_85 : decode cX3_readAct 85 = .ok (.bipush 45, 2) := dk_16 45 (dk_at dksX3_readAct_3 13 rfl rfl)
theorem dX3_readAct_87 : decode cX3_readAct 87 = .ok (.invokevirtual 161, 3) := dk_182 0 161 (dk_at dksX3_readAct_3 15 rfl rfl)
theorem dX3_readAct_90 : decode cX3_readAct 90 = .ok (.ifCond .eq 7, 3) := dk_153 0 7 (dk_at dksX3_readAct_3 18 rfl rfl)
theorem dX3_readAct_93 : decode cX3_readAct 93 = .ok (.iconst (-1), 1) := dk_2 (dk_at dksX3_readAct_3 21 rfl rfl)
theorem dX3_readAct_94 : decode cX3_readAct 94 = .ok (.goto 11, 3) := dk_167 0 11 (dk_at dksX3_readAct_4 0 rfl rfl)
theorem dX3_readAct_97 : decode cX3_readAct 97 = .ok (.aload_n 0, 1) := dk_42 (dk_at dksX3_readAct_4 3 rfl rfl)
theorem dX3_readAct_98 : decode cX3_readAct 98 = .ok (.bipush 48, 2) := dk_16 48 (dk_at dksX3_readAct_4 4 rfl rfl)
theorem dX3_readAct_100 : decode cX3_readAct 100 = .ok (.bipush 10, 2) := dk_16 10 (dk_at dksX3_readAct_4 6 rfl rfl)
theorem dX3_readAct_102 : decode cX3_readAct 102 = .ok (.invokevirtual 169, 3) := dk_182 0 169 (dk_at dksX3_readAct_4 8 rfl rfl)
theorem dX3_readAct_105 : decode cX3_readAct 105 = .ok (.iastore, 1) := dk_79 (dk_at dksX3_readAct_4 11 rfl rfl)
theorem dX3_readAct_106 : decode cX3_readAct 106 = .ok (.iload_n 2, 1) := dk_28 (dk_at dksX3_readAct_4 12 rfl rfl)
theorem dX3_readAct_107 : decode cX3_readAct 107 = .ok (.bipush 120, 2) := dk_16 120 (dk_at dksX3_readAct_4 13 rfl rfl)
theorem dX3_readAct_109 : decode cX3_readAct 109 = .ok (.if_icmp .ne 19, 3) := dk_160 0 19 (dk_at dksX3_readAct_4 15 rfl rfl)
theorem dX3_readAct_112 : decode cX3_readAct 112 = .ok (.aload_n 0, 1) := dk_42 (dk_at dksX3_readAct_4 18 rfl rfl)
theorem dX3_readAct_113 : decode cX3_readAct 113 = .ok (.getfield 64, 3) := dk_180 0 64 (dk_at dksX3_readAct_4 19 rfl rfl)
theorem dX3_readAct_116 : decode cX3_readAct 116 = .ok (.iload_n 1, 1) := dk_27 (dk_at dksX3_readAct_4 22 rfl rfl)
theorem dX3_readAct_117 : decode cX3_readAct 117 = .ok (.iconst 2, 1) := dk_5 (dk_at dksX3_readAct_4 23 rfl rfl)
theorem dX3_readAct_118 : decode cX3_readAct 118 = .ok (.iadd, 1) := dk_96 (dk_at dksX3_readAct_5 0 rfl rfl)
theorem dX3_readAct_119 : decode cX3_readAct 119 = .ok (.aload_n 0, 1) := dk_42 (dk_at dksX3_readAct_5 1 rfl rfl)
theorem dX3_readAct_120 : decode cX3_readAct 120 = .ok (.bipush 48, 2) := dk_16 48 (dk_at dksX3_readAct_5 2 rfl rfl)
theorem dX3_readAct_122 : decode cX3_readAct 122 = .ok (.bipush 10, 2) := dk_16 10 (dk_at dksX3_readAct_5 4 rfl rfl)
theorem dX3_readAct_124 : decode cX3_readAct 124 = .ok (.invokevirtual 169, 3) := dk_182 0 169 (dk_at dksX3_readAct_5 6 rfl rfl)
theorem dX3_readAct_127 : decode cX3_readAct 127 = .ok (.iastore, 1) := dk_79 (dk_at dksX3_readAct_5 9 rfl rfl)
theorem dX3_readAct_128 : decode cX3_readAct 128 = .ok (.return_, 1) := dk_177 (dk_at dksX3_readAct_5 10 rfl rfl)
abbrev cX3_act : ByteArray := prog_9_method_52_code
def yX3_act : MethodName := ⟨RX3, "act", "(III)Z"⟩
def dkwX3_act_5 : List UInt8 := [154, 0, 5, 3, 172, 42, 28, 29, 182, 1, 44, 4, 172]
abbrev dktX3_act_5 : List UInt8 := dkwX3_act_5 ++ []
def dkwX3_act_4 : List UInt8 := [182, 1, 1, 154, 0, 5, 3, 172, 42, 180, 0, 9, 28, 29, 79, 4, 172, 42, 28, 29, 182, 1, 41]
abbrev dktX3_act_4 : List UInt8 := dkwX3_act_4 ++ dktX3_act_5
def dkwX3_act_3 : List UInt8 := [180, 0, 9, 16, 16, 28, 96, 4, 42, 180, 0, 9, 16, 16, 28, 96, 46, 100, 79, 4, 172, 42, 28, 29]
abbrev dktX3_act_3 : List UInt8 := dkwX3_act_3 ++ dktX3_act_4
def dkwX3_act_2 : List UInt8 := [42, 42, 180, 0, 9, 28, 182, 1, 24, 4, 172, 42, 28, 182, 0, 127, 154, 0, 5, 3, 172, 42]
abbrev dktX3_act_2 : List UInt8 := dkwX3_act_2 ++ dktX3_act_3
def dkwX3_act_1 : List UInt8 := [171, 0, 0, 0, 0, 0, 98, 0, 0, 0, 3, 0, 0, 0, 103, 0, 0, 0, 78, 0, 0, 0, 105, 0, 0, 0, 46, 0, 0, 0, 110, 0, 0, 0, 35]
abbrev dktX3_act_1 : List UInt8 := dkwX3_act_1 ++ dktX3_act_2
def dkwX3_act_0 : List UInt8 := [27]
abbrev dktX3_act_0 : List UInt8 := dkwX3_act_0 ++ dktX3_act_1
theorem dksX3_act_0 : cX3_act.data.toList.drop 0 = dktX3_act_0 := by decide +kernel
theorem dksX3_act_1 : cX3_act.data.toList.drop 1 = dktX3_act_1 := dk_seg dksX3_act_0 1 rfl rfl
theorem dksX3_act_2 : cX3_act.data.toList.drop 36 = dktX3_act_2 := dk_seg dksX3_act_1 35 rfl rfl
theorem dksX3_act_3 : cX3_act.data.toList.drop 58 = dktX3_act_3 := dk_seg dksX3_act_2 22 rfl rfl
theorem dksX3_act_4 : cX3_act.data.toList.drop 82 = dktX3_act_4 := dk_seg dksX3_act_3 24 rfl rfl
theorem dksX3_act_5 : cX3_act.data.toList.drop 105 = dktX3_act_5 := dk_seg dksX3_act_4 23 rfl rfl
theorem dX3_act_0 : decode cX3_act 0 = .ok (.iload_n 1, 1) := dk_27 (dk_at dksX3_act_0 0 rfl rfl)
theorem dX3_act_1 : decode cX3_act 1 = .ok (.lookupswitch 98 #[(103, 78), (105, 46), (110, 35)], 35) := by decide +kernel
theorem dX3_act_36 : decode cX3_act 36 = .ok (.aload_n 0, 1) := dk_42 (dk_at dksX3_act_2 0 rfl rfl)
theorem dX3_act_37 : decode cX3_act 37 = .ok (.aload_n 0, 1) := dk_42 (dk_at dksX3_act_2 1 rfl rfl)
theorem dX3_act_38 : decode cX3_act 38 = .ok (.getfield 9, 3) := dk_180 0 9 (dk_at dksX3_act_2 2 rfl rfl)
theorem dX3_act_41 : decode cX3_act 41 = .ok (.iload_n 2, 1) := dk_28 (dk_at dksX3_act_2 5 rfl rfl)
theorem dX3_act_42 : decode cX3_act 42 = .ok (.invokevirtual 280, 3) := dk_182 1 24 (dk_at dksX3_act_2 6 rfl rfl)
theorem dX3_act_45 : decode cX3_act 45 = .ok (.iconst 1, 1) := dk_4 (dk_at dksX3_act_2 9 rfl rfl)
theorem dX3_act_46 : decode cX3_act 46 = .ok (.ireturn, 1) := dk_172 (dk_at dksX3_act_2 10 rfl rfl)
theorem dX3_act_47 : decode cX3_act 47 = .ok (.aload_n 0, 1) := dk_42 (dk_at dksX3_act_2 11 rfl rfl)
theorem dX3_act_48 : decode cX3_act 48 = .ok (.iload_n 2, 1) := dk_28 (dk_at dksX3_act_2 12 rfl rfl)
theorem dX3_act_49 : decode cX3_act 49 = .ok (.invokevirtual 127, 3) := dk_182 0 127 (dk_at dksX3_act_2 13 rfl rfl)
theorem dX3_act_52 : decode cX3_act 52 = .ok (.ifCond .ne 5, 3) := dk_154 0 5 (dk_at dksX3_act_2 16 rfl rfl)
theorem dX3_act_55 : decode cX3_act 55 = .ok (.iconst 0, 1) := dk_3 (dk_at dksX3_act_2 19 rfl rfl)
theorem dX3_act_56 : decode cX3_act 56 = .ok (.ireturn, 1) := dk_172 (dk_at dksX3_act_2 20 rfl rfl)
theorem dX3_act_57 : decode cX3_act 57 = .ok (.aload_n 0, 1) := dk_42 (dk_at dksX3_act_2 21 rfl rfl)
theorem dX3_act_58 : decode cX3_act 58 = .ok (.getfield 9, 3) := dk_180 0 9 (dk_at dksX3_act_3 0 rfl rfl)
theorem dX3_act_61 : decode cX3_act 61 = .ok (.bipush 16, 2) := dk_16 16 (dk_at dksX3_act_3 3 rfl rfl)
theorem dX3_act_63 : decode cX3_act 63 = .ok (.iload_n 2, 1) := dk_28 (dk_at dksX3_act_3 5 rfl rfl)
theorem dX3_act_64 : decode cX3_act 64 = .ok (.iadd, 1) := dk_96 (dk_at dksX3_act_3 6 rfl rfl)
theorem dX3_act_65 : decode cX3_act 65 = .ok (.iconst 1, 1) := dk_4 (dk_at dksX3_act_3 7 rfl rfl)
theorem dX3_act_66 : decode cX3_act 66 = .ok (.aload_n 0, 1) := dk_42 (dk_at dksX3_act_3 8 rfl rfl)
theorem dX3_act_67 : decode cX3_act 67 = .ok (.getfield 9, 3) := dk_180 0 9 (dk_at dksX3_act_3 9 rfl rfl)
theorem dX3_act_70 : decode cX3_act 70 = .ok (.bipush 16, 2) := dk_16 16 (dk_at dksX3_act_3 12 rfl rfl)
theorem dX3_act_72 : decode cX3_act 72 = .ok (.iload_n 2, 1) := dk_28 (dk_at dksX3_act_3 14 rfl rfl)
theorem dX3_act_73 : decode cX3_act 73 = .ok (.iadd, 1) := dk_96 (dk_at dksX3_act_3 15 rfl rfl)
theorem dX3_act_74 : decode cX3_act 74 = .ok (.iaload, 1) := dk_46 (dk_at dksX3_act_3 16 rfl rfl)
theorem dX3_act_75 : decode cX3_act 75 = .ok (.isub, 1) := dk_100 (dk_at dksX3_act_3 17 rfl rfl)
theorem dX3_act_76 : decode cX3_act 76 = .ok (.iastore, 1) := dk_79 (dk_at dksX3_act_3 18 rfl rfl)
theorem dX3_act_77 : decode cX3_act 77 = .ok (.iconst 1, 1) := dk_4 (dk_at dksX3_act_3 19 rfl rfl)
theorem dX3_act_78 : decode cX3_act 78 = .ok (.ireturn, 1) := dk_172 (dk_at dksX3_act_3 20 rfl rfl)
theorem dX3_act_79 : decode cX3_act 79 = .ok (.aload_n 0, 1) := dk_42 (dk_at dksX3_act_3 21 rfl rfl)
theorem dX3_act_80 : decode cX3_act 80 = .ok (.iload_n 2, 1) := dk_28 (dk_at dksX3_act_3 22 rfl rfl)
theorem dX3_act_81 : decode cX3_act 81 = .ok (.iload_n 3, 1) := dk_29 (dk_at dksX3_act_3 23 rfl rfl)
theorem dX3_act_82 : decode cX3_act 82 = .ok (.invokevirtual 257, 3) := dk_182 1 1 (dk_at dksX3_act_4 0 rfl rfl)
theorem dX3_act_85 : decode cX3_act 85 = .ok (.ifCond .ne 5, 3) := dk_154 0 5 (dk_at dksX3_act_4 3 rfl rfl)
theorem dX3_act_88 : decode cX3_act 88 = .ok (.iconst 0, 1) := dk_3 (dk_at dksX3_act_4 6 rfl rfl)
theorem dX3_act_89 : decode cX3_act 89 = .ok (.ireturn, 1) := dk_172 (dk_at dksX3_act_4 7 rfl rfl)
theorem dX3_act_90 : decode cX3_act 90 = .ok (.aload_n 0, 1) := dk_42 (dk_at dksX3_act_4 8 rfl rfl)
theorem dX3_act_91 : decode cX3_act 91 = .ok (.getfield 9, 3) := dk_180 0 9 (dk_at dksX3_act_4 9 rfl rfl)
theorem dX3_act_94 : decode cX3_act 94 = .ok (.iload_n 2, 1) := dk_28 (dk_at dksX3_act_4 12 rfl rfl)
theorem dX3_act_95 : decode cX3_act 95 = .ok (.iload_n 3, 1) := dk_29 (dk_at dksX3_act_4 13 rfl rfl)
theorem dX3_act_96 : decode cX3_act 96 = .ok (.iastore, 1) := dk_79 (dk_at dksX3_act_4 14 rfl rfl)
theorem dX3_act_97 : decode cX3_act 97 = .ok (.iconst 1, 1) := dk_4 (dk_at dksX3_act_4 15 rfl rfl)
theorem dX3_act_98 : decode cX3_act 98 = .ok (.ireturn, 1) := dk_172 (dk_at dksX3_act_4 16 rfl rfl)
theorem dX3_act_99 : decode cX3_act 99 = .ok (.aload_n 0, 1) := dk_42 (dk_at dksX3_act_4 17 rfl rfl)
theorem dX3_act_100 : decode cX3_act 100 = .ok (.iload_n 2, 1) := dk_28 (dk_at dksX3_act_4 18 rfl rfl)
theorem dX3_act_101 : decode cX3_act 101 = .ok (.iload_n 3, 1) := dk_29 (dk_at dksX3_act_4 19 rfl rfl)
theorem dX3_act_102 : decode cX3_act 102 = .ok (.invokevirtual 297, 3) := dk_182 1 41 (dk_at dksX3_act_4 20 rfl rfl)
theorem dX3_act_105 : decode cX3_act 105 = .ok (.ifCond .ne 5, 3) := dk_154 0 5 (dk_at dksX3_act_5 0 rfl rfl)
theorem dX3_act_108 : decode cX3_act 108 = .ok (.iconst 0, 1) := dk_3 (dk_at dksX3_act_5 3 rfl rfl)
theorem dX3_act_109 : decode cX3_act 109 = .ok (.ireturn, 1) := dk_172 (dk_at dksX3_act_5 4 rfl rfl)
theorem dX3_act_110 : decode cX3_act 110 = .ok (.aload_n 0, 1) := dk_42 (dk_at dksX3_act_5 5 rfl rfl)
theorem dX3_act_111 : decode cX3_act 111 = .ok (.iload_n 2, 1) := dk_28 (dk_at dksX3_act_5 6 rfl rfl)
theorem dX3_act_112 : decode cX3_act 112 = .ok (.iload_n 3, 1) := dk_29 (dk_at dksX3_act_5 7 rfl rfl)
theorem dX3_act_113 : decode cX3_act 113 = .ok (.invokevirtual 300, 3) := dk_182 1 44 (dk_at dksX3_act_5 8 rfl rfl)
theorem dX3_act_116 : decode cX3_act 116 = .ok (.iconst 1, 1) := dk_4 (dk_at dksX3_act_5 11 rfl rfl)
theorem dX3_act_117 : decode cX3_act 117 = .ok (.ireturn, 1) := dk_172 (dk_at dksX3_act_5 12 rfl rfl)
abbrev cX3_areTwo : ByteArray := prog_9_method_9_code
def yX3_areTwo : MethodName := ⟨RX3, "areTwo", "(II)Z"⟩
def dkwX3_areTwo_1 : List UInt8 := [167, 0, 4, 3, 172]
abbrev dktX3_areTwo_1 : List UInt8 := dkwX3_areTwo_1 ++ []
def dkwX3_areTwo_0 : List UInt8 := [42, 27, 182, 0, 127, 153, 0, 20, 42, 28, 182, 0, 127, 153, 0, 12, 27, 28, 159, 0, 7, 4]
abbrev dktX3_areTwo_0 : List UInt8 := dkwX3_areTwo_0 ++ dktX3_areTwo_1
theorem dksX3_areTwo_0 : cX3_areTwo.data.toList.drop 0 = dktX3_areTwo_0 := by decide +kernel
theorem dksX3_areTwo_1 : cX3_areTwo.data.toList.drop 22 = dktX3_areTwo_1 := dk_seg dksX3_areTwo_0 22 rfl rfl
theorem dX3_areTwo_0 : decode cX3_areTwo 0 = .ok (.aload_n 0, 1) := dk_42 (dk_at dksX3_areTwo_0 0 rfl rfl)
theorem dX3_areTwo_1 : decode cX3_areTwo 1 = .ok (.iload_n 1, 1) := dk_27 (dk_at dksX3_areTwo_0 1 rfl rfl)
theorem dX3_areTwo_2 : decode cX3_areTwo 2 = .ok (.invokevirtual 127, 3) := dk_182 0 127 (dk_at dksX3_areTwo_0 2 rfl rfl)
theorem dX3_areTwo_5 : decode cX3_areTwo 5 = .ok (.ifCond .eq 20, 3) := dk_153 0 20 (dk_at dksX3_areTwo_0 5 rfl rfl)
theorem dX3_areTwo_8 : decode cX3_areTwo 8 = .ok (.aload_n 0, 1) := dk_42 (dk_at dksX3_areTwo_0 8 rfl rfl)
theorem dX3_areTwo_9 : decode cX3_areTwo 9 = .ok (.iload_n 2, 1) := dk_28 (dk_at dksX3_areTwo_0 9 rfl rfl)
theorem dX3_areTwo_10 : decode cX3_areTwo 10 = .ok (.invokevirtual 127, 3) := dk_182 0 127 (dk_at dksX3_areTwo_0 10 rfl rfl)
theorem dX3_areTwo_13 : decode cX3_areTwo 13 = .ok (.ifCond .eq 12, 3) := dk_153 0 12 (dk_at dksX3_areTwo_0 13 rfl rfl)
theorem dX3_areTwo_16 : decode cX3_areTwo 16 = .ok (.iload_n 1, 1) := dk_27 (dk_at dksX3_areTwo_0 16 rfl rfl)
theorem dX3_areTwo_17 : decode cX3_areTwo 17 = .ok (.iload_n 2, 1) := dk_28 (dk_at dksX3_areTwo_0 17 rfl rfl)
theorem dX3_areTwo_18 : decode cX3_areTwo 18 = .ok (.if_icmp .eq 7, 3) := dk_159 0 7 (dk_at dksX3_areTwo_0 18 rfl rfl)
theorem dX3_areTwo_21 : decode cX3_areTwo 21 = .ok (.iconst 1, 1) := dk_4 (dk_at dksX3_areTwo_0 21 rfl rfl)
theorem dX3_areTwo_22 : decode cX3_areTwo 22 = .ok (.goto 4, 3) := dk_167 0 4 (dk_at dksX3_areTwo_1 0 rfl rfl)
theorem dX3_areTwo_25 : decode cX3_areTwo 25 = .ok (.iconst 0, 1) := dk_3 (dk_at dksX3_areTwo_1 3 rfl rfl)
theorem dX3_areTwo_26 : decode cX3_areTwo 26 = .ok (.ireturn, 1) := dk_172 (dk_at dksX3_areTwo_1 4 rfl rfl)
abbrev cX3_goExchange : ByteArray := prog_9_method_49_code
def yX3_goExchange : MethodName := ⟨RX3, "goExchange", "(II)V"⟩
def dkwX3_goExchange_2 : List UInt8 := [132, 3, 1, 167, 255, 207, 177]
abbrev dktX3_goExchange_2 : List UInt8 := dkwX3_goExchange_2 ++ []
def dkwX3_goExchange_1 : List UInt8 := [167, 0, 23, 42, 180, 0, 9, 29, 46, 28, 160, 0, 7, 27, 167, 0, 9, 42, 180, 0, 9, 29, 46, 79]
abbrev dktX3_goExchange_1 : List UInt8 := dkwX3_goExchange_1 ++ dktX3_goExchange_2
def dkwX3_goExchange_0 : List UInt8 := [3, 62, 29, 16, 8, 162, 0, 49, 42, 180, 0, 9, 29, 42, 180, 0, 9, 29, 46, 27, 160, 0, 7, 28]
abbrev dktX3_goExchange_0 : List UInt8 := dkwX3_goExchange_0 ++ dktX3_goExchange_1
theorem dksX3_goExchange_0 : cX3_goExchange.data.toList.drop 0 = dktX3_goExchange_0 := by decide +kernel
theorem dksX3_goExchange_1 : cX3_goExchange.data.toList.drop 24 = dktX3_goExchange_1 := dk_seg dksX3_goExchange_0 24 rfl rfl
theorem dksX3_goExchange_2 : cX3_goExchange.data.toList.drop 48 = dktX3_goExchange_2 := dk_seg dksX3_goExchange_1 24 rfl rfl
theorem dX3_goExchange_0 : decode cX3_goExchange 0 = .ok (.iconst 0, 1) := dk_3 (dk_at dksX3_goExchange_0 0 rfl rfl)
theorem dX3_goExchange_1 : decode cX3_goExchange 1 = .ok (.istore_n 3, 1) := dk_62 (dk_at dksX3_goExchange_0 1 rfl rfl)
theorem dX3_goExchange_2 : decode cX3_goExchange 2 = .ok (.iload_n 3, 1) := dk_29 (dk_at dksX3_goExchange_0 2 rfl rfl)
theorem dX3_goExchange_3 : decode cX3_goExchange 3 = .ok (.bipush 8, 2) := dk_16 8 (dk_at dksX3_goExchange_0 3 rfl rfl)
theorem dX3_goExchange_5 : decode cX3_goExchange 5 = .ok (.if_icmp .ge 49, 3) := dk_162 0 49 (dk_at dksX3_goExchange_0 5 rfl rfl)
theorem dX3_goExchange_8 : decode cX3_goExchange 8 = .ok (.aload_n 0, 1) := dk_42 (dk_at dksX3_goExchange_0 8 rfl rfl)
theorem dX3_goExchange_9 : decode cX3_goExchange 9 = .ok (.getfield 9, 3) := dk_180 0 9 (dk_at dksX3_goExchange_0 9 rfl rfl)
theorem dX3_goExchange_12 : decode cX3_goExchange 12 = .ok (.iload_n 3, 1) := dk_29 (dk_at dksX3_goExchange_0 12 rfl rfl)
theorem dX3_goExchange_13 : decode cX3_goExchange 13 = .ok (.aload_n 0, 1) := dk_42 (dk_at dksX3_goExchange_0 13 rfl rfl)
theorem dX3_goExchange_14 : decode cX3_goExchange 14 = .ok (.getfield 9, 3) := dk_180 0 9 (dk_at dksX3_goExchange_0 14 rfl rfl)
theorem dX3_goExchange_17 : decode cX3_goExchange 17 = .ok (.iload_n 3, 1) := dk_29 (dk_at dksX3_goExchange_0 17 rfl rfl)
theorem dX3_goExchange_18 : decode cX3_goExchange 18 = .ok (.iaload, 1) := dk_46 (dk_at dksX3_goExchange_0 18 rfl rfl)
theorem dX3_goExchange_19 : decode cX3_goExchange 19 = .ok (.iload_n 1, 1) := dk_27 (dk_at dksX3_goExchange_0 19 rfl rfl)
theorem dX3_goExchange_20 : decode cX3_goExchange 20 = .ok (.if_icmp .ne 7, 3) := dk_160 0 7 (dk_at dksX3_goExchange_0 20 rfl rfl)
theorem dX3_goExchange_23 : decode cX3_goExchange 23 = .ok (.iload_n 2, 1) := dk_28 (dk_at dksX3_goExchange_0 23 rfl rfl)
theorem dX3_goExchange_24 : decode cX3_goExchange 24 = .ok (.goto 23, 3) := dk_167 0 23 (dk_at dksX3_goExchange_1 0 rfl rfl)
theorem dX3_goExchange_27 : decode cX3_goExchange 27 = .ok (.aload_n 0, 1) := dk_42 (dk_at dksX3_goExchange_1 3 rfl rfl)
theorem dX3_goExchange_28 : decode cX3_goExchange 28 = .ok (.getfield 9, 3) := dk_180 0 9 (dk_at dksX3_goExchange_1 4 rfl rfl)
theorem dX3_goExchange_31 : decode cX3_goExchange 31 = .ok (.iload_n 3, 1) := dk_29 (dk_at dksX3_goExchange_1 7 rfl rfl)
theorem dX3_goExchange_32 : decode cX3_goExchange 32 = .ok (.iaload, 1) := dk_46 (dk_at dksX3_goExchange_1 8 rfl rfl)
theorem dX3_goExchange_33 : decode cX3_goExchange 33 = .ok (.iload_n 2, 1) := dk_28 (dk_at dksX3_goExchange_1 9 rfl rfl)
theorem dX3_goExchange_34 : decode cX3_goExchange 34 = .ok (.if_icmp .ne 7, 3) := dk_160 0 7 (dk_at dksX3_goExchange_1 10 rfl rfl)
theorem dX3_goExchange_37 : decode cX3_goExchange 37 = .ok (.iload_n 1, 1) := dk_27 (dk_at dksX3_goExchange_1 13 rfl rfl)
theorem dX3_goExchange_38 : decode cX3_goExchange 38 = .ok (.goto 9, 3) := dk_167 0 9 (dk_at dksX3_goExchange_1 14 rfl rfl)
theorem dX3_goExchange_41 : decode cX3_goExchange 41 = .ok (.aload_n 0, 1) := dk_42 (dk_at dksX3_goExchange_1 17 rfl rfl)
theorem dX3_goExchange_42 : decode cX3_goExchange 42 = .ok (.getfield 9, 3) := dk_180 0 9 (dk_at dksX3_goExchange_1 18 rfl rfl)
theorem dX3_goExchange_45 : decode cX3_goExchange 45 = .ok (.iload_n 3, 1) := dk_29 (dk_at dksX3_goExchange_1 21 rfl rfl)
theorem dX3_goExchange_46 : decode cX3_goExchange 46 = .ok (.iaload, 1) := dk_46 (dk_at dksX3_goExchange_1 22 rfl rfl)
theorem dX3_goExchange_47 : decode cX3_goExchange 47 = .ok (.iastore, 1) := dk_79 (dk_at dksX3_goExchange_1 23 rfl rfl)
theorem dX3_goExchange_48 : decode cX3_goExchange 48 = .ok (.iinc 3 1, 3) := dk_132 3 1 (dk_at dksX3_goExchange_2 0 rfl rfl)
theorem dX3_goExchange_51 : decode cX3_goExchange 51 = .ok (.goto (-49), 3) := dk_167 255 207 (dk_at dksX3_goExchange_2 3 rfl rfl)
theorem dX3_goExchange_54 : decode cX3_goExchange 54 = .ok (.return_, 1) := dk_177 (dk_at dksX3_goExchange_2 6 rfl rfl)
abbrev cX3_undo : ByteArray := prog_9_method_53_code
def yX3_undo : MethodName := ⟨RX3, "undo", "()I"⟩
def dkwX3_undo_2 : List UInt8 := [27, 96, 46, 79, 132, 1, 1, 167, 255, 227, 42, 180, 0, 182, 172]
abbrev dktX3_undo_2 : List UInt8 := dkwX3_undo_2 ++ []
def dkwX3_undo_1 : List UInt8 := [3, 60, 27, 16, 27, 162, 0, 29, 42, 180, 0, 9, 27, 42, 180, 0, 49, 16, 27, 42, 180, 0, 182, 104]
abbrev dktX3_undo_1 : List UInt8 := dkwX3_undo_1 ++ dktX3_undo_2
def dkwX3_undo_0 : List UInt8 := [42, 3, 181, 0, 114, 42, 180, 0, 182, 154, 0, 5, 2, 172, 42, 89, 180, 0, 182, 4, 100, 181, 0, 182]
abbrev dktX3_undo_0 : List UInt8 := dkwX3_undo_0 ++ dktX3_undo_1
theorem dksX3_undo_0 : cX3_undo.data.toList.drop 0 = dktX3_undo_0 := by decide +kernel
theorem dksX3_undo_1 : cX3_undo.data.toList.drop 24 = dktX3_undo_1 := dk_seg dksX3_undo_0 24 rfl rfl
theorem dksX3_undo_2 : cX3_undo.data.toList.drop 48 = dktX3_undo_2 := dk_seg dksX3_undo_1 24 rfl rfl
theorem dX3_undo_0 : decode cX3_undo 0 = .ok (.aload_n 0, 1) := dk_42 (dk_at dksX3_undo_0 0 rfl rfl)
theorem dX3_undo_1 : decode cX3_undo 1 = .ok (.iconst 0, 1) := dk_3 (dk_at dksX3_undo_0 1 rfl rfl)
theorem dX3_undo_2 : decode cX3_undo 2 = .ok (.putfield 114, 3) := dk_181 0 114 (dk_at dksX3_undo_0 2 rfl rfl)
theorem dX3_undo_5 : decode cX3_undo 5 = .ok (.aload_n 0, 1) := dk_42 (dk_at dksX3_undo_0 5 rfl rfl)
theorem dX3_undo_6 : decode cX3_undo 6 = .ok (.getfield 182, 3) := dk_180 0 182 (dk_at dksX3_undo_0 6 rfl rfl)
theorem dX3_undo_9 : decode cX3_undo 9 = .ok (.ifCond .ne 5, 3) := dk_154 0 5 (dk_at dksX3_undo_0 9 rfl rfl)
theorem dX3_undo_12 : decode cX3_undo 12 = .ok (.iconst (-1), 1) := dk_2 (dk_at dksX3_undo_0 12 rfl rfl)
theorem dX3_undo_13 : decode cX3_undo 13 = .ok (.ireturn, 1) := dk_172 (dk_at dksX3_undo_0 13 rfl rfl)
theorem dX3_undo_14 : decode cX3_undo 14 = .ok (.aload_n 0, 1) := dk_42 (dk_at dksX3_undo_0 14 rfl rfl)
theorem dX3_undo_15 : decode cX3_undo 15 = .ok (.dup, 1) := dk_89 (dk_at dksX3_undo_0 15 rfl rfl)
theorem dX3_undo_16 : decode cX3_undo 16 = .ok (.getfield 182, 3) := dk_180 0 182 (dk_at dksX3_undo_0 16 rfl rfl)
theorem dX3_undo_19 : decode cX3_undo 19 = .ok (.iconst 1, 1) := dk_4 (dk_at dksX3_undo_0 19 rfl rfl)
theorem dX3_undo_20 : decode cX3_undo 20 = .ok (.isub, 1) := dk_100 (dk_at dksX3_undo_0 20 rfl rfl)
theorem dX3_undo_21 : decode cX3_undo 21 = .ok (.putfield 182, 3) := dk_181 0 182 (dk_at dksX3_undo_0 21 rfl rfl)
theorem dX3_undo_24 : decode cX3_undo 24 = .ok (.iconst 0, 1) := dk_3 (dk_at dksX3_undo_1 0 rfl rfl)
theorem dX3_undo_25 : decode cX3_undo 25 = .ok (.istore_n 1, 1) := dk_60 (dk_at dksX3_undo_1 1 rfl rfl)
theorem dX3_undo_26 : decode cX3_undo 26 = .ok (.iload_n 1, 1) := dk_27 (dk_at dksX3_undo_1 2 rfl rfl)
theorem dX3_undo_27 : decode cX3_undo 27 = .ok (.bipush 27, 2) := dk_16 27 (dk_at dksX3_undo_1 3 rfl rfl)
theorem dX3_undo_29 : decode cX3_undo 29 = .ok (.if_icmp .ge 29, 3) := dk_162 0 29 (dk_at dksX3_undo_1 5 rfl rfl)
theorem dX3_undo_32 : decode cX3_undo 32 = .ok (.aload_n 0, 1) := dk_42 (dk_at dksX3_undo_1 8 rfl rfl)
theorem dX3_undo_33 : decode cX3_undo 33 = .ok (.getfield 9, 3) := dk_180 0 9 (dk_at dksX3_undo_1 9 rfl rfl)
theorem dX3_undo_36 : decode cX3_undo 36 = .ok (.iload_n 1, 1) := dk_27 (dk_at dksX3_undo_1 12 rfl rfl)
theorem dX3_undo_37 : decode cX3_undo 37 = .ok (.aload_n 0, 1) := dk_42 (dk_at dksX3_undo_1 13 rfl rfl)
theorem dX3_undo_38 : decode cX3_undo 38 = .ok (.getfield 49, 3) := dk_180 0 49 (dk_at dksX3_undo_1 14 rfl rfl)
theorem dX3_undo_41 : decode cX3_undo 41 = .ok (.bipush 27, 2) := dk_16 27 (dk_at dksX3_undo_1 17 rfl rfl)
theorem dX3_undo_43 : decode cX3_undo 43 = .ok (.aload_n 0, 1) := dk_42 (dk_at dksX3_undo_1 19 rfl rfl)
theorem dX3_undo_44 : decode cX3_undo 44 = .ok (.getfield 182, 3) := dk_180 0 182 (dk_at dksX3_undo_1 20 rfl rfl)
theorem dX3_undo_47 : decode cX3_undo 47 = .ok (.imul, 1) := dk_104 (dk_at dksX3_undo_1 23 rfl rfl)
theorem dX3_undo_48 : decode cX3_undo 48 = .ok (.iload_n 1, 1) := dk_27 (dk_at dksX3_undo_2 0 rfl rfl)
theorem dX3_undo_49 : decode cX3_undo 49 = .ok (.iadd, 1) := dk_96 (dk_at dksX3_undo_2 1 rfl rfl)
theorem dX3_undo_50 : decode cX3_undo 50 = .ok (.iaload, 1) := dk_46 (dk_at dksX3_undo_2 2 rfl rfl)
theorem dX3_undo_51 : decode cX3_undo 51 = .ok (.iastore, 1) := dk_79 (dk_at dksX3_undo_2 3 rfl rfl)
theorem dX3_undo_52 : decode cX3_undo 52 = .ok (.iinc 1 1, 3) := dk_132 1 1 (dk_at dksX3_undo_2 4 rfl rfl)
theorem dX3_undo_55 : decode cX3_undo 55 = .ok (.goto (-29), 3) := dk_167 255 227 (dk_at dksX3_undo_2 7 rfl rfl)
theorem dX3_undo_58 : decode cX3_undo 58 = .ok (.aload_n 0, 1) := dk_42 (dk_at dksX3_undo_2 10 rfl rfl)
theorem dX3_undo_59 : decode cX3_undo 59 = .ok (.getfield 182, 3) := dk_180 0 182 (dk_at dksX3_undo_2 11 rfl rfl)
theorem dX3_undo_62 : decode cX3_undo 62 = .ok (.ireturn, 1) := dk_172 (dk_at dksX3_undo_2 14 rfl rfl)
abbrev cX3_gaps : ByteArray := prog_9_method_54_code
def yX3_gaps : MethodName := ⟨RX3, "gaps", "()I"⟩
def dkwX3_gaps_2 : List UInt8 := [180, 1, 12, 133, 182, 1, 28, 42, 180, 1, 9, 172]
abbrev dktX3_gaps_2 : List UInt8 := dkwX3_gaps_2 ++ []
def dkwX3_gaps_1 : List UInt8 := [182, 1, 21, 42, 3, 181, 0, 117, 42, 42, 180, 1, 9, 184, 0, 221, 133, 182, 1, 28, 42, 42]
abbrev dktX3_gaps_1 : List UInt8 := dkwX3_gaps_1 ++ dktX3_gaps_2
def dkwX3_gaps_0 : List UInt8 := [42, 3, 181, 0, 114, 42, 180, 0, 9, 42, 180, 0, 55, 3, 184, 0, 249, 42, 42, 180, 0, 55]
abbrev dktX3_gaps_0 : List UInt8 := dkwX3_gaps_0 ++ dktX3_gaps_1
theorem dksX3_gaps_0 : cX3_gaps.data.toList.drop 0 = dktX3_gaps_0 := by decide +kernel
theorem dksX3_gaps_1 : cX3_gaps.data.toList.drop 22 = dktX3_gaps_1 := dk_seg dksX3_gaps_0 22 rfl rfl
theorem dksX3_gaps_2 : cX3_gaps.data.toList.drop 44 = dktX3_gaps_2 := dk_seg dksX3_gaps_1 22 rfl rfl
theorem dX3_gaps_0 : decode cX3_gaps 0 = .ok (.aload_n 0, 1) := dk_42 (dk_at dksX3_gaps_0 0 rfl rfl)
theorem dX3_gaps_1 : decode cX3_gaps 1 = .ok (.iconst 0, 1) := dk_3 (dk_at dksX3_gaps_0 1 rfl rfl)
theorem dX3_gaps_2 : decode cX3_gaps 2 = .ok (.putfield 114, 3) := dk_181 0 114 (dk_at dksX3_gaps_0 2 rfl rfl)
theorem dX3_gaps_5 : decode cX3_gaps 5 = .ok (.aload_n 0, 1) := dk_42 (dk_at dksX3_gaps_0 5 rfl rfl)
theorem dX3_gaps_6 : decode cX3_gaps 6 = .ok (.getfield 9, 3) := dk_180 0 9 (dk_at dksX3_gaps_0 6 rfl rfl)
theorem dX3_gaps_9 : decode cX3_gaps 9 = .ok (.aload_n 0, 1) := dk_42 (dk_at dksX3_gaps_0 9 rfl rfl)
theorem dX3_gaps_10 : decode cX3_gaps 10 = .ok (.getfield 55, 3) := dk_180 0 55 (dk_at dksX3_gaps_0 10 rfl rfl)
theorem dX3_gaps_13 : decode cX3_gaps 13 = .ok (.iconst 0, 1) := dk_3 (dk_at dksX3_gaps_0 13 rfl rfl)
theorem dX3_gaps_14 : decode cX3_gaps 14 = .ok (.invokestatic 249, 3) := dk_184 0 249 (dk_at dksX3_gaps_0 14 rfl rfl)
theorem dX3_gaps_17 : decode cX3_gaps 17 = .ok (.aload_n 0, 1) := dk_42 (dk_at dksX3_gaps_0 17 rfl rfl)
theorem dX3_gaps_18 : decode cX3_gaps 18 = .ok (.aload_n 0, 1) := dk_42 (dk_at dksX3_gaps_0 18 rfl rfl)
theorem dX3_gaps_19 : decode cX3_gaps 19 = .ok (.getfield 55, 3) := dk_180 0 55 (dk_at dksX3_gaps_0 19 rfl rfl)
theorem dX3_gaps_22 : decode cX3_gaps 22 = .ok (.invokevirtual 277, 3) := dk_182 1 21 (dk_at dksX3_gaps_1 0 rfl rfl)
theorem dX3_gaps_25 : decode cX3_gaps 25 = .ok (.aload_n 0, 1) := dk_42 (dk_at dksX3_gaps_1 3 rfl rfl)
theorem dX3_gaps_26 : decode cX3_gaps 26 = .ok (.iconst 0, 1) := dk_3 (dk_at dksX3_gaps_1 4 rfl rfl)
theorem dX3_gaps_27 : decode cX3_gaps 27 = .ok (.putfield 117, 3) := dk_181 0 117 (dk_at dksX3_gaps_1 5 rfl rfl)
theorem dX3_gaps_30 : decode cX3_gaps 30 = .ok (.aload_n 0, 1) := dk_42 (dk_at dksX3_gaps_1 8 rfl rfl)
theorem dX3_gaps_31 : decode cX3_gaps 31 = .ok (.aload_n 0, 1) := dk_42 (dk_at dksX3_gaps_1 9 rfl rfl)
theorem dX3_gaps_32 : decode cX3_gaps 32 = .ok (.getfield 265, 3) := dk_180 1 9 (dk_at dksX3_gaps_1 10 rfl rfl)
theorem dX3_gaps_35 : decode cX3_gaps 35 = .ok (.invokestatic 221, 3) := dk_184 0 221 (dk_at dksX3_gaps_1 13 rfl rfl)
theorem dX3_gaps_38 : decode cX3_gaps 38 = .ok (.i2l, 1) := dk_133 (dk_at dksX3_gaps_1 16 rfl rfl)
theorem dX3_gaps_39 : decode cX3_gaps 39 = .ok (.invokevirtual 284, 3) := dk_182 1 28 (dk_at dksX3_gaps_1 17 rfl rfl)
theorem dX3_gaps_42 : decode cX3_gaps 42 = .ok (.aload_n 0, 1) := dk_42 (dk_at dksX3_gaps_1 20 rfl rfl)
theorem dX3_gaps_43 : decode cX3_gaps 43 = .ok (.aload_n 0, 1) := dk_42 (dk_at dksX3_gaps_1 21 rfl rfl)
theorem dX3_gaps_44 : decode cX3_gaps 44 = .ok (.getfield 268, 3) := dk_180 1 12 (dk_at dksX3_gaps_2 0 rfl rfl)
theorem dX3_gaps_47 : decode cX3_gaps 47 = .ok (.i2l, 1) := dk_133 (dk_at dksX3_gaps_2 3 rfl rfl)
theorem dX3_gaps_48 : decode cX3_gaps 48 = .ok (.invokevirtual 284, 3) := dk_182 1 28 (dk_at dksX3_gaps_2 4 rfl rfl)
theorem dX3_gaps_51 : decode cX3_gaps 51 = .ok (.aload_n 0, 1) := dk_42 (dk_at dksX3_gaps_2 7 rfl rfl)
theorem dX3_gaps_52 : decode cX3_gaps 52 = .ok (.getfield 265, 3) := dk_180 1 9 (dk_at dksX3_gaps_2 8 rfl rfl)
theorem dX3_gaps_55 : decode cX3_gaps 55 = .ok (.ireturn, 1) := dk_172 (dk_at dksX3_gaps_2 11 rfl rfl)
abbrev cX3_first : ByteArray := prog_9_method_55_code
def yX3_first : MethodName := ⟨RX3, "first", "(I)I"⟩
def dkwX3_first_3 : List UInt8 := [182, 1, 28, 28, 172, 132, 2, 1, 167, 255, 211, 16, 254, 172]
abbrev dktX3_first_3 : List UInt8 := dkwX3_first_3 ++ []
def dkwX3_first_2 : List UInt8 := [180, 1, 9, 154, 0, 6, 167, 0, 22, 42, 3, 181, 0, 117, 42, 42, 180, 1, 9, 184, 1, 48, 133]
abbrev dktX3_first_2 : List UInt8 := dkwX3_first_2 ++ dktX3_first_3
def dkwX3_first_1 : List UInt8 := [180, 0, 55, 3, 184, 0, 249, 3, 61, 28, 27, 162, 0, 46, 42, 42, 180, 0, 55, 182, 1, 21, 42]
abbrev dktX3_first_1 : List UInt8 := dkwX3_first_1 ++ dktX3_first_2
def dkwX3_first_0 : List UInt8 := [42, 3, 181, 0, 114, 27, 4, 16, 60, 184, 0, 123, 154, 0, 5, 2, 172, 42, 180, 0, 9, 42]
abbrev dktX3_first_0 : List UInt8 := dkwX3_first_0 ++ dktX3_first_1
theorem dksX3_first_0 : cX3_first.data.toList.drop 0 = dktX3_first_0 := by decide +kernel
theorem dksX3_first_1 : cX3_first.data.toList.drop 22 = dktX3_first_1 := dk_seg dksX3_first_0 22 rfl rfl
theorem dksX3_first_2 : cX3_first.data.toList.drop 45 = dktX3_first_2 := dk_seg dksX3_first_1 23 rfl rfl
theorem dksX3_first_3 : cX3_first.data.toList.drop 68 = dktX3_first_3 := dk_seg dksX3_first_2 23 rfl rfl
theorem dX3_first_0 : decode cX3_first 0 = .ok (.aload_n 0, 1) := dk_42 (dk_at dksX3_first_0 0 rfl rfl)
theorem dX3_first_1 : decode cX3_first 1 = .ok (.iconst 0, 1) := dk_3 (dk_at dksX3_first_0 1 rfl rfl)
theorem dX3_first_2 : decode cX3_first 2 = .ok (.putfield 114, 3) := dk_181 0 114 (dk_at dksX3_first_0 2 rfl rfl)
theorem dX3_first_5 : decode cX3_first 5 = .ok (.iload_n 1, 1) := dk_27 (dk_at dksX3_first_0 5 rfl rfl)
theorem dX3_first_6 : decode cX3_first 6 = .ok (.iconst 1, 1) := dk_4 (dk_at dksX3_first_0 6 rfl rfl)
theorem dX3_first_7 : decode cX3_first 7 = .ok (.bipush 60, 2) := dk_16 60 (dk_at dksX3_first_0 7 rfl rfl)
theorem dX3_first_9 : decode cX3_first 9 = .ok (.invokestatic 123, 3) := dk_184 0 123 (dk_at dksX3_first_0 9 rfl rfl)
theorem dX3_first_12 : decode cX3_first 12 = .ok (.ifCond .ne 5, 3) := dk_154 0 5 (dk_at dksX3_first_0 12 rfl rfl)
theorem dX3_first_15 : decode cX3_first 15 = .ok (.iconst (-1), 1) := dk_2 (dk_at dksX3_first_0 15 rfl rfl)
theorem dX3_first_16 : decode cX3_first 16 = .ok (.ireturn, 1) := dk_172 (dk_at dksX3_first_0 16 rfl rfl)
theorem dX3_first_17 : decode cX3_first 17 = .ok (.aload_n 0, 1) := dk_42 (dk_at dksX3_first_0 17 rfl rfl)
theorem dX3_first_18 : decode cX3_first 18 = .ok (.getfield 9, 3) := dk_180 0 9 (dk_at dksX3_first_0 18 rfl rfl)
theorem dX3_first_21 : decode cX3_first 21 = .ok (.aload_n 0, 1) := dk_42 (dk_at dksX3_first_0 21 rfl rfl)
theorem dX3_first_22 : decode cX3_first 22 = .ok (.getfield 55, 3) := dk_180 0 55 (dk_at dksX3_first_1 0 rfl rfl)
theorem dX3_first_25 : decode cX3_first 25 = .ok (.iconst 0, 1) := dk_3 (dk_at dksX3_first_1 3 rfl rfl)
theorem dX3_first_26 : decode cX3_first 26 = .ok (.invokestatic 249, 3) := dk_184 0 249 (dk_at dksX3_first_1 4 rfl rfl)
theorem dX3_first_29 : decode cX3_first 29 = .ok (.iconst 0, 1) := dk_3 (dk_at dksX3_first_1 7 rfl rfl)
theorem dX3_first_30 : decode cX3_first 30 = .ok (.istore_n 2, 1) := dk_61 (dk_at dksX3_first_1 8 rfl rfl)
theorem dX3_first_31 : decode cX3_first 31 = .ok (.iload_n 2, 1) := dk_28 (dk_at dksX3_first_1 9 rfl rfl)
theorem dX3_first_32 : decode cX3_first 32 = .ok (.iload_n 1, 1) := dk_27 (dk_at dksX3_first_1 10 rfl rfl)
theorem dX3_first_33 : decode cX3_first 33 = .ok (.if_icmp .ge 46, 3) := dk_162 0 46 (dk_at dksX3_first_1 11 rfl rfl)
theorem dX3_first_36 : decode cX3_first 36 = .ok (.aload_n 0, 1) := dk_42 (dk_at dksX3_first_1 14 rfl rfl)
theorem dX3_first_37 : decode cX3_first 37 = .ok (.aload_n 0, 1) := dk_42 (dk_at dksX3_first_1 15 rfl rfl)
theorem dX3_first_38 : decode cX3_first 38 = .ok (.getfield 55, 3) := dk_180 0 55 (dk_at dksX3_first_1 16 rfl rfl)
theorem dX3_first_41 : decode cX3_first 41 = .ok (.invokevirtual 277, 3) := dk_182 1 21 (dk_at dksX3_first_1 19 rfl rfl)
theorem dX3_first_44 : decode cX3_first 44 = .ok (.aload_n 0, 1) := dk_42 (dk_at dksX3_first_1 22 rfl rfl)
theorem dX3_first_45 : decode cX3_first 45 = .ok (.getfield 265, 3) := dk_180 1 9 (dk_at dksX3_first_2 0 rfl rfl)
theorem dX3_first_48 : decode cX3_first 48 = .ok (.ifCond .ne 6, 3) := dk_154 0 6 (dk_at dksX3_first_2 3 rfl rfl)
theorem dX3_first_51 : decode cX3_first 51 = .ok (.goto 22, 3) := dk_167 0 22 (dk_at dksX3_first_2 6 rfl rfl)
theorem dX3_first_54 : decode cX3_first 54 = .ok (.aload_n 0, 1) := dk_42 (dk_at dksX3_first_2 9 rfl rfl)
theorem dX3_first_55 : decode cX3_first 55 = .ok (.iconst 0, 1) := dk_3 (dk_at dksX3_first_2 10 rfl rfl)
theorem dX3_first_56 : decode cX3_first 56 = .ok (.putfield 117, 3) := dk_181 0 117 (dk_at dksX3_first_2 11 rfl rfl)
theorem dX3_first_59 : decode cX3_first 59 = .ok (.aload_n 0, 1) := dk_42 (dk_at dksX3_first_2 14 rfl rfl)
theorem dX3_first_60 : decode cX3_first 60 = .ok (.aload_n 0, 1) := dk_42 (dk_at dksX3_first_2 15 rfl rfl)
theorem dX3_first_61 : decode cX3_first 61 = .ok (.getfield 265, 3) := dk_180 1 9 (dk_at dksX3_first_2 16 rfl rfl)
theorem dX3_first_64 : decode cX3_first 64 = .ok (.invokestatic 304, 3) := dk_184 1 48 (dk_at dksX3_first_2 19 rfl rfl)
theorem dX3_first_67 : decode cX3_first 67 = .ok (.i2l, 1) := dk_133 (dk_at dksX3_first_2 22 rfl rfl)
theorem dX3_first_68 : decode cX3_first 68 = .ok (.invokevirtual 284, 3) := dk_182 1 28 (dk_at dksX3_first_3 0 rfl rfl)
theorem dX3_first_71 : decode cX3_first 71 = .ok (.iload_n 2, 1) := dk_28 (dk_at dksX3_first_3 3 rfl rfl)
theorem dX3_first_72 : decode cX3_first 72 = .ok (.ireturn, 1) := dk_172 (dk_at dksX3_first_3 4 rfl rfl)
theorem dX3_first_73 : decode cX3_first 73 = .ok (.iinc 2 1, 3) := dk_132 2 1 (dk_at dksX3_first_3 5 rfl rfl)
theorem dX3_first_76 : decode cX3_first 76 = .ok (.goto (-45), 3) := dk_167 255 211 (dk_at dksX3_first_3 8 rfl rfl)
theorem dX3_first_79 : decode cX3_first 79 = .ok (.bipush (-2), 2) := dk_16 254 (dk_at dksX3_first_3 11 rfl rfl)
theorem dX3_first_81 : decode cX3_first 81 = .ok (.ireturn, 1) := dk_172 (dk_at dksX3_first_3 13 rfl rfl)
abbrev cX3_later : ByteArray := prog_9_method_56_code
def yX3_later : MethodName := ⟨RX3, "later", "(I)I"⟩
def dkwX3_later_4 : List UInt8 := [182, 1, 28, 42, 180, 0, 55, 16, 25, 46, 42, 180, 0, 9, 16, 25, 46, 100, 172]
abbrev dktX3_later_4 : List UInt8 := dkwX3_later_4 ++ []
def dkwX3_later_3 : List UInt8 := [167, 255, 231, 42, 3, 181, 0, 117, 42, 42, 42, 180, 0, 55, 182, 1, 32, 133, 182, 1, 28, 42, 28, 133]
abbrev dktX3_later_3 : List UInt8 := dkwX3_later_3 ++ dktX3_later_4
def dkwX3_later_2 : List UInt8 := [180, 0, 120, 162, 0, 23, 28, 42, 180, 0, 55, 16, 8, 29, 96, 46, 184, 0, 232, 61, 132, 3, 1]
abbrev dktX3_later_2 : List UInt8 := dkwX3_later_2 ++ dktX3_later_3
def dkwX3_later_1 : List UInt8 := [180, 0, 55, 3, 184, 0, 249, 42, 42, 180, 0, 55, 27, 182, 1, 24, 3, 61, 3, 62, 29, 42]
abbrev dktX3_later_1 : List UInt8 := dkwX3_later_1 ++ dktX3_later_2
def dkwX3_later_0 : List UInt8 := [42, 3, 181, 0, 114, 27, 3, 16, 60, 184, 0, 123, 154, 0, 5, 2, 172, 42, 180, 0, 9, 42]
abbrev dktX3_later_0 : List UInt8 := dkwX3_later_0 ++ dktX3_later_1
theorem dksX3_later_0 : cX3_later.data.toList.drop 0 = dktX3_later_0 := by decide +kernel
theorem dksX3_later_1 : cX3_later.data.toList.drop 22 = dktX3_later_1 := dk_seg dksX3_later_0 22 rfl rfl
theorem dksX3_later_2 : cX3_later.data.toList.drop 44 = dktX3_later_2 := dk_seg dksX3_later_1 22 rfl rfl
theorem dksX3_later_3 : cX3_later.data.toList.drop 67 = dktX3_later_3 := dk_seg dksX3_later_2 23 rfl rfl
theorem dksX3_later_4 : cX3_later.data.toList.drop 91 = dktX3_later_4 := dk_seg dksX3_later_3 24 rfl rfl
theorem dX3_later_0 : decode cX3_later 0 = .ok (.aload_n 0, 1) := dk_42 (dk_at dksX3_later_0 0 rfl rfl)
theorem dX3_later_1 : decode cX3_later 1 = .ok (.iconst 0, 1) := dk_3 (dk_at dksX3_later_0 1 rfl rfl)
theorem dX3_later_2 : decode cX3_later 2 = .ok (.putfield 114, 3) := dk_181 0 114 (dk_at dksX3_later_0 2 rfl rfl)
theorem dX3_later_5 : decode cX3_later 5 = .ok (.iload_n 1, 1) := dk_27 (dk_at dksX3_later_0 5 rfl rfl)
theorem dX3_later_6 : decode cX3_later 6 = .ok (.iconst 0, 1) := dk_3 (dk_at dksX3_later_0 6 rfl rfl)
theorem dX3_later_7 : decode cX3_later 7 = .ok (.bipush 60, 2) := dk_16 60 (dk_at dksX3_later_0 7 rfl rfl)
theorem dX3_later_9 : decode cX3_later 9 = .ok (.invokestatic 123, 3) := dk_184 0 123 (dk_at dksX3_later_0 9 rfl rfl)
theorem dX3_later_12 : decode cX3_later 12 = .ok (.ifCond .ne 5, 3) := dk_154 0 5 (dk_at dksX3_later_0 12 rfl rfl)
theorem dX3_later_15 : decode cX3_later 15 = .ok (.iconst (-1), 1) := dk_2 (dk_at dksX3_later_0 15 rfl rfl)
theorem dX3_later_16 : decode cX3_later 16 = .ok (.ireturn, 1) := dk_172 (dk_at dksX3_later_0 16 rfl rfl)
theorem dX3_later_17 : decode cX3_later 17 = .ok (.aload_n 0, 1) := dk_42 (dk_at dksX3_later_0 17 rfl rfl)
theorem dX3_later_18 : decode cX3_later 18 = .ok (.getfield 9, 3) := dk_180 0 9 (dk_at dksX3_later_0 18 rfl rfl)
theorem dX3_later_21 : decode cX3_later 21 = .ok (.aload_n 0, 1) := dk_42 (dk_at dksX3_later_0 21 rfl rfl)
theorem dX3_later_22 : decode cX3_later 22 = .ok (.getfield 55, 3) := dk_180 0 55 (dk_at dksX3_later_1 0 rfl rfl)
theorem dX3_later_25 : decode cX3_later 25 = .ok (.iconst 0, 1) := dk_3 (dk_at dksX3_later_1 3 rfl rfl)
theorem dX3_later_26 : decode cX3_later 26 = .ok (.invokestatic 249, 3) := dk_184 0 249 (dk_at dksX3_later_1 4 rfl rfl)
theorem dX3_later_29 : decode cX3_later 29 = .ok (.aload_n 0, 1) := dk_42 (dk_at dksX3_later_1 7 rfl rfl)
theorem dX3_later_30 : decode cX3_later 30 = .ok (.aload_n 0, 1) := dk_42 (dk_at dksX3_later_1 8 rfl rfl)
theorem dX3_later_31 : decode cX3_later 31 = .ok (.getfield 55, 3) := dk_180 0 55 (dk_at dksX3_later_1 9 rfl rfl)
theorem dX3_later_34 : decode cX3_later 34 = .ok (.iload_n 1, 1) := dk_27 (dk_at dksX3_later_1 12 rfl rfl)
theorem dX3_later_35 : decode cX3_later 35 = .ok (.invokevirtual 280, 3) := dk_182 1 24 (dk_at dksX3_later_1 13 rfl rfl)
theorem dX3_later_38 : decode cX3_later 38 = .ok (.iconst 0, 1) := dk_3 (dk_at dksX3_later_1 16 rfl rfl)
theorem dX3_later_39 : decode cX3_later 39 = .ok (.istore_n 2, 1) := dk_61 (dk_at dksX3_later_1 17 rfl rfl)
theorem dX3_later_40 : decode cX3_later 40 = .ok (.iconst 0, 1) := dk_3 (dk_at dksX3_later_1 18 rfl rfl)
theorem dX3_later_41 : decode cX3_later 41 = .ok (.istore_n 3, 1) := dk_62 (dk_at dksX3_later_1 19 rfl rfl)
theorem dX3_later_42 : decode cX3_later 42 = .ok (.iload_n 3, 1) := dk_29 (dk_at dksX3_later_1 20 rfl rfl)
theorem dX3_later_43 : decode cX3_later 43 = .ok (.aload_n 0, 1) := dk_42 (dk_at dksX3_later_1 21 rfl rfl)
theorem dX3_later_44 : decode cX3_later 44 = .ok (.getfield 120, 3) := dk_180 0 120 (dk_at dksX3_later_2 0 rfl rfl)
theorem dX3_later_47 : decode cX3_later 47 = .ok (.if_icmp .ge 23, 3) := dk_162 0 23 (dk_at dksX3_later_2 3 rfl rfl)
theorem dX3_later_50 : decode cX3_later 50 = .ok (.iload_n 2, 1) := dk_28 (dk_at dksX3_later_2 6 rfl rfl)
theorem dX3_later_51 : decode cX3_later 51 = .ok (.aload_n 0, 1) := dk_42 (dk_at dksX3_later_2 7 rfl rfl)
theorem dX3_later_52 : decode cX3_later 52 = .ok (.getfield 55, 3) := dk_180 0 55 (dk_at dksX3_later_2 8 rfl rfl)
theorem dX3_later_55 : decode cX3_later 55 = .ok (.bipush 8, 2) := dk_16 8 (dk_at dksX3_later_2 11 rfl rfl)
theorem dX3_later_57 : decode cX3_later 57 = .ok (.iload_n 3, 1) := dk_29 (dk_at dksX3_later_2 13 rfl rfl)
theorem dX3_later_58 : decode cX3_later 58 = .ok (.iadd, 1) := dk_96 (dk_at dksX3_later_2 14 rfl rfl)
theorem dX3_later_59 : decode cX3_later 59 = .ok (.iaload, 1) := dk_46 (dk_at dksX3_later_2 15 rfl rfl)
theorem dX3_later_60 : decode cX3_later 60 = .ok (.invokestatic 232, 3) := dk_184 0 232 (dk_at dksX3_later_2 16 rfl rfl)
theorem dX3_later_63 : decode cX3_later 63 = .ok (.istore_n 2, 1) := dk_61 (dk_at dksX3_later_2 19 rfl rfl)
theorem dX3_later_64 : decode cX3_later 64 = .ok (.iinc 3 1, 3) := dk_132 3 1 (dk_at dksX3_later_2 20 rfl rfl)
theorem dX3_later_67 : decode cX3_later 67 = .ok (.goto (-25), 3) := dk_167 255 231 (dk_at dksX3_later_3 0 rfl rfl)
theorem dX3_later_70 : decode cX3_later 70 = .ok (.aload_n 0, 1) := dk_42 (dk_at dksX3_later_3 3 rfl rfl)
theorem dX3_later_71 : decode cX3_later 71 = .ok (.iconst 0, 1) := dk_3 (dk_at dksX3_later_3 4 rfl rfl)
theorem dX3_later_72 : decode cX3_later 72 = .ok (.putfield 117, 3) := dk_181 0 117 (dk_at dksX3_later_3 5 rfl rfl)
theorem dX3_later_75 : decode cX3_later 75 = .ok (.aload_n 0, 1) := dk_42 (dk_at dksX3_later_3 8 rfl rfl)
theorem dX3_later_76 : decode cX3_later 76 = .ok (.aload_n 0, 1) := dk_42 (dk_at dksX3_later_3 9 rfl rfl)
theorem dX3_later_77 : decode cX3_later 77 = .ok (.aload_n 0, 1) := dk_42 (dk_at dksX3_later_3 10 rfl rfl)
theorem dX3_later_78 : decode cX3_later 78 = .ok (.getfield 55, 3) := dk_180 0 55 (dk_at dksX3_later_3 11 rfl rfl)
theorem dX3_later_81 : decode cX3_later 81 = .ok (.invokevirtual 288, 3) := dk_182 1 32 (dk_at dksX3_later_3 14 rfl rfl)
theorem dX3_later_84 : decode cX3_later 84 = .ok (.i2l, 1) := dk_133 (dk_at dksX3_later_3 17 rfl rfl)
theorem dX3_later_85 : decode cX3_later 85 = .ok (.invokevirtual 284, 3) := dk_182 1 28 (dk_at dksX3_later_3 18 rfl rfl)
theorem dX3_later_88 : decode cX3_later 88 = .ok (.aload_n 0, 1) := dk_42 (dk_at dksX3_later_3 21 rfl rfl)
theorem dX3_later_89 : decode cX3_later 89 = .ok (.iload_n 2, 1) := dk_28 (dk_at dksX3_later_3 22 rfl rfl)
theorem dX3_later_90 : decode cX3_later 90 = .ok (.i2l, 1) := dk_133 (dk_at dksX3_later_3 23 rfl rfl)
theorem dX3_later_91 : decode cX3_later 91 = .ok (.invokevirtual 284, 3) := dk_182 1 28 (dk_at dksX3_later_4 0 rfl rfl)
theorem dX3_later_94 : decode cX3_later 94 = .ok (.aload_n 0, 1) := dk_42 (dk_at dksX3_later_4 3 rfl rfl)
theorem dX3_later_95 : decode cX3_later 95 = .ok (.getfield 55, 3) := dk_180 0 55 (dk_at dksX3_later_4 4 rfl rfl)
theorem dX3_later_98 : decode cX3_later 98 = .ok (.bipush 25, 2) := dk_16 25 (dk_at dksX3_later_4 7 rfl rfl)
theorem dX3_later_100 : decode cX3_later 100 = .ok (.iaload, 1) := dk_46 (dk_at dksX3_later_4 9 rfl rfl)
theorem dX3_later_101 : decode cX3_later 101 = .ok (.aload_n 0, 1) := dk_42 (dk_at dksX3_later_4 10 rfl rfl)
theorem dX3_later_102 : decode cX3_later 102 = .ok (.getfield 9, 3) := dk_180 0 9 (dk_at dksX3_later_4 11 rfl rfl)
theorem dX3_later_105 : decode cX3_later 105 = .ok (.bipush 25, 2) := dk_16 25 (dk_at dksX3_later_4 14 rfl rfl)
theorem dX3_later_107 : decode cX3_later 107 = .ok (.iaload, 1) := dk_46 (dk_at dksX3_later_4 16 rfl rfl)
theorem dX3_later_108 : decode cX3_later 108 = .ok (.isub, 1) := dk_100 (dk_at dksX3_later_4 17 rfl rfl)
theorem dX3_later_109 : decode cX3_later 109 = .ok (.ireturn, 1) := dk_172 (dk_at dksX3_later_4 18 rfl rfl)
abbrev cX3_vigil : ByteArray := prog_9_method_57_code
def yX3_vigil : MethodName := ⟨RX3, "vigil", "(I)I"⟩
def dkwX3_vigil_4 : List UInt8 := [167, 255, 202, 42, 3, 181, 0, 117, 42, 29, 133, 182, 1, 28, 28, 172]
abbrev dktX3_vigil_4 : List UInt8 := dkwX3_vigil_4 ++ []
def dkwX3_vigil_3 : List UInt8 := [21, 4, 28, 163, 0, 6, 167, 0, 14, 21, 4, 61, 21, 5, 21, 4, 100, 4, 96, 62, 132, 5, 1]
abbrev dktX3_vigil_3 : List UInt8 := dkwX3_vigil_3 ++ dktX3_vigil_4
def dkwX3_vigil_2 : List UInt8 := [42, 180, 0, 55, 182, 1, 21, 42, 180, 1, 9, 154, 0, 10, 21, 4, 4, 96, 167, 0, 4, 3, 54, 4]
abbrev dktX3_vigil_2 : List UInt8 := dkwX3_vigil_2 ++ dktX3_vigil_3
def dkwX3_vigil_1 : List UInt8 := [180, 0, 55, 3, 184, 0, 249, 3, 61, 2, 62, 3, 54, 4, 3, 54, 5, 21, 5, 27, 162, 0, 54, 42]
abbrev dktX3_vigil_1 : List UInt8 := dkwX3_vigil_1 ++ dktX3_vigil_2
def dkwX3_vigil_0 : List UInt8 := [42, 3, 181, 0, 114, 27, 3, 16, 60, 184, 0, 123, 154, 0, 5, 2, 172, 42, 180, 0, 9, 42]
abbrev dktX3_vigil_0 : List UInt8 := dkwX3_vigil_0 ++ dktX3_vigil_1
theorem dksX3_vigil_0 : cX3_vigil.data.toList.drop 0 = dktX3_vigil_0 := by decide +kernel
theorem dksX3_vigil_1 : cX3_vigil.data.toList.drop 22 = dktX3_vigil_1 := dk_seg dksX3_vigil_0 22 rfl rfl
theorem dksX3_vigil_2 : cX3_vigil.data.toList.drop 46 = dktX3_vigil_2 := dk_seg dksX3_vigil_1 24 rfl rfl
theorem dksX3_vigil_3 : cX3_vigil.data.toList.drop 70 = dktX3_vigil_3 := dk_seg dksX3_vigil_2 24 rfl rfl
theorem dksX3_vigil_4 : cX3_vigil.data.toList.drop 93 = dktX3_vigil_4 := dk_seg dksX3_vigil_3 23 rfl rfl
theorem dX3_vigil_0 : decode cX3_vigil 0 = .ok (.aload_n 0, 1) := dk_42 (dk_at dksX3_vigil_0 0 rfl rfl)
theorem dX3_vigil_1 : decode cX3_vigil 1 = .ok (.iconst 0, 1) := dk_3 (dk_at dksX3_vigil_0 1 rfl rfl)
theorem dX3_vigil_2 : decode cX3_vigil 2 = .ok (.putfield 114, 3) := dk_181 0 114 (dk_at dksX3_vigil_0 2 rfl rfl)
theorem dX3_vigil_5 : decode cX3_vigil 5 = .ok (.iload_n 1, 1) := dk_27 (dk_at dksX3_vigil_0 5 rfl rfl)
theorem dX3_vigil_6 : decode cX3_vigil 6 = .ok (.iconst 0, 1) := dk_3 (dk_at dksX3_vigil_0 6 rfl rfl)
theorem dX3_vigil_7 : decode cX3_vigil 7 = .ok (.bipush 60, 2) := dk_16 60 (dk_at dksX3_vigil_0 7 rfl rfl)
theorem dX3_vigil_9 : decode cX3_vigil 9 = .ok (.invokestatic 123, 3) := dk_184 0 123 (dk_at dksX3_vigil_0 9 rfl rfl)
theorem dX3_vigil_12 : decode cX3_vigil 12 = .ok (.ifCond .ne 5, 3) := dk_154 0 5 (dk_at dksX3_vigil_0 12 rfl rfl)
theorem dX3_vigil_15 : decode cX3_vigil 15 = .ok (.iconst (-1), 1) := dk_2 (dk_at dksX3_vigil_0 15 rfl rfl)
theorem dX3_vigil_16 : decode cX3_vigil 16 = .ok (.ireturn, 1) := dk_172 (dk_at dksX3_vigil_0 16 rfl rfl)
theorem dX3_vigil_17 : decode cX3_vigil 17 = .ok (.aload_n 0, 1) := dk_42 (dk_at dksX3_vigil_0 17 rfl rfl)
theorem dX3_vigil_18 : decode cX3_vigil 18 = .ok (.getfield 9, 3) := dk_180 0 9 (dk_at dksX3_vigil_0 18 rfl rfl)
theorem dX3_vigil_21 : decode cX3_vigil 21 = .ok (.aload_n 0, 1) := dk_42 (dk_at dksX3_vigil_0 21 rfl rfl)
theorem dX3_vigil_22 : decode cX3_vigil 22 = .ok (.getfield 55, 3) := dk_180 0 55 (dk_at dksX3_vigil_1 0 rfl rfl)
theorem dX3_vigil_25 : decode cX3_vigil 25 = .ok (.iconst 0, 1) := dk_3 (dk_at dksX3_vigil_1 3 rfl rfl)
theorem dX3_vigil_26 : decode cX3_vigil 26 = .ok (.invokestatic 249, 3) := dk_184 0 249 (dk_at dksX3_vigil_1 4 rfl rfl)
theorem dX3_vigil_29 : decode cX3_vigil 29 = .ok (.iconst 0, 1) := dk_3 (dk_at dksX3_vigil_1 7 rfl rfl)
theorem dX3_vigil_30 : decode cX3_vigil 30 = .ok (.istore_n 2, 1) := dk_61 (dk_at dksX3_vigil_1 8 rfl rfl)
theorem dX3_vigil_31 : decode cX3_vigil 31 = .ok (.iconst (-1), 1) := dk_2 (dk_at dksX3_vigil_1 9 rfl rfl)
theorem dX3_vigil_32 : decode cX3_vigil 32 = .ok (.istore_n 3, 1) := dk_62 (dk_at dksX3_vigil_1 10 rfl rfl)
theorem dX3_vigil_33 : decode cX3_vigil 33 = .ok (.iconst 0, 1) := dk_3 (dk_at dksX3_vigil_1 11 rfl rfl)
theorem dX3_vigil_34 : decode cX3_vigil 34 = .ok (.istore 4, 2) := dk_54 4 (dk_at dksX3_vigil_1 12 rfl rfl)
theorem dX3_vigil_36 : decode cX3_vigil 36 = .ok (.iconst 0, 1) := dk_3 (dk_at dksX3_vigil_1 14 rfl rfl)
theorem dX3_vigil_37 : decode cX3_vigil 37 = .ok (.istore 5, 2) := dk_54 5 (dk_at dksX3_vigil_1 15 rfl rfl)
theorem dX3_vigil_39 : decode cX3_vigil 39 = .ok (.iload 5, 2) := dk_21 5 (dk_at dksX3_vigil_1 17 rfl rfl)
theorem dX3_vigil_41 : decode cX3_vigil 41 = .ok (.iload_n 1, 1) := dk_27 (dk_at dksX3_vigil_1 19 rfl rfl)
theorem dX3_vigil_42 : decode cX3_vigil 42 = .ok (.if_icmp .ge 54, 3) := dk_162 0 54 (dk_at dksX3_vigil_1 20 rfl rfl)
theorem dX3_vigil_45 : decode cX3_vigil 45 = .ok (.aload_n 0, 1) := dk_42 (dk_at dksX3_vigil_1 23 rfl rfl)
theorem dX3_vigil_46 : decode cX3_vigil 46 = .ok (.aload_n 0, 1) := dk_42 (dk_at dksX3_vigil_2 0 rfl rfl)
theorem dX3_vigil_47 : decode cX3_vigil 47 = .ok (.getfield 55, 3) := dk_180 0 55 (dk_at dksX3_vigil_2 1 rfl rfl)
theorem dX3_vigil_50 : decode cX3_vigil 50 = .ok (.invokevirtual 277, 3) := dk_182 1 21 (dk_at dksX3_vigil_2 4 rfl rfl)
theorem dX3_vigil_53 : decode cX3_vigil 53 = .ok (.aload_n 0, 1) := dk_42 (dk_at dksX3_vigil_2 7 rfl rfl)
theorem dX3_vigil_54 : decode cX3_vigil 54 = .ok (.getfield 265, 3) := dk_180 1 9 (dk_at dksX3_vigil_2 8 rfl rfl)
theorem dX3_vigil_57 : decode cX3_vigil 57 = .ok (.ifCond .ne 10, 3) := dk_154 0 10 (dk_at dksX3_vigil_2 11 rfl rfl)
theorem dX3_vigil_60 : decode cX3_vigil 60 = .ok (.iload 4, 2) := dk_21 4 (dk_at dksX3_vigil_2 14 rfl rfl)
theorem dX3_vigil_62 : decode cX3_vigil 62 = .ok (.iconst 1, 1) := dk_4 (dk_at dksX3_vigil_2 16 rfl rfl)
theorem dX3_vigil_63 : decode cX3_vigil 63 = .ok (.iadd, 1) := dk_96 (dk_at dksX3_vigil_2 17 rfl rfl)
theorem dX3_vigil_64 : decode cX3_vigil 64 = .ok (.goto 4, 3) := dk_167 0 4 (dk_at dksX3_vigil_2 18 rfl rfl)
theorem dX3_vigil_67 : decode cX3_vigil 67 = .ok (.iconst 0, 1) := dk_3 (dk_at dksX3_vigil_2 21 rfl rfl)
theorem dX3_vigil_68 : decode cX3_vigil 68 = .ok (.istore 4, 2) := dk_54 4 (dk_at dksX3_vigil_2 22 rfl rfl)
theorem dX3_vigil_70 : decode cX3_vigil 70 = .ok (.iload 4, 2) := dk_21 4 (dk_at dksX3_vigil_3 0 rfl rfl)
theorem dX3_vigil_72 : decode cX3_vigil 72 = .ok (.iload_n 2, 1) := dk_28 (dk_at dksX3_vigil_3 2 rfl rfl)
theorem dX3_vigil_73 : decode cX3_vigil 73 = .ok (.if_icmp .gt 6, 3) := dk_163 0 6 (dk_at dksX3_vigil_3 3 rfl rfl)
theorem dX3_vigil_76 : decode cX3_vigil 76 = .ok (.goto 14, 3) := dk_167 0 14 (dk_at dksX3_vigil_3 6 rfl rfl)
theorem dX3_vigil_79 : decode cX3_vigil 79 = .ok (.iload 4, 2) := dk_21 4 (dk_at dksX3_vigil_3 9 rfl rfl)
theorem dX3_vigil_81 : decode cX3_vigil 81 = .ok (.istore_n 2, 1) := dk_61 (dk_at dksX3_vigil_3 11 rfl rfl)
theorem dX3_vigil_82 : decode cX3_vigil 82 = .ok (.iload 5, 2) := dk_21 5 (dk_at dksX3_vigil_3 12 rfl rfl)
theorem dX3_vigil_84 : decode cX3_vigil 84 = .ok (.iload 4, 2) := dk_21 4 (dk_at dksX3_vigil_3 14 rfl rfl)
theorem dX3_vigil_86 : decode cX3_vigil 86 = .ok (.isub, 1) := dk_100 (dk_at dksX3_vigil_3 16 rfl rfl)
theorem dX3_vigil_87 : decode cX3_vigil 87 = .ok (.iconst 1, 1) := dk_4 (dk_at dksX3_vigil_3 17 rfl rfl)
theorem dX3_vigil_88 : decode cX3_vigil 88 = .ok (.iadd, 1) := dk_96 (dk_at dksX3_vigil_3 18 rfl rfl)
theorem dX3_vigil_89 : decode cX3_vigil 89 = .ok (.istore_n 3, 1) := dk_62 (dk_at dksX3_vigil_3 19 rfl rfl)
theorem dX3_vigil_90 : decode cX3_vigil 90 = .ok (.iinc 5 1, 3) := dk_132 5 1 (dk_at dksX3_vigil_3 20 rfl rfl)
theorem dX3_vigil_93 : decode cX3_vigil 93 = .ok (.goto (-54), 3) := dk_167 255 202 (dk_at dksX3_vigil_4 0 rfl rfl)
theorem dX3_vigil_96 : decode cX3_vigil 96 = .ok (.aload_n 0, 1) := dk_42 (dk_at dksX3_vigil_4 3 rfl rfl)
theorem dX3_vigil_97 : decode cX3_vigil 97 = .ok (.iconst 0, 1) := dk_3 (dk_at dksX3_vigil_4 4 rfl rfl)
theorem dX3_vigil_98 : decode cX3_vigil 98 = .ok (.putfield 117, 3) := dk_181 0 117 (dk_at dksX3_vigil_4 5 rfl rfl)
theorem dX3_vigil_101 : decode cX3_vigil 101 = .ok (.aload_n 0, 1) := dk_42 (dk_at dksX3_vigil_4 8 rfl rfl)
theorem dX3_vigil_102 : decode cX3_vigil 102 = .ok (.iload_n 3, 1) := dk_29 (dk_at dksX3_vigil_4 9 rfl rfl)
theorem dX3_vigil_103 : decode cX3_vigil 103 = .ok (.i2l, 1) := dk_133 (dk_at dksX3_vigil_4 10 rfl rfl)
theorem dX3_vigil_104 : decode cX3_vigil 104 = .ok (.invokevirtual 284, 3) := dk_182 1 28 (dk_at dksX3_vigil_4 11 rfl rfl)
theorem dX3_vigil_107 : decode cX3_vigil 107 = .ok (.iload_n 2, 1) := dk_28 (dk_at dksX3_vigil_4 14 rfl rfl)
theorem dX3_vigil_108 : decode cX3_vigil 108 = .ok (.ireturn, 1) := dk_172 (dk_at dksX3_vigil_4 15 rfl rfl)
abbrev cX3_trade : ByteArray := prog_9_method_58_code
def yX3_trade : MethodName := ⟨RX3, "trade", "()I"⟩
def dkwX3_trade_8 : List UInt8 := [27, 172]
abbrev dktX3_trade_8 : List UInt8 := dkwX3_trade_8 ++ []
def dkwX3_trade_7 : List UInt8 := [42, 28, 133, 182, 1, 28, 42, 29, 133, 182, 1, 28, 42, 42, 180, 1, 9, 184, 0, 221, 133, 182, 1, 28]
abbrev dktX3_trade_7 : List UInt8 := dkwX3_trade_7 ++ dktX3_trade_8
def dkwX3_trade_6 : List UInt8 := [180, 0, 9, 42, 180, 0, 55, 3, 184, 0, 249, 42, 42, 180, 0, 55, 182, 1, 21, 42, 3, 181, 0, 117]
abbrev dktX3_trade_6 : List UInt8 := dkwX3_trade_6 ++ dktX3_trade_7
def dkwX3_trade_5 : List UInt8 := [184, 0, 221, 60, 21, 4, 61, 21, 5, 62, 132, 5, 1, 167, 255, 168, 132, 4, 1, 167, 255, 147, 42]
abbrev dktX3_trade_5 : List UInt8 := dkwX3_trade_5 ++ dktX3_trade_6
def dkwX3_trade_4 : List UInt8 := [180, 0, 55, 182, 1, 21, 42, 180, 1, 9, 184, 0, 221, 27, 161, 0, 6, 167, 0, 17, 42, 180, 1, 9]
abbrev dktX3_trade_4 : List UInt8 := dkwX3_trade_4 ++ dktX3_trade_5
def dkwX3_trade_3 : List UInt8 := [180, 0, 9, 21, 5, 46, 79, 42, 180, 0, 55, 21, 5, 42, 180, 0, 9, 21, 4, 46, 79, 42, 42]
abbrev dktX3_trade_3 : List UInt8 := dkwX3_trade_3 ++ dktX3_trade_4
def dkwX3_trade_2 : List UInt8 := [162, 0, 85, 42, 180, 0, 9, 42, 180, 0, 55, 3, 184, 0, 249, 42, 180, 0, 55, 21, 4, 42]
abbrev dktX3_trade_2 : List UInt8 := dkwX3_trade_2 ++ dktX3_trade_3
def dkwX3_trade_1 : List UInt8 := [54, 4, 21, 4, 42, 180, 0, 13, 162, 0, 106, 21, 4, 4, 96, 54, 5, 21, 5, 42, 180, 0, 13]
abbrev dktX3_trade_1 : List UInt8 := dkwX3_trade_1 ++ dktX3_trade_2
def dkwX3_trade_0 : List UInt8 := [42, 3, 181, 0, 114, 42, 180, 0, 13, 4, 160, 0, 6, 16, 254, 172, 18, 88, 60, 2, 61, 2, 62, 3]
abbrev dktX3_trade_0 : List UInt8 := dkwX3_trade_0 ++ dktX3_trade_1
theorem dksX3_trade_0 : cX3_trade.data.toList.drop 0 = dktX3_trade_0 := by decide +kernel
theorem dksX3_trade_1 : cX3_trade.data.toList.drop 24 = dktX3_trade_1 := dk_seg dksX3_trade_0 24 rfl rfl
theorem dksX3_trade_2 : cX3_trade.data.toList.drop 47 = dktX3_trade_2 := dk_seg dksX3_trade_1 23 rfl rfl
theorem dksX3_trade_3 : cX3_trade.data.toList.drop 69 = dktX3_trade_3 := dk_seg dksX3_trade_2 22 rfl rfl
theorem dksX3_trade_4 : cX3_trade.data.toList.drop 92 = dktX3_trade_4 := dk_seg dksX3_trade_3 23 rfl rfl
theorem dksX3_trade_5 : cX3_trade.data.toList.drop 116 = dktX3_trade_5 := dk_seg dksX3_trade_4 24 rfl rfl
theorem dksX3_trade_6 : cX3_trade.data.toList.drop 139 = dktX3_trade_6 := dk_seg dksX3_trade_5 23 rfl rfl
theorem dksX3_trade_7 : cX3_trade.data.toList.drop 163 = dktX3_trade_7 := dk_seg dksX3_trade_6 24 rfl rfl
theorem dksX3_trade_8 : cX3_trade.data.toList.drop 187 = dktX3_trade_8 := dk_seg dksX3_trade_7 24 rfl rfl
theorem dX3_trade_0 : decode cX3_trade 0 = .ok (.aload_n 0, 1) := dk_42 (dk_at dksX3_trade_0 0 rfl rfl)
theorem dX3_trade_1 : decode cX3_trade 1 = .ok (.iconst 0, 1) := dk_3 (dk_at dksX3_trade_0 1 rfl rfl)
theorem dX3_trade_2 : decode cX3_trade 2 = .ok (.putfield 114, 3) := dk_181 0 114 (dk_at dksX3_trade_0 2 rfl rfl)
theorem dX3_trade_5 : decode cX3_trade 5 = .ok (.aload_n 0, 1) := dk_42 (dk_at dksX3_trade_0 5 rfl rfl)
theorem dX3_trade_6 : decode cX3_trade 6 = .ok (.getfield 13, 3) := dk_180 0 13 (dk_at dksX3_trade_0 6 rfl rfl)
theorem dX3_trade_9 : decode cX3_trade 9 = .ok (.iconst 1, 1) := dk_4 (dk_at dksX3_trade_0 9 rfl rfl)
theorem dX3_trade_10 : decode cX3_trade 10 = .ok (.if_icmp .ne 6, 3) := dk_160 0 6 (dk_at dksX3_trade_0 10 rfl rfl)
theorem dX3_trade_13 : decode cX3_trade 13 = .ok (.bipush (-2), 2) := dk_16 254 (dk_at dksX3_trade_0 13 rfl rfl)
theorem dX3_trade_15 : decode cX3_trade 15 = .ok (.ireturn, 1) := dk_172 (dk_at dksX3_trade_0 15 rfl rfl)
theorem dX3_trade_16 : decode cX3_trade 16 = .ok (.ldc 88, 2) := dk_18 88 (dk_at dksX3_trade_0 16 rfl rfl)
theorem dX3_trade_18 : decode cX3_trade 18 = .ok (.istore_n 1, 1) := dk_60 (dk_at dksX3_trade_0 18 rfl rfl)
theorem dX3_trade_19 : decode cX3_trade 19 = .ok (.iconst (-1), 1) := dk_2 (dk_at dksX3_trade_0 19 rfl rfl)
theorem dX3_trade_20 : decode cX3_trade 20 = .ok (.istore_n 2, 1) := dk_61 (dk_at dksX3_trade_0 20 rfl rfl)
theorem dX3_trade_21 : decode cX3_trade 21 = .ok (.iconst (-1), 1) := dk_2 (dk_at dksX3_trade_0 21 rfl rfl)
theorem dX3_trade_22 : decode cX3_trade 22 = .ok (.istore_n 3, 1) := dk_62 (dk_at dksX3_trade_0 22 rfl rfl)
theorem dX3_trade_23 : decode cX3_trade 23 = .ok (.iconst 0, 1) := dk_3 (dk_at dksX3_trade_0 23 rfl rfl)
theorem dX3_trade_24 : decode cX3_trade 24 = .ok (.istore 4, 2) := dk_54 4 (dk_at dksX3_trade_1 0 rfl rfl)
theorem dX3_trade_26 : decode cX3_trade 26 = .ok (.iload 4, 2) := dk_21 4 (dk_at dksX3_trade_1 2 rfl rfl)
theorem dX3_trade_28 : decode cX3_trade 28 = .ok (.aload_n 0, 1) := dk_42 (dk_at dksX3_trade_1 4 rfl rfl)
theorem dX3_trade_29 : decode cX3_trade 29 = .ok (.getfield 13, 3) := dk_180 0 13 (dk_at dksX3_trade_1 5 rfl rfl)
theorem dX3_trade_32 : decode cX3_trade 32 = .ok (.if_icmp .ge 106, 3) := dk_162 0 106 (dk_at dksX3_trade_1 8 rfl rfl)
theorem dX3_trade_35 : decode cX3_trade 35 = .ok (.iload 4, 2) := dk_21 4 (dk_at dksX3_trade_1 11 rfl rfl)
theorem dX3_trade_37 : decode cX3_trade 37 = .ok (.iconst 1, 1) := dk_4 (dk_at dksX3_trade_1 13 rfl rfl)
theorem dX3_trade_38 : decode cX3_trade 38 = .ok (.iadd, 1) := dk_96 (dk_at dksX3_trade_1 14 rfl rfl)
theorem dX3_trade_39 : decode cX3_trade 39 = .ok (.istore 5, 2) := dk_54 5 (dk_at dksX3_trade_1 15 rfl rfl)
theorem dX3_trade_41 : decode cX3_trade 41 = .ok (.iload 5, 2) := dk_21 5 (dk_at dksX3_trade_1 17 rfl rfl)
theorem dX3_trade_43 : decode cX3_trade 43 = .ok (.aload_n 0, 1) := dk_42 (dk_at dksX3_trade_1 19 rfl rfl)
theorem dX3_trade_44 : decode cX3_trade 44 = .ok (.getfield 13, 3) := dk_180 0 13 (dk_at dksX3_trade_1 20 rfl rfl)
theorem dX3_trade_47 : decode cX3_trade 47 = .ok (.if_icmp .ge 85, 3) := dk_162 0 85 (dk_at dksX3_trade_2 0 rfl rfl)
theorem dX3_trade_50 : decode cX3_trade 50 = .ok (.aload_n 0, 1) := dk_42 (dk_at dksX3_trade_2 3 rfl rfl)
theorem dX3_trade_51 : decode cX3_trade 51 = .ok (.getfield 9, 3) := dk_180 0 9 (dk_at dksX3_trade_2 4 rfl rfl)
theorem dX3_trade_54 : decode cX3_trade 54 = .ok (.aload_n 0, 1) := dk_42 (dk_at dksX3_trade_2 7 rfl rfl)
theorem dX3_trade_55 : decode cX3_trade 55 = .ok (.getfield 55, 3) := dk_180 0 55 (dk_at dksX3_trade_2 8 rfl rfl)
theorem dX3_trade_58 : decode cX3_trade 58 = .ok (.iconst 0, 1) := dk_3 (dk_at dksX3_trade_2 11 rfl rfl)
theorem dX3_trade_59 : decode cX3_trade 59 = .ok (.invokestatic 249, 3) := dk_184 0 249 (dk_at dksX3_trade_2 12 rfl rfl)
theorem dX3_trade_62 : decode cX3_trade 62 = .ok (.aload_n 0, 1) := dk_42 (dk_at dksX3_trade_2 15 rfl rfl)
theorem dX3_trade_63 : decode cX3_trade 63 = .ok (.getfield 55, 3) := dk_180 0 55 (dk_at dksX3_trade_2 16 rfl rfl)
theorem dX3_trade_66 : decode cX3_trade 66 = .ok (.iload 4, 2) := dk_21 4 (dk_at dksX3_trade_2 19 rfl rfl)
theorem dX3_trade_68 : decode cX3_trade 68 = .ok (.aload_n 0, 1) := dk_42 (dk_at dksX3_trade_2 21 rfl rfl)
theorem dX3_trade_69 : decode cX3_trade 69 = .ok (.getfield 9, 3) := dk_180 0 9 (dk_at dksX3_trade_3 0 rfl rfl)
theorem dX3_trade_72 : decode cX3_trade 72 = .ok (.iload 5, 2) := dk_21 5 (dk_at dksX3_trade_3 3 rfl rfl)
theorem dX3_trade_74 : decode cX3_trade 74 = .ok (.iaload, 1) := dk_46 (dk_at dksX3_trade_3 5 rfl rfl)
theorem dX3_trade_75 : decode cX3_trade 75 = .ok (.iastore, 1) := dk_79 (dk_at dksX3_trade_3 6 rfl rfl)
theorem dX3_trade_76 : decode cX3_trade 76 = .ok (.aload_n 0, 1) := dk_42 (dk_at dksX3_trade_3 7 rfl rfl)
theorem dX3_trade_77 : decode cX3_trade 77 = .ok (.getfield 55, 3) := dk_180 0 55 (dk_at dksX3_trade_3 8 rfl rfl)
theorem dX3_trade_80 : decode cX3_trade 80 = .ok (.iload 5, 2) := dk_21 5 (dk_at dksX3_trade_3 11 rfl rfl)
theorem dX3_trade_82 : decode cX3_trade 82 = .ok (.aload_n 0, 1) := dk_42 (dk_at dksX3_trade_3 13 rfl rfl)
theorem dX3_trade_83 : decode cX3_trade 83 = .ok (.getfield 9, 3) := dk_180 0 9 (dk_at dksX3_trade_3 14 rfl rfl)
theorem dX3_trade_86 : decode cX3_trade 86 = .ok (.iload 4, 2) := dk_21 4 (dk_at dksX3_trade_3 17 rfl rfl)
theorem dX3_trade_88 : decode cX3_trade 88 = .ok (.iaload, 1) := dk_46 (dk_at dksX3_trade_3 19 rfl rfl)
theorem dX3_trade_89 : decode cX3_trade 89 = .ok (.iastore, 1) := dk_79 (dk_at dksX3_trade_3 20 rfl rfl)
theorem dX3_trade_90 : decode cX3_trade 90 = .ok (.aload_n 0, 1) := dk_42 (dk_at dksX3_trade_3 21 rfl rfl)
theorem dX3_trade_91 : decode cX3_trade 91 = .ok (.aload_n 0, 1) := dk_42 (dk_at dksX3_trade_3 22 rfl rfl)
theorem dX3_trade_92 : decode cX3_trade 92 = .ok (.getfield 55, 3) := dk_180 0 55 (dk_at dksX3_trade_4 0 rfl rfl)
theorem dX3_trade_95 : decode cX3_trade 95 = .ok (.invokevirtual 277, 3) := dk_182 1 21 (dk_at dksX3_trade_4 3 rfl rfl)
theorem dX3_trade_98 : decode cX3_trade 98 = .ok (.aload_n 0, 1) := dk_42 (dk_at dksX3_trade_4 6 rfl rfl)
theorem dX3_trade_99 : decode cX3_trade 99 = .ok (.getfield 265, 3) := dk_180 1 9 (dk_at dksX3_trade_4 7 rfl rfl)
theorem dX3_trade_102 : decode cX3_trade 102 = .ok (.invokestatic 221, 3) := dk_184 0 221 (dk_at dksX3_trade_4 10 rfl rfl)
theorem dX3_trade_105 : decode cX3_trade 105 = .ok (.iload_n 1, 1) := dk_27 (dk_at dksX3_trade_4 13 rfl rfl)
theorem dX3_trade_106 : decode cX3_trade 106 = .ok (.if_icmp .lt 6, 3) := dk_161 0 6 (dk_at dksX3_trade_4 14 rfl rfl)
theorem dX3_trade_109 : decode cX3_trade 109 = .ok (.goto 17, 3) := dk_167 0 17 (dk_at dksX3_trade_4 17 rfl rfl)
theorem dX3_trade_112 : decode cX3_trade 112 = .ok (.aload_n 0, 1) := dk_42 (dk_at dksX3_trade_4 20 rfl rfl)
theorem dX3_trade_113 : decode cX3_trade 113 = .ok (.getfield 265, 3) := dk_180 1 9 (dk_at dksX3_trade_4 21 rfl rfl)
theorem dX3_trade_116 : decode cX3_trade 116 = .ok (.invokestatic 221, 3) := dk_184 0 221 (dk_at dksX3_trade_5 0 rfl rfl)
theorem dX3_trade_119 : decode cX3_trade 119 = .ok (.istore_n 1, 1) := dk_60 (dk_at dksX3_trade_5 3 rfl rfl)
theorem dX3_trade_120 : decode cX3_trade 120 = .ok (.iload 4, 2) := dk_21 4 (dk_at dksX3_trade_5 4 rfl rfl)
theorem dX3_trade_122 : decode cX3_trade 122 = .ok (.istore_n 2, 1) := dk_61 (dk_at dksX3_trade_5 6 rfl rfl)
theorem dX3_trade_123 : decode cX3_trade 123 = .ok (.iload 5, 2) := dk_21 5 (dk_at dksX3_trade_5 7 rfl rfl)
theorem dX3_trade_125 : decode cX3_trade 125 = .ok (.istore_n 3, 1) := dk_62 (dk_at dksX3_trade_5 9 rfl rfl)
theorem dX3_trade_126 : decode cX3_trade 126 = .ok (.iinc 5 1, 3) := dk_132 5 1 (dk_at dksX3_trade_5 10 rfl rfl)
theorem dX3_trade_129 : decode cX3_trade 129 = .ok (.goto (-88), 3) := dk_167 255 168 (dk_at dksX3_trade_5 13 rfl rfl)
theorem dX3_trade_132 : decode cX3_trade 132 = .ok (.iinc 4 1, 3) := dk_132 4 1 (dk_at dksX3_trade_5 16 rfl rfl)
theorem dX3_trade_135 : decode cX3_trade 135 = .ok (.goto (-109), 3) := dk_167 255 147 (dk_at dksX3_trade_5 19 rfl rfl)
theorem dX3_trade_138 : decode cX3_trade 138 = .ok (.aload_n 0, 1) := dk_42 (dk_at dksX3_trade_5 22 rfl rfl)
theorem dX3_trade_139 : decode cX3_trade 139 = .ok (.getfield 9, 3) := dk_180 0 9 (dk_at dksX3_trade_6 0 rfl rfl)
theorem dX3_trade_142 : decode cX3_trade 142 = .ok (.aload_n 0, 1) := dk_42 (dk_at dksX3_trade_6 3 rfl rfl)
theorem dX3_trade_143 : decode cX3_trade 143 = .ok (.getfield 55, 3) := dk_180 0 55 (dk_at dksX3_trade_6 4 rfl rfl)
theorem dX3_trade_146 : decode cX3_trade 146 = .ok (.iconst 0, 1) := dk_3 (dk_at dksX3_trade_6 7 rfl rfl)
theorem dX3_trade_147 : decode cX3_trade 147 = .ok (.invokestatic 249, 3) := dk_184 0 249 (dk_at dksX3_trade_6 8 rfl rfl)
theorem dX3_trade_150 : decode cX3_trade 150 = .ok (.aload_n 0, 1) := dk_42 (dk_at dksX3_trade_6 11 rfl rfl)
theorem dX3_trade_151 : decode cX3_trade 151 = .ok (.aload_n 0, 1) := dk_42 (dk_at dksX3_trade_6 12 rfl rfl)
theorem dX3_trade_152 : decode cX3_trade 152 = .ok (.getfield 55, 3) := dk_180 0 55 (dk_at dksX3_trade_6 13 rfl rfl)
theorem dX3_trade_155 : decode cX3_trade 155 = .ok (.invokevirtual 277, 3) := dk_182 1 21 (dk_at dksX3_trade_6 16 rfl rfl)
theorem dX3_trade_158 : decode cX3_trade 158 = .ok (.aload_n 0, 1) := dk_42 (dk_at dksX3_trade_6 19 rfl rfl)
theorem dX3_trade_159 : decode cX3_trade 159 = .ok (.iconst 0, 1) := dk_3 (dk_at dksX3_trade_6 20 rfl rfl)
theorem dX3_trade_160 : decode cX3_trade 160 = .ok (.putfield 117, 3) := dk_181 0 117 (dk_at dksX3_trade_6 21 rfl rfl)
theorem dX3_trade_163 : decode cX3_trade 163 = .ok (.aload_n 0, 1) := dk_42 (dk_at dksX3_trade_7 0 rfl rfl)
theorem dX3_trade_164 : decode cX3_trade 164 = .ok (.iload_n 2, 1) := dk_28 (dk_at dksX3_trade_7 1 rfl rfl)
theorem dX3_trade_165 : decode cX3_trade 165 = .ok (.i2l, 1) := dk_133 (dk_at dksX3_trade_7 2 rfl rfl)
theorem dX3_trade_166 : decode cX3_trade 166 = .ok (.invokevirtual 284, 3) := dk_182 1 28 (dk_at dksX3_trade_7 3 rfl rfl)
theorem dX3_trade_169 : decode cX3_trade 169 = .ok (.aload_n 0, 1) := dk_42 (dk_at dksX3_trade_7 6 rfl rfl)
theorem dX3_trade_170 : decode cX3_trade 170 = .ok (.iload_n 3, 1) := dk_29 (dk_at dksX3_trade_7 7 rfl rfl)
theorem dX3_trade_171 : decode cX3_trade 171 = .ok (.i2l, 1) := dk_133 (dk_at dksX3_trade_7 8 rfl rfl)
theorem dX3_trade_172 : decode cX3_trade 172 = .ok (.invokevirtual 284, 3) := dk_182 1 28 (dk_at dksX3_trade_7 9 rfl rfl)
theorem dX3_trade_175 : decode cX3_trade 175 = .ok (.aload_n 0, 1) := dk_42 (dk_at dksX3_trade_7 12 rfl rfl)
theorem dX3_trade_176 : decode cX3_trade 176 = .ok (.aload_n 0, 1) := dk_42 (dk_at dksX3_trade_7 13 rfl rfl)
theorem dX3_trade_177 : decode cX3_trade 177 = .ok (.getfield 265, 3) := dk_180 1 9 (dk_at dksX3_trade_7 14 rfl rfl)
theorem dX3_trade_180 : decode cX3_trade 180 = .ok (.invokestatic 221, 3) := dk_184 0 221 (dk_at dksX3_trade_7 17 rfl rfl)
theorem dX3_trade_183 : decode cX3_trade 183 = .ok (.i2l, 1) := dk_133 (dk_at dksX3_trade_7 20 rfl rfl)
theorem dX3_trade_184 : decode cX3_trade 184 = .ok (.invokevirtual 284, 3) := dk_182 1 28 (dk_at dksX3_trade_7 21 rfl rfl)
theorem dX3_trade_187 : decode cX3_trade 187 = .ok (.iload_n 1, 1) := dk_27 (dk_at dksX3_trade_8 0 rfl rfl)
theorem dX3_trade_188 : decode cX3_trade 188 = .ok (.ireturn, 1) := dk_172 (dk_at dksX3_trade_8 1 rfl rfl)
abbrev cX3_easiest : ByteArray := prog_9_method_72_code
def yX3_easiest : MethodName := ⟨RX3, "easiest", "()I"⟩
def dkwX3_easiest_1 : List UInt8 := [182, 1, 85, 42, 182, 1, 88, 27, 172]
abbrev dktX3_easiest_1 : List UInt8 := dkwX3_easiest_1 ++ []
def dkwX3_easiest_0 : List UInt8 := [42, 3, 181, 0, 114, 42, 2, 182, 1, 82, 60, 27, 18, 88, 160, 0, 6, 16, 254, 172, 42, 3, 27]
abbrev dktX3_easiest_0 : List UInt8 := dkwX3_easiest_0 ++ dktX3_easiest_1
theorem dksX3_easiest_0 : cX3_easiest.data.toList.drop 0 = dktX3_easiest_0 := by decide +kernel
theorem dksX3_easiest_1 : cX3_easiest.data.toList.drop 23 = dktX3_easiest_1 := dk_seg dksX3_easiest_0 23 rfl rfl
theorem dX3_easiest_0 : decode cX3_easiest 0 = .ok (.aload_n 0, 1) := dk_42 (dk_at dksX3_easiest_0 0 rfl rfl)
theorem dX3_easiest_1 : decode cX3_easiest 1 = .ok (.iconst 0, 1) := dk_3 (dk_at dksX3_easiest_0 1 rfl rfl)
theorem dX3_easiest_2 : decode cX3_easiest 2 = .ok (.putfield 114, 3) := dk_181 0 114 (dk_at dksX3_easiest_0 2 rfl rfl)
theorem dX3_easiest_5 : decode cX3_easiest 5 = .ok (.aload_n 0, 1) := dk_42 (dk_at dksX3_easiest_0 5 rfl rfl)
theorem dX3_easiest_6 : decode cX3_easiest 6 = .ok (.iconst (-1), 1) := dk_2 (dk_at dksX3_easiest_0 6 rfl rfl)
theorem dX3_easiest_7 : decode cX3_easiest 7 = .ok (.invokevirtual 338, 3) := dk_182 1 82 (dk_at dksX3_easiest_0 7 rfl rfl)
theorem dX3_easiest_10 : decode cX3_easiest 10 = .ok (.istore_n 1, 1) := dk_60 (dk_at dksX3_easiest_0 10 rfl rfl)
theorem dX3_easiest_11 : decode cX3_easiest 11 = .ok (.iload_n 1, 1) := dk_27 (dk_at dksX3_easiest_0 11 rfl rfl)
theorem dX3_easiest_12 : decode cX3_easiest 12 = .ok (.ldc 88, 2) := dk_18 88 (dk_at dksX3_easiest_0 12 rfl rfl)
theorem dX3_easiest_14 : decode cX3_easiest 14 = .ok (.if_icmp .ne 6, 3) := dk_160 0 6 (dk_at dksX3_easiest_0 14 rfl rfl)
theorem dX3_easiest_17 : decode cX3_easiest 17 = .ok (.bipush (-2), 2) := dk_16 254 (dk_at dksX3_easiest_0 17 rfl rfl)
theorem dX3_easiest_19 : decode cX3_easiest 19 = .ok (.ireturn, 1) := dk_172 (dk_at dksX3_easiest_0 19 rfl rfl)
theorem dX3_easiest_20 : decode cX3_easiest 20 = .ok (.aload_n 0, 1) := dk_42 (dk_at dksX3_easiest_0 20 rfl rfl)
theorem dX3_easiest_21 : decode cX3_easiest 21 = .ok (.iconst 0, 1) := dk_3 (dk_at dksX3_easiest_0 21 rfl rfl)
theorem dX3_easiest_22 : decode cX3_easiest 22 = .ok (.iload_n 1, 1) := dk_27 (dk_at dksX3_easiest_0 22 rfl rfl)
theorem dX3_easiest_23 : decode cX3_easiest 23 = .ok (.invokevirtual 341, 3) := dk_182 1 85 (dk_at dksX3_easiest_1 0 rfl rfl)
theorem dX3_easiest_26 : decode cX3_easiest 26 = .ok (.aload_n 0, 1) := dk_42 (dk_at dksX3_easiest_1 3 rfl rfl)
theorem dX3_easiest_27 : decode cX3_easiest 27 = .ok (.invokevirtual 344, 3) := dk_182 1 88 (dk_at dksX3_easiest_1 4 rfl rfl)
theorem dX3_easiest_30 : decode cX3_easiest 30 = .ok (.iload_n 1, 1) := dk_27 (dk_at dksX3_easiest_1 7 rfl rfl)
theorem dX3_easiest_31 : decode cX3_easiest 31 = .ok (.ireturn, 1) := dk_172 (dk_at dksX3_easiest_1 8 rfl rfl)
abbrev cX3_easiestBut : ByteArray := prog_9_method_71_code
def yX3_easiestBut : MethodName := ⟨RX3, "easiestBut", "(I)I"⟩
def dkwX3_easiestBut_0 : List UInt8 := [42, 27, 182, 1, 79, 42, 3, 182, 1, 73, 172]
abbrev dktX3_easiestBut_0 : List UInt8 := dkwX3_easiestBut_0 ++ []
theorem dksX3_easiestBut_0 : cX3_easiestBut.data.toList.drop 0 = dktX3_easiestBut_0 := by decide +kernel
theorem dX3_easiestBut_0 : decode cX3_easiestBut 0 = .ok (.aload_n 0, 1) := dk_42 (dk_at dksX3_easiestBut_0 0 rfl rfl)
theorem dX3_easiestBut_1 : decode cX3_easiestBut 1 = .ok (.iload_n 1, 1) := dk_27 (dk_at dksX3_easiestBut_0 1 rfl rfl)
theorem dX3_easiestBut_2 : decode cX3_easiestBut 2 = .ok (.invokevirtual 335, 3) := dk_182 1 79 (dk_at dksX3_easiestBut_0 2 rfl rfl)
theorem dX3_easiestBut_5 : decode cX3_easiestBut 5 = .ok (.aload_n 0, 1) := dk_42 (dk_at dksX3_easiestBut_0 5 rfl rfl)
theorem dX3_easiestBut_6 : decode cX3_easiestBut 6 = .ok (.iconst 0, 1) := dk_3 (dk_at dksX3_easiestBut_0 6 rfl rfl)
theorem dX3_easiestBut_7 : decode cX3_easiestBut 7 = .ok (.invokevirtual 329, 3) := dk_182 1 73 (dk_at dksX3_easiestBut_0 7 rfl rfl)
theorem dX3_easiestBut_10 : decode cX3_easiestBut 10 = .ok (.ireturn, 1) := dk_172 (dk_at dksX3_easiestBut_0 10 rfl rfl)
abbrev cX3_layMay : ByteArray := prog_9_method_59_code
def yX3_layMay : MethodName := ⟨RX3, "layMay", "(I)V"⟩
def dkwX3_layMay_4 : List UInt8 := [167, 255, 164, 177]
abbrev dktX3_layMay_4 : List UInt8 := dkwX3_layMay_4 ++ []
def dkwX3_layMay_3 : List UInt8 := [29, 96, 42, 42, 180, 0, 9, 28, 29, 182, 0, 245, 79, 132, 3, 1, 167, 255, 226, 132, 2, 1]
abbrev dktX3_layMay_3 : List UInt8 := dkwX3_layMay_3 ++ dktX3_layMay_4
def dkwX3_layMay_2 : List UInt8 := [79, 42, 180, 0, 70, 28, 3, 79, 3, 62, 29, 16, 8, 162, 0, 30, 42, 180, 0, 79, 16, 8, 28, 104]
abbrev dktX3_layMay_2 : List UInt8 := dkwX3_layMay_2 ++ dktX3_layMay_3
def dkwX3_layMay_1 : List UInt8 := [4, 159, 0, 8, 28, 27, 160, 0, 7, 3, 167, 0, 14, 42, 180, 0, 26, 28, 46, 42, 182, 1, 51, 126]
abbrev dktX3_layMay_1 : List UInt8 := dkwX3_layMay_1 ++ dktX3_layMay_2
def dkwX3_layMay_0 : List UInt8 := [3, 61, 28, 42, 180, 0, 120, 162, 0, 90, 42, 180, 0, 67, 28, 42, 180, 0, 9, 16, 16, 28, 96, 46]
abbrev dktX3_layMay_0 : List UInt8 := dkwX3_layMay_0 ++ dktX3_layMay_1
theorem dksX3_layMay_0 : cX3_layMay.data.toList.drop 0 = dktX3_layMay_0 := by decide +kernel
theorem dksX3_layMay_1 : cX3_layMay.data.toList.drop 24 = dktX3_layMay_1 := dk_seg dksX3_layMay_0 24 rfl rfl
theorem dksX3_layMay_2 : cX3_layMay.data.toList.drop 48 = dktX3_layMay_2 := dk_seg dksX3_layMay_1 24 rfl rfl
theorem dksX3_layMay_3 : cX3_layMay.data.toList.drop 72 = dktX3_layMay_3 := dk_seg dksX3_layMay_2 24 rfl rfl
theorem dksX3_layMay_4 : cX3_layMay.data.toList.drop 94 = dktX3_layMay_4 := dk_seg dksX3_layMay_3 22 rfl rfl
theorem dX3_layMay_0 : decode cX3_layMay 0 = .ok (.iconst 0, 1) := dk_3 (dk_at dksX3_layMay_0 0 rfl rfl)
theorem dX3_layMay_1 : decode cX3_layMay 1 = .ok (.istore_n 2, 1) := dk_61 (dk_at dksX3_layMay_0 1 rfl rfl)
theorem dX3_layMay_2 : decode cX3_layMay 2 = .ok (.iload_n 2, 1) := dk_28 (dk_at dksX3_layMay_0 2 rfl rfl)
theorem dX3_layMay_3 : decode cX3_layMay 3 = .ok (.aload_n 0, 1) := dk_42 (dk_at dksX3_layMay_0 3 rfl rfl)
theorem dX3_layMay_4 : decode cX3_layMay 4 = .ok (.getfield 120, 3) := dk_180 0 120 (dk_at dksX3_layMay_0 4 rfl rfl)
theorem dX3_layMay_7 : decode cX3_layMay 7 = .ok (.if_icmp .ge 90, 3) := dk_162 0 90 (dk_at dksX3_layMay_0 7 rfl rfl)
theorem dX3_layMay_10 : decode cX3_layMay 10 = .ok (.aload_n 0, 1) := dk_42 (dk_at dksX3_layMay_0 10 rfl rfl)
theorem dX3_layMay_11 : decode cX3_layMay 11 = .ok (.getfield 67, 3) := dk_180 0 67 (dk_at dksX3_layMay_0 11 rfl rfl)
theorem dX3_layMay_14 : decode cX3_layMay 14 = .ok (.iload_n 2, 1) := dk_28 (dk_at dksX3_layMay_0 14 rfl rfl)
theorem dX3_layMay_15 : decode cX3_layMay 15 = .ok (.aload_n 0, 1) := dk_42 (dk_at dksX3_layMay_0 15 rfl rfl)
theorem dX3_layMay_16 : decode cX3_layMay 16 = .ok (.getfield 9, 3) := dk_180 0 9 (dk_at dksX3_layMay_0 16 rfl rfl)
theorem dX3_layMay_19 : decode cX3_layMay 19 = .ok (.bipush 16, 2) := dk_16 16 (dk_at dksX3_layMay_0 19 rfl rfl)
theorem dX3_layMay_21 : decode cX3_layMay 21 = .ok (.iload_n 2, 1) := dk_28 (dk_at dksX3_layMay_0 21 rfl rfl)
theorem dX3_layMay_22 : decode cX3_layMay 22 = .ok (.iadd, 1) := dk_96 (dk_at dksX3_layMay_0 22 rfl rfl)
theorem dX3_layMay_23 : decode cX3_layMay 23 = .ok (.iaload, 1) := dk_46 (dk_at dksX3_layMay_0 23 rfl rfl)
theorem dX3_layMay_24 : decode cX3_layMay 24 = .ok (.iconst 1, 1) := dk_4 (dk_at dksX3_layMay_1 0 rfl rfl)
theorem dX3_layMay_25 : decode cX3_layMay 25 = .ok (.if_icmp .eq 8, 3) := dk_159 0 8 (dk_at dksX3_layMay_1 1 rfl rfl)
theorem dX3_layMay_28 : decode cX3_layMay 28 = .ok (.iload_n 2, 1) := dk_28 (dk_at dksX3_layMay_1 4 rfl rfl)
theorem dX3_layMay_29 : decode cX3_layMay 29 = .ok (.iload_n 1, 1) := dk_27 (dk_at dksX3_layMay_1 5 rfl rfl)
theorem dX3_layMay_30 : decode cX3_layMay 30 = .ok (.if_icmp .ne 7, 3) := dk_160 0 7 (dk_at dksX3_layMay_1 6 rfl rfl)
theorem dX3_layMay_33 : decode cX3_layMay 33 = .ok (.iconst 0, 1) := dk_3 (dk_at dksX3_layMay_1 9 rfl rfl)
theorem dX3_layMay_34 : decode cX3_layMay 34 = .ok (.goto 14, 3) := dk_167 0 14 (dk_at dksX3_layMay_1 10 rfl rfl)
theorem dX3_layMay_37 : decode cX3_layMay 37 = .ok (.aload_n 0, 1) := dk_42 (dk_at dksX3_layMay_1 13 rfl rfl)
theorem dX3_layMay_38 : decode cX3_layMay 38 = .ok (.getfield 26, 3) := dk_180 0 26 (dk_at dksX3_layMay_1 14 rfl rfl)
theorem dX3_layMay_41 : decode cX3_layMay 41 = .ok (.iload_n 2, 1) := dk_28 (dk_at dksX3_layMay_1 17 rfl rfl)
theorem dX3_layMay_42 : decode cX3_layMay 42 = .ok (.iaload, 1) := dk_46 (dk_at dksX3_layMay_1 18 rfl rfl)
theorem dX3_layMay_43 : decode cX3_layMay 43 = .ok (.aload_n 0, 1) := dk_42 (dk_at dksX3_layMay_1 19 rfl rfl)
theorem dX3_layMay_44 : decode cX3_layMay 44 = .ok (.invokevirtual 307, 3) := dk_182 1 51 (dk_at dksX3_layMay_1 20 rfl rfl)
theorem dX3_layMay_47 : decode cX3_layMay 47 = .ok (.iand, 1) := dk_126 (dk_at dksX3_layMay_1 23 rfl rfl)
theorem dX3_layMay_48 : decode cX3_layMay 48 = .ok (.iastore, 1) := dk_79 (dk_at dksX3_layMay_2 0 rfl rfl)
theorem dX3_layMay_49 : decode cX3_layMay 49 = .ok (.aload_n 0, 1) := dk_42 (dk_at dksX3_layMay_2 1 rfl rfl)
theorem dX3_layMay_50 : decode cX3_layMay 50 = .ok (.getfield 70, 3) := dk_180 0 70 (dk_at dksX3_layMay_2 2 rfl rfl)
theorem dX3_layMay_53 : decode cX3_layMay 53 = .ok (.iload_n 2, 1) := dk_28 (dk_at dksX3_layMay_2 5 rfl rfl)
theorem dX3_layMay_54 : decode cX3_layMay 54 = .ok (.iconst 0, 1) := dk_3 (dk_at dksX3_layMay_2 6 rfl rfl)
theorem dX3_layMay_55 : decode cX3_layMay 55 = .ok (.iastore, 1) := dk_79 (dk_at dksX3_layMay_2 7 rfl rfl)
theorem dX3_layMay_56 : decode cX3_layMay 56 = .ok (.iconst 0, 1) := dk_3 (dk_at dksX3_layMay_2 8 rfl rfl)
theorem dX3_layMay_57 : decode cX3_layMay 57 = .ok (.istore_n 3, 1) := dk_62 (dk_at dksX3_layMay_2 9 rfl rfl)
theorem dX3_layMay_58 : decode cX3_layMay 58 = .ok (.iload_n 3, 1) := dk_29 (dk_at dksX3_layMay_2 10 rfl rfl)
theorem dX3_layMay_59 : decode cX3_layMay 59 = .ok (.bipush 8, 2) := dk_16 8 (dk_at dksX3_layMay_2 11 rfl rfl)
theorem dX3_layMay_61 : decode cX3_layMay 61 = .ok (.if_icmp .ge 30, 3) := dk_162 0 30 (dk_at dksX3_layMay_2 13 rfl rfl)
theorem dX3_layMay_64 : decode cX3_layMay 64 = .ok (.aload_n 0, 1) := dk_42 (dk_at dksX3_layMay_2 16 rfl rfl)
theorem dX3_layMay_65 : decode cX3_layMay 65 = .ok (.getfield 79, 3) := dk_180 0 79 (dk_at dksX3_layMay_2 17 rfl rfl)
theorem dX3_layMay_68 : decode cX3_layMay 68 = .ok (.bipush 8, 2) := dk_16 8 (dk_at dksX3_layMay_2 20 rfl rfl)
theorem dX3_layMay_70 : decode cX3_layMay 70 = .ok (.iload_n 2, 1) := dk_28 (dk_at dksX3_layMay_2 22 rfl rfl)
theorem dX3_layMay_71 : decode cX3_layMay 71 = .ok (.imul, 1) := dk_104 (dk_at dksX3_layMay_2 23 rfl rfl)
theorem dX3_layMay_72 : decode cX3_layMay 72 = .ok (.iload_n 3, 1) := dk_29 (dk_at dksX3_layMay_3 0 rfl rfl)
theorem dX3_layMay_73 : decode cX3_layMay 73 = .ok (.iadd, 1) := dk_96 (dk_at dksX3_layMay_3 1 rfl rfl)
theorem dX3_layMay_74 : decode cX3_layMay 74 = .ok (.aload_n 0, 1) := dk_42 (dk_at dksX3_layMay_3 2 rfl rfl)
theorem dX3_layMay_75 : decode cX3_layMay 75 = .ok (.aload_n 0, 1) := dk_42 (dk_at dksX3_layMay_3 3 rfl rfl)
theorem dX3_layMay_76 : decode cX3_layMay 76 = .ok (.getfield 9, 3) := dk_180 0 9 (dk_at dksX3_layMay_3 4 rfl rfl)
theorem dX3_layMay_79 : decode cX3_layMay 79 = .ok (.iload_n 2, 1) := dk_28 (dk_at dksX3_layMay_3 7 rfl rfl)
theorem dX3_layMay_80 : decode cX3_layMay 80 = .ok (.iload_n 3, 1) := dk_29 (dk_at dksX3_layMay_3 8 rfl rfl)
theorem dX3_layMay_81 : decode cX3_layMay 81 = .ok (.invokevirtual 245, 3) := dk_182 0 245 (dk_at dksX3_layMay_3 9 rfl rfl)
theorem dX3_layMay_84 : decode cX3_layMay 84 = .ok (.iastore, 1) := dk_79 (dk_at dksX3_layMay_3 12 rfl rfl)
theorem dX3_layMay_85 : decode cX3_layMay 85 = .ok (.iinc 3 1, 3) := dk_132 3 1 (dk_at dksX3_layMay_3 13 rfl rfl)
theorem dX3_layMay_88 : decode cX3_layMay 88 = .ok (.goto (-30), 3) := dk_167 255 226 (dk_at dksX3_layMay_3 16 rfl rfl)
theorem dX3_layMay_91 : decode cX3_layMay 91 = .ok (.iinc 2 1, 3) := dk_132 2 1 (dk_at dksX3_layMay_3 19 rfl rfl)
theorem dX3_layMay_94 : decode cX3_layMay 94 = .ok (.goto (-92), 3) := dk_167 255 164 (dk_at dksX3_layMay_4 0 rfl rfl)
theorem dX3_layMay_97 : decode cX3_layMay 97 = .ok (.return_, 1) := dk_177 (dk_at dksX3_layMay_4 3 rfl rfl)
abbrev cX3_night : ByteArray := prog_9_method_10_code
def yX3_night : MethodName := ⟨RX3, "night", "()I"⟩
def dkwX3_night_0 : List UInt8 := [4, 42, 180, 0, 13, 120, 4, 100, 172]
abbrev dktX3_night_0 : List UInt8 := dkwX3_night_0 ++ []
theorem dksX3_night_0 : cX3_night.data.toList.drop 0 = dktX3_night_0 := by decide +kernel
theorem dX3_night_0 : decode cX3_night 0 = .ok (.iconst 1, 1) := dk_4 (dk_at dksX3_night_0 0 rfl rfl)
theorem dX3_night_1 : decode cX3_night 1 = .ok (.aload_n 0, 1) := dk_42 (dk_at dksX3_night_0 1 rfl rfl)
theorem dX3_night_2 : decode cX3_night 2 = .ok (.getfield 13, 3) := dk_180 0 13 (dk_at dksX3_night_0 2 rfl rfl)
theorem dX3_night_5 : decode cX3_night 5 = .ok (.ishl, 1) := dk_120 (dk_at dksX3_night_0 5 rfl rfl)
theorem dX3_night_6 : decode cX3_night 6 = .ok (.iconst 1, 1) := dk_4 (dk_at dksX3_night_0 6 rfl rfl)
theorem dX3_night_7 : decode cX3_night 7 = .ok (.isub, 1) := dk_100 (dk_at dksX3_night_0 7 rfl rfl)
theorem dX3_night_8 : decode cX3_night 8 = .ok (.ireturn, 1) := dk_172 (dk_at dksX3_night_0 8 rfl rfl)
abbrev cX3_solve : ByteArray := prog_9_method_63_code
def yX3_solve : MethodName := ⟨RX3, "solve", "(I)I"⟩
def dkwX3_solve_10 : List UInt8 := [167, 255, 67, 42, 180, 0, 82, 42, 182, 1, 51, 46, 172]
abbrev dktX3_solve_10 : List UInt8 := dkwX3_solve_10 ++ []
def dkwX3_solve_9 : List UInt8 := [154, 0, 7, 2, 167, 0, 13, 29, 4, 100, 42, 180, 0, 67, 28, 46, 126, 62, 167, 255, 113, 132, 2, 255]
abbrev dktX3_solve_9 : List UInt8 := dkwX3_solve_9 ++ dktX3_solve_10
def dkwX3_solve_8 : List UInt8 := [79, 21, 6, 154, 0, 7, 2, 167, 0, 10, 21, 6, 4, 100, 21, 5, 126, 54, 6, 167, 255, 174, 29]
abbrev dktX3_solve_8 : List UInt8 := dkwX3_solve_8 ++ dktX3_solve_9
def dkwX3_solve_7 : List UInt8 := [29, 128, 42, 180, 0, 82, 28, 16, 8, 120, 21, 6, 128, 29, 128, 46, 21, 7, 21, 4, 96, 184, 0, 226]
abbrev dktX3_solve_7 : List UInt8 := dkwX3_solve_7 ++ dktX3_solve_8
def dkwX3_solve_6 : List UInt8 := [21, 6, 128, 46, 54, 7, 21, 7, 18, 88, 162, 0, 39, 42, 180, 0, 82, 28, 16, 8, 120, 21, 6, 128]
abbrev dktX3_solve_6 : List UInt8 := dkwX3_solve_6 ++ dktX3_solve_7
def dkwX3_solve_5 : List UInt8 := [130, 126, 54, 5, 21, 5, 54, 6, 21, 6, 155, 0, 83, 42, 180, 0, 82, 28, 4, 96, 16, 8, 120]
abbrev dktX3_solve_5 : List UInt8 := dkwX3_solve_5 ++ dktX3_solve_6
def dkwX3_solve_4 : List UInt8 := [182, 1, 57, 154, 0, 6, 167, 0, 111, 42, 27, 28, 29, 182, 1, 60, 54, 4, 42, 182, 1, 51, 29, 2]
abbrev dktX3_solve_4 : List UInt8 := dkwX3_solve_4 ++ dktX3_solve_5
def dkwX3_solve_3 : List UInt8 := [18, 88, 79, 132, 3, 1, 167, 255, 232, 42, 180, 0, 67, 28, 46, 62, 29, 155, 0, 145, 42, 28, 29]
abbrev dktX3_solve_3 : List UInt8 := dkwX3_solve_3 ++ dktX3_solve_4
def dkwX3_solve_2 : List UInt8 := [155, 0, 191, 3, 62, 29, 42, 182, 1, 51, 163, 0, 22, 42, 180, 0, 82, 28, 16, 8, 120, 29, 128]
abbrev dktX3_solve_2 : List UInt8 := dkwX3_solve_2 ++ dktX3_solve_3
def dkwX3_solve_1 : List UInt8 := [154, 0, 7, 3, 167, 0, 5, 18, 88, 79, 132, 2, 1, 167, 255, 221, 42, 180, 0, 120, 4, 100, 61, 28]
abbrev dktX3_solve_1 : List UInt8 := dkwX3_solve_1 ++ dktX3_solve_2
def dkwX3_solve_0 : List UInt8 := [3, 61, 28, 42, 182, 1, 51, 163, 0, 33, 42, 180, 0, 82, 42, 180, 0, 120, 16, 8, 120, 28, 128, 28]
abbrev dktX3_solve_0 : List UInt8 := dkwX3_solve_0 ++ dktX3_solve_1
theorem dksX3_solve_0 : cX3_solve.data.toList.drop 0 = dktX3_solve_0 := by decide +kernel
theorem dksX3_solve_1 : cX3_solve.data.toList.drop 24 = dktX3_solve_1 := dk_seg dksX3_solve_0 24 rfl rfl
theorem dksX3_solve_2 : cX3_solve.data.toList.drop 48 = dktX3_solve_2 := dk_seg dksX3_solve_1 24 rfl rfl
theorem dksX3_solve_3 : cX3_solve.data.toList.drop 71 = dktX3_solve_3 := dk_seg dksX3_solve_2 23 rfl rfl
theorem dksX3_solve_4 : cX3_solve.data.toList.drop 94 = dktX3_solve_4 := dk_seg dksX3_solve_3 23 rfl rfl
theorem dksX3_solve_5 : cX3_solve.data.toList.drop 118 = dktX3_solve_5 := dk_seg dksX3_solve_4 24 rfl rfl
theorem dksX3_solve_6 : cX3_solve.data.toList.drop 141 = dktX3_solve_6 := dk_seg dksX3_solve_5 23 rfl rfl
theorem dksX3_solve_7 : cX3_solve.data.toList.drop 165 = dktX3_solve_7 := dk_seg dksX3_solve_6 24 rfl rfl
theorem dksX3_solve_8 : cX3_solve.data.toList.drop 189 = dktX3_solve_8 := dk_seg dksX3_solve_7 24 rfl rfl
theorem dksX3_solve_9 : cX3_solve.data.toList.drop 212 = dktX3_solve_9 := dk_seg dksX3_solve_8 23 rfl rfl
theorem dksX3_solve_10 : cX3_solve.data.toList.drop 236 = dktX3_solve_10 := dk_seg dksX3_solve_9 24 rfl rfl
theorem dX3_solve_0 : decode cX3_solve 0 = .ok (.iconst 0, 1) := dk_3 (dk_at dksX3_solve_0 0 rfl rfl)
theorem dX3_solve_1 : decode cX3_solve 1 = .ok (.istore_n 2, 1) := dk_61 (dk_at dksX3_solve_0 1 rfl rfl)
theorem dX3_solve_2 : decode cX3_solve 2 = .ok (.iload_n 2, 1) := dk_28 (dk_at dksX3_solve_0 2 rfl rfl)
theorem dX3_solve_3 : decode cX3_solve 3 = .ok (.aload_n 0, 1) := dk_42 (dk_at dksX3_solve_0 3 rfl rfl)
theorem dX3_solve_4 : decode cX3_solve 4 = .ok (.invokevirtual 307, 3) := dk_182 1 51 (dk_at dksX3_solve_0 4 rfl rfl)
theorem dX3_solve_7 : decode cX3_solve 7 = .ok (.if_icmp .gt 33, 3) := dk_163 0 33 (dk_at dksX3_solve_0 7 rfl rfl)
theorem dX3_solve_10 : decode cX3_solve 10 = .ok (.aload_n 0, 1) := dk_42 (dk_at dksX3_solve_0 10 rfl rfl)
theorem dX3_solve_11 : decode cX3_solve 11 = .ok (.getfield 82, 3) := dk_180 0 82 (dk_at dksX3_solve_0 11 rfl rfl)
theorem dX3_solve_14 : decode cX3_solve 14 = .ok (.aload_n 0, 1) := dk_42 (dk_at dksX3_solve_0 14 rfl rfl)
theorem dX3_solve_15 : decode cX3_solve 15 = .ok (.getfield 120, 3) := dk_180 0 120 (dk_at dksX3_solve_0 15 rfl rfl)
theorem dX3_solve_18 : decode cX3_solve 18 = .ok (.bipush 8, 2) := dk_16 8 (dk_at dksX3_solve_0 18 rfl rfl)
theorem dX3_solve_20 : decode cX3_solve 20 = .ok (.ishl, 1) := dk_120 (dk_at dksX3_solve_0 20 rfl rfl)
theorem dX3_solve_21 : decode cX3_solve 21 = .ok (.iload_n 2, 1) := dk_28 (dk_at dksX3_solve_0 21 rfl rfl)
theorem dX3_solve_22 : decode cX3_solve 22 = .ok (.ior, 1) := dk_128 (dk_at dksX3_solve_0 22 rfl rfl)
theorem dX3_solve_23 : decode cX3_solve 23 = .ok (.iload_n 2, 1) := dk_28 (dk_at dksX3_solve_0 23 rfl rfl)
theorem dX3_solve_24 : decode cX3_solve 24 = .ok (.ifCond .ne 7, 3) := dk_154 0 7 (dk_at dksX3_solve_1 0 rfl rfl)
theorem dX3_solve_27 : decode cX3_solve 27 = .ok (.iconst 0, 1) := dk_3 (dk_at dksX3_solve_1 3 rfl rfl)
theorem dX3_solve_28 : decode cX3_solve 28 = .ok (.goto 5, 3) := dk_167 0 5 (dk_at dksX3_solve_1 4 rfl rfl)
theorem dX3_solve_31 : decode cX3_solve 31 = .ok (.ldc 88, 2) := dk_18 88 (dk_at dksX3_solve_1 7 rfl rfl)
theorem dX3_solve_33 : decode cX3_solve 33 = .ok (.iastore, 1) := dk_79 (dk_at dksX3_solve_1 9 rfl rfl)
theorem dX3_solve_34 : decode cX3_solve 34 = .ok (.iinc 2 1, 3) := dk_132 2 1 (dk_at dksX3_solve_1 10 rfl rfl)
theorem dX3_solve_37 : decode cX3_solve 37 = .ok (.goto (-35), 3) := dk_167 255 221 (dk_at dksX3_solve_1 13 rfl rfl)
theorem dX3_solve_40 : decode cX3_solve 40 = .ok (.aload_n 0, 1) := dk_42 (dk_at dksX3_solve_1 16 rfl rfl)
theorem dX3_solve_41 : decode cX3_solve 41 = .ok (.getfield 120, 3) := dk_180 0 120 (dk_at dksX3_solve_1 17 rfl rfl)
theorem dX3_solve_44 : decode cX3_solve 44 = .ok (.iconst 1, 1) := dk_4 (dk_at dksX3_solve_1 20 rfl rfl)
theorem dX3_solve_45 : decode cX3_solve 45 = .ok (.isub, 1) := dk_100 (dk_at dksX3_solve_1 21 rfl rfl)
theorem dX3_solve_46 : decode cX3_solve 46 = .ok (.istore_n 2, 1) := dk_61 (dk_at dksX3_solve_1 22 rfl rfl)
theorem dX3_solve_47 : decode cX3_solve 47 = .ok (.iload_n 2, 1) := dk_28 (dk_at dksX3_solve_1 23 rfl rfl)
theorem dX3_solve_48 : decode cX3_solve 48 = .ok (.ifCond .lt 191, 3) := dk_155 0 191 (dk_at dksX3_solve_2 0 rfl rfl)
theorem dX3_solve_51 : decode cX3_solve 51 = .ok (.iconst 0, 1) := dk_3 (dk_at dksX3_solve_2 3 rfl rfl)
theorem dX3_solve_52 : decode cX3_solve 52 = .ok (.istore_n 3, 1) := dk_62 (dk_at dksX3_solve_2 4 rfl rfl)
theorem dX3_solve_53 : decode cX3_solve 53 = .ok (.iload_n 3, 1) := dk_29 (dk_at dksX3_solve_2 5 rfl rfl)
theorem dX3_solve_54 : decode cX3_solve 54 = .ok (.aload_n 0, 1) := dk_42 (dk_at dksX3_solve_2 6 rfl rfl)
theorem dX3_solve_55 : decode cX3_solve 55 = .ok (.invokevirtual 307, 3) := dk_182 1 51 (dk_at dksX3_solve_2 7 rfl rfl)
theorem dX3_solve_58 : decode cX3_solve 58 = .ok (.if_icmp .gt 22, 3) := dk_163 0 22 (dk_at dksX3_solve_2 10 rfl rfl)
theorem dX3_solve_61 : decode cX3_solve 61 = .ok (.aload_n 0, 1) := dk_42 (dk_at dksX3_solve_2 13 rfl rfl)
theorem dX3_solve_62 : decode cX3_solve 62 = .ok (.getfield 82, 3) := dk_180 0 82 (dk_at dksX3_solve_2 14 rfl rfl)
theorem dX3_solve_65 : decode cX3_solve 65 = .ok (.iload_n 2, 1) := dk_28 (dk_at dksX3_solve_2 17 rfl rfl)
theorem dX3_solve_66 : decode cX3_solve 66 = .ok (.bipush 8, 2) := dk_16 8 (dk_at dksX3_solve_2 18 rfl rfl)
theorem dX3_solve_68 : decode cX3_solve 68 = .ok (.ishl, 1) := dk_120 (dk_at dksX3_solve_2 20 rfl rfl)
theorem dX3_solve_69 : decode cX3_solve 69 = .ok (.iload_n 3, 1) := dk_29 (dk_at dksX3_solve_2 21 rfl rfl)
theorem dX3_solve_70 : decode cX3_solve 70 = .ok (.ior, 1) := dk_128 (dk_at dksX3_solve_2 22 rfl rfl)
theorem dX3_solve_71 : decode cX3_solve 71 = .ok (.ldc 88, 2) := dk_18 88 (dk_at dksX3_solve_3 0 rfl rfl)
theorem dX3_solve_73 : decode cX3_solve 73 = .ok (.iastore, 1) := dk_79 (dk_at dksX3_solve_3 2 rfl rfl)
theorem dX3_solve_74 : decode cX3_solve 74 = .ok (.iinc 3 1, 3) := dk_132 3 1 (dk_at dksX3_solve_3 3 rfl rfl)
theorem dX3_solve_77 : decode cX3_solve 77 = .ok (.goto (-24), 3) := dk_167 255 232 (dk_at dksX3_solve_3 6 rfl rfl)
theorem dX3_solve_80 : decode cX3_solve 80 = .ok (.aload_n 0, 1) := dk_42 (dk_at dksX3_solve_3 9 rfl rfl)
theorem dX3_solve_81 : decode cX3_solve 81 = .ok (.getfield 67, 3) := dk_180 0 67 (dk_at dksX3_solve_3 10 rfl rfl)
theorem dX3_solve_84 : decode cX3_solve 84 = .ok (.iload_n 2, 1) := dk_28 (dk_at dksX3_solve_3 13 rfl rfl)
theorem dX3_solve_85 : decode cX3_solve 85 = .ok (.iaload, 1) := dk_46 (dk_at dksX3_solve_3 14 rfl rfl)
theorem dX3_solve_86 : decode cX3_solve 86 = .ok (.istore_n 3, 1) := dk_62 (dk_at dksX3_solve_3 15 rfl rfl)
theorem dX3_solve_87 : decode cX3_solve 87 = .ok (.iload_n 3, 1) := dk_29 (dk_at dksX3_solve_3 16 rfl rfl)
theorem dX3_solve_88 : decode cX3_solve 88 = .ok (.ifCond .lt 145, 3) := dk_155 0 145 (dk_at dksX3_solve_3 17 rfl rfl)
theorem dX3_solve_91 : decode cX3_solve 91 = .ok (.aload_n 0, 1) := dk_42 (dk_at dksX3_solve_3 20 rfl rfl)
theorem dX3_solve_92 : decode cX3_solve 92 = .ok (.iload_n 2, 1) := dk_28 (dk_at dksX3_solve_3 21 rfl rfl)
theorem dX3_solve_93 : decode cX3_solve 93 = .ok (.iload_n 3, 1) := dk_29 (dk_at dksX3_solve_3 22 rfl rfl)
theorem dX3_solve_94 : decode cX3_solve 94 = .ok (.invokevirtual 313, 3) := dk_182 1 57 (dk_at dksX3_solve_4 0 rfl rfl)
theorem dX3_solve_97 : decode cX3_solve 97 = .ok (.ifCond .ne 6, 3) := dk_154 0 6 (dk_at dksX3_solve_4 3 rfl rfl)
theorem dX3_solve_100 : decode cX3_solve 100 = .ok (.goto 111, 3) := dk_167 0 111 (dk_at dksX3_solve_4 6 rfl rfl)
theorem dX3_solve_103 : decode cX3_solve 103 = .ok (.aload_n 0, 1) := dk_42 (dk_at dksX3_solve_4 9 rfl rfl)
theorem dX3_solve_104 : decode cX3_solve 104 = .ok (.iload_n 1, 1) := dk_27 (dk_at dksX3_solve_4 10 rfl rfl)
theorem dX3_solve_105 : decode cX3_solve 105 = .ok (.iload_n 2, 1) := dk_28 (dk_at dksX3_solve_4 11 rfl rfl)
theorem dX3_solve_106 : decode cX3_solve 106 = .ok (.iload_n 3, 1) := dk_29 (dk_at dksX3_solve_4 12 rfl rfl)
theorem dX3_solve_107 : decode cX3_solve 107 = .ok (.invokevirtual 316, 3) := dk_182 1 60 (dk_at dksX3_solve_4 13 rfl rfl)
theorem dX3_solve_110 : decode cX3_solve 110 = .ok (.istore 4, 2) := dk_54 4 (dk_at dksX3_solve_4 16 rfl rfl)
theorem dX3_solve_112 : decode cX3_solve 112 = .ok (.aload_n 0, 1) := dk_42 (dk_at dksX3_solve_4 18 rfl rfl)
theorem dX3_solve_113 : decode cX3_solve 113 = .ok (.invokevirtual 307, 3) := dk_182 1 51 (dk_at dksX3_solve_4 19 rfl rfl)
theorem dX3_solve_116 : decode cX3_solve 116 = .ok (.iload_n 3, 1) := dk_29 (dk_at dksX3_solve_4 22 rfl rfl)
theorem dX3_solve_117 : decode cX3_solve 117 = .ok (.iconst (-1), 1) := dk_2 (dk_at dksX3_solve_4 23 rfl rfl)
theorem dX3_solve_118 : decode cX3_solve 118 = .ok (.ixor, 1) := dk_130 (dk_at dksX3_solve_5 0 rfl rfl)
theorem dX3_solve_119 : decode cX3_solve 119 = .ok (.iand, 1) := dk_126 (dk_at dksX3_solve_5 1 rfl rfl)
theorem dX3_solve_120 : decode cX3_solve 120 = .ok (.istore 5, 2) := dk_54 5 (dk_at dksX3_solve_5 2 rfl rfl)
theorem dX3_solve_122 : decode cX3_solve 122 = .ok (.iload 5, 2) := dk_21 5 (dk_at dksX3_solve_5 4 rfl rfl)
theorem dX3_solve_124 : decode cX3_solve 124 = .ok (.istore 6, 2) := dk_54 6 (dk_at dksX3_solve_5 6 rfl rfl)
theorem dX3_solve_126 : decode cX3_solve 126 = .ok (.iload 6, 2) := dk_21 6 (dk_at dksX3_solve_5 8 rfl rfl)
theorem dX3_solve_128 : decode cX3_solve 128 = .ok (.ifCond .lt 83, 3) := dk_155 0 83 (dk_at dksX3_solve_5 10 rfl rfl)
theorem dX3_solve_131 : decode cX3_solve 131 = .ok (.aload_n 0, 1) := dk_42 (dk_at dksX3_solve_5 13 rfl rfl)
theorem dX3_solve_132 : decode cX3_solve 132 = .ok (.getfield 82, 3) := dk_180 0 82 (dk_at dksX3_solve_5 14 rfl rfl)
theorem dX3_solve_135 : decode cX3_solve 135 = .ok (.iload_n 2, 1) := dk_28 (dk_at dksX3_solve_5 17 rfl rfl)
theorem dX3_solve_136 : decode cX3_solve 136 = .ok (.iconst 1, 1) := dk_4 (dk_at dksX3_solve_5 18 rfl rfl)
theorem dX3_solve_137 : decode cX3_solve 137 = .ok (.iadd, 1) := dk_96 (dk_at dksX3_solve_5 19 rfl rfl)
theorem dX3_solve_138 : decode cX3_solve 138 = .ok (.bipush 8, 2) := dk_16 8 (dk_at dksX3_solve_5 20 rfl rfl)
theorem dX3_solve_140 : decode cX3_solve 140 = .ok (.ishl, 1) := dk_120 (dk_at dksX3_solve_5 22 rfl rfl)
theorem dX3_solve_141 : decode cX3_solve 141 = .ok (.iload 6, 2) := dk_21 6 (dk_at dksX3_solve_6 0 rfl rfl)
theorem dX3_solve_143 : decode cX3_solve 143 = .ok (.ior, 1) := dk_128 (dk_at dksX3_solve_6 2 rfl rfl)
theorem dX3_solve_144 : decode cX3_solve 144 = .ok (.iaload, 1) := dk_46 (dk_at dksX3_solve_6 3 rfl rfl)
theorem dX3_solve_145 : decode cX3_solve 145 = .ok (.istore 7, 2) := dk_54 7 (dk_at dksX3_solve_6 4 rfl rfl)
theorem dX3_solve_147 : decode cX3_solve 147 = .ok (.iload 7, 2) := dk_21 7 (dk_at dksX3_solve_6 6 rfl rfl)
theorem dX3_solve_149 : decode cX3_solve 149 = .ok (.ldc 88, 2) := dk_18 88 (dk_at dksX3_solve_6 8 rfl rfl)
theorem dX3_solve_151 : decode cX3_solve 151 = .ok (.if_icmp .ge 39, 3) := dk_162 0 39 (dk_at dksX3_solve_6 10 rfl rfl)
theorem dX3_solve_154 : decode cX3_solve 154 = .ok (.aload_n 0, 1) := dk_42 (dk_at dksX3_solve_6 13 rfl rfl)
theorem dX3_solve_155 : decode cX3_solve 155 = .ok (.getfield 82, 3) := dk_180 0 82 (dk_at dksX3_solve_6 14 rfl rfl)
theorem dX3_solve_158 : decode cX3_solve 158 = .ok (.iload_n 2, 1) := dk_28 (dk_at dksX3_solve_6 17 rfl rfl)
theorem dX3_solve_159 : decode cX3_solve 159 = .ok (.bipush 8, 2) := dk_16 8 (dk_at dksX3_solve_6 18 rfl rfl)
theorem dX3_solve_161 : decode cX3_solve 161 = .ok (.ishl, 1) := dk_120 (dk_at dksX3_solve_6 20 rfl rfl)
theorem dX3_solve_162 : decode cX3_solve 162 = .ok (.iload 6, 2) := dk_21 6 (dk_at dksX3_solve_6 21 rfl rfl)
theorem dX3_solve_164 : decode cX3_solve 164 = .ok (.ior, 1) := dk_128 (dk_at dksX3_solve_6 23 rfl rfl)
theorem dX3_solve_165 : decode cX3_solve 165 = .ok (.iload_n 3, 1) := dk_29 (dk_at dksX3_solve_7 0 rfl rfl)
theorem dX3_solve_166 : decode cX3_solve 166 = .ok (.ior, 1) := dk_128 (dk_at dksX3_solve_7 1 rfl rfl)
theorem dX3_solve_167 : decode cX3_solve 167 = .ok (.aload_n 0, 1) := dk_42 (dk_at dksX3_solve_7 2 rfl rfl)
theorem dX3_solve_168 : decode cX3_solve 168 = .ok (.getfield 82, 3) := dk_180 0 82 (dk_at dksX3_solve_7 3 rfl rfl)
theorem dX3_solve_171 : decode cX3_solve 171 = .ok (.iload_n 2, 1) := dk_28 (dk_at dksX3_solve_7 6 rfl rfl)
theorem dX3_solve_172 : decode cX3_solve 172 = .ok (.bipush 8, 2) := dk_16 8 (dk_at dksX3_solve_7 7 rfl rfl)
theorem dX3_solve_174 : decode cX3_solve 174 = .ok (.ishl, 1) := dk_120 (dk_at dksX3_solve_7 9 rfl rfl)
theorem dX3_solve_175 : decode cX3_solve 175 = .ok (.iload 6, 2) := dk_21 6 (dk_at dksX3_solve_7 10 rfl rfl)
theorem dX3_solve_177 : decode cX3_solve 177 = .ok (.ior, 1) := dk_128 (dk_at dksX3_solve_7 12 rfl rfl)
theorem dX3_solve_178 : decode cX3_solve 178 = .ok (.iload_n 3, 1) := dk_29 (dk_at dksX3_solve_7 13 rfl rfl)
theorem dX3_solve_179 : decode cX3_solve 179 = .ok (.ior, 1) := dk_128 (dk_at dksX3_solve_7 14 rfl rfl)
theorem dX3_solve_180 : decode cX3_solve 180 = .ok (.iaload, 1) := dk_46 (dk_at dksX3_solve_7 15 rfl rfl)
theorem dX3_solve_181 : decode cX3_solve 181 = .ok (.iload 7, 2) := dk_21 7 (dk_at dksX3_solve_7 16 rfl rfl)
theorem dX3_solve_183 : decode cX3_solve 183 = .ok (.iload 4, 2) := dk_21 4 (dk_at dksX3_solve_7 18 rfl rfl)
theorem dX3_solve_185 : decode cX3_solve 185 = .ok (.iadd, 1) := dk_96 (dk_at dksX3_solve_7 20 rfl rfl)
theorem dX3_solve_186 : decode cX3_solve 186 = .ok (.invokestatic 226, 3) := dk_184 0 226 (dk_at dksX3_solve_7 21 rfl rfl)
theorem dX3_solve_189 : decode cX3_solve 189 = .ok (.iastore, 1) := dk_79 (dk_at dksX3_solve_8 0 rfl rfl)
theorem dX3_solve_190 : decode cX3_solve 190 = .ok (.iload 6, 2) := dk_21 6 (dk_at dksX3_solve_8 1 rfl rfl)
theorem dX3_solve_192 : decode cX3_solve 192 = .ok (.ifCond .ne 7, 3) := dk_154 0 7 (dk_at dksX3_solve_8 3 rfl rfl)
theorem dX3_solve_195 : decode cX3_solve 195 = .ok (.iconst (-1), 1) := dk_2 (dk_at dksX3_solve_8 6 rfl rfl)
theorem dX3_solve_196 : decode cX3_solve 196 = .ok (.goto 10, 3) := dk_167 0 10 (dk_at dksX3_solve_8 7 rfl rfl)
theorem dX3_solve_199 : decode cX3_solve 199 = .ok (.iload 6, 2) := dk_21 6 (dk_at dksX3_solve_8 10 rfl rfl)
theorem dX3_solve_201 : decode cX3_solve 201 = .ok (.iconst 1, 1) := dk_4 (dk_at dksX3_solve_8 12 rfl rfl)
theorem dX3_solve_202 : decode cX3_solve 202 = .ok (.isub, 1) := dk_100 (dk_at dksX3_solve_8 13 rfl rfl)
theorem dX3_solve_203 : decode cX3_solve 203 = .ok (.iload 5, 2) := dk_21 5 (dk_at dksX3_solve_8 14 rfl rfl)
theorem dX3_solve_205 : decode cX3_solve 205 = .ok (.iand, 1) := dk_126 (dk_at dksX3_solve_8 16 rfl rfl)
theorem dX3_solve_206 : decode cX3_solve 206 = .ok (.istore 6, 2) := dk_54 6 (dk_at dksX3_solve_8 17 rfl rfl)
theorem dX3_solve_208 : decode cX3_solve 208 = .ok (.goto (-82), 3) := dk_167 255 174 (dk_at dksX3_solve_8 19 rfl rfl)
theorem dX3_solve_211 : decode cX3_solve 211 = .ok (.iload_n 3, 1) := dk_29 (dk_at dksX3_solve_8 22 rfl rfl)
theorem dX3_solve_212 : decode cX3_solve 212 = .ok (.ifCond .ne 7, 3) := dk_154 0 7 (dk_at dksX3_solve_9 0 rfl rfl)
theorem dX3_solve_215 : decode cX3_solve 215 = .ok (.iconst (-1), 1) := dk_2 (dk_at dksX3_solve_9 3 rfl rfl)
theorem dX3_solve_216 : decode cX3_solve 216 = .ok (.goto 13, 3) := dk_167 0 13 (dk_at dksX3_solve_9 4 rfl rfl)
theorem dX3_solve_219 : decode cX3_solve 219 = .ok (.iload_n 3, 1) := dk_29 (dk_at dksX3_solve_9 7 rfl rfl)
theorem dX3_solve_220 : decode cX3_solve 220 = .ok (.iconst 1, 1) := dk_4 (dk_at dksX3_solve_9 8 rfl rfl)
theorem dX3_solve_221 : decode cX3_solve 221 = .ok (.isub, 1) := dk_100 (dk_at dksX3_solve_9 9 rfl rfl)
theorem dX3_solve_222 : decode cX3_solve 222 = .ok (.aload_n 0, 1) := dk_42 (dk_at dksX3_solve_9 10 rfl rfl)
theorem dX3_solve_223 : decode cX3_solve 223 = .ok (.getfield 67, 3) := dk_180 0 67 (dk_at dksX3_solve_9 11 rfl rfl)
theorem dX3_solve_226 : decode cX3_solve 226 = .ok (.iload_n 2, 1) := dk_28 (dk_at dksX3_solve_9 14 rfl rfl)
theorem dX3_solve_227 : decode cX3_solve 227 = .ok (.iaload, 1) := dk_46 (dk_at dksX3_solve_9 15 rfl rfl)
theorem dX3_solve_228 : decode cX3_solve 228 = .ok (.iand, 1) := dk_126 (dk_at dksX3_solve_9 16 rfl rfl)
theorem dX3_solve_229 : decode cX3_solve 229 = .ok (.istore_n 3, 1) := dk_62 (dk_at dksX3_solve_9 17 rfl rfl)
theorem dX3_solve_230 : decode cX3_solve 230 = .ok (.goto (-143), 3) := dk_167 255 113 (dk_at dksX3_solve_9 18 rfl rfl)
theorem dX3_solve_233 : decode cX3_solve 233 = .ok (.iinc 2 (-1), 3) := dk_132 2 255 (dk_at dksX3_solve_9 21 rfl rfl)
theorem dX3_solve_236 : decode cX3_solve 236 = .ok (.goto (-189), 3) := dk_167 255 67 (dk_at dksX3_solve_10 0 rfl rfl)
theorem dX3_solve_239 : decode cX3_solve 239 = .ok (.aload_n 0, 1) := dk_42 (dk_at dksX3_solve_10 3 rfl rfl)
theorem dX3_solve_240 : decode cX3_solve 240 = .ok (.getfield 82, 3) := dk_180 0 82 (dk_at dksX3_solve_10 4 rfl rfl)
theorem dX3_solve_243 : decode cX3_solve 243 = .ok (.aload_n 0, 1) := dk_42 (dk_at dksX3_solve_10 7 rfl rfl)
theorem dX3_solve_244 : decode cX3_solve 244 = .ok (.invokevirtual 307, 3) := dk_182 1 51 (dk_at dksX3_solve_10 8 rfl rfl)
theorem dX3_solve_247 : decode cX3_solve 247 = .ok (.iaload, 1) := dk_46 (dk_at dksX3_solve_10 11 rfl rfl)
theorem dX3_solve_248 : decode cX3_solve 248 = .ok (.ireturn, 1) := dk_172 (dk_at dksX3_solve_10 12 rfl rfl)
abbrev cX3_canTake : ByteArray := prog_9_method_62_code
def yX3_canTake : MethodName := ⟨RX3, "canTake", "(II)Z"⟩
def dkwX3_canTake_1 : List UInt8 := [154, 0, 20, 42, 27, 28, 182, 1, 54, 42, 180, 0, 89, 163, 0, 7, 4, 167, 0, 4, 3, 172]
abbrev dktX3_canTake_1 : List UInt8 := dkwX3_canTake_1 ++ []
def dkwX3_canTake_0 : List UInt8 := [28, 184, 0, 221, 42, 180, 0, 20, 27, 46, 163, 0, 33, 42, 180, 0, 70, 27, 46, 28, 2, 130, 126]
abbrev dktX3_canTake_0 : List UInt8 := dkwX3_canTake_0 ++ dktX3_canTake_1
theorem dksX3_canTake_0 : cX3_canTake.data.toList.drop 0 = dktX3_canTake_0 := by decide +kernel
theorem dksX3_canTake_1 : cX3_canTake.data.toList.drop 23 = dktX3_canTake_1 := dk_seg dksX3_canTake_0 23 rfl rfl
theorem dX3_canTake_0 : decode cX3_canTake 0 = .ok (.iload_n 2, 1) := dk_28 (dk_at dksX3_canTake_0 0 rfl rfl)
theorem dX3_canTake_1 : decode cX3_canTake 1 = .ok (.invokestatic 221, 3) := dk_184 0 221 (dk_at dksX3_canTake_0 1 rfl rfl)
theorem dX3_canTake_4 : decode cX3_canTake 4 = .ok (.aload_n 0, 1) := dk_42 (dk_at dksX3_canTake_0 4 rfl rfl)
theorem dX3_canTake_5 : decode cX3_canTake 5 = .ok (.getfield 20, 3) := dk_180 0 20 (dk_at dksX3_canTake_0 5 rfl rfl)
theorem dX3_canTake_8 : decode cX3_canTake 8 = .ok (.iload_n 1, 1) := dk_27 (dk_at dksX3_canTake_0 8 rfl rfl)
theorem dX3_canTake_9 : decode cX3_canTake 9 = .ok (.iaload, 1) := dk_46 (dk_at dksX3_canTake_0 9 rfl rfl)
theorem dX3_canTake_10 : decode cX3_canTake 10 = .ok (.if_icmp .gt 33, 3) := dk_163 0 33 (dk_at dksX3_canTake_0 10 rfl rfl)
theorem dX3_canTake_13 : decode cX3_canTake 13 = .ok (.aload_n 0, 1) := dk_42 (dk_at dksX3_canTake_0 13 rfl rfl)
theorem dX3_canTake_14 : decode cX3_canTake 14 = .ok (.getfield 70, 3) := dk_180 0 70 (dk_at dksX3_canTake_0 14 rfl rfl)
theorem dX3_canTake_17 : decode cX3_canTake 17 = .ok (.iload_n 1, 1) := dk_27 (dk_at dksX3_canTake_0 17 rfl rfl)
theorem dX3_canTake_18 : decode cX3_canTake 18 = .ok (.iaload, 1) := dk_46 (dk_at dksX3_canTake_0 18 rfl rfl)
theorem dX3_canTake_19 : decode cX3_canTake 19 = .ok (.iload_n 2, 1) := dk_28 (dk_at dksX3_canTake_0 19 rfl rfl)
theorem dX3_canTake_20 : decode cX3_canTake 20 = .ok (.iconst (-1), 1) := dk_2 (dk_at dksX3_canTake_0 20 rfl rfl)
theorem dX3_canTake_21 : decode cX3_canTake 21 = .ok (.ixor, 1) := dk_130 (dk_at dksX3_canTake_0 21 rfl rfl)
theorem dX3_canTake_22 : decode cX3_canTake 22 = .ok (.iand, 1) := dk_126 (dk_at dksX3_canTake_0 22 rfl rfl)
theorem dX3_canTake_23 : decode cX3_canTake 23 = .ok (.ifCond .ne 20, 3) := dk_154 0 20 (dk_at dksX3_canTake_1 0 rfl rfl)
theorem dX3_canTake_26 : decode cX3_canTake 26 = .ok (.aload_n 0, 1) := dk_42 (dk_at dksX3_canTake_1 3 rfl rfl)
theorem dX3_canTake_27 : decode cX3_canTake 27 = .ok (.iload_n 1, 1) := dk_27 (dk_at dksX3_canTake_1 4 rfl rfl)
theorem dX3_canTake_28 : decode cX3_canTake 28 = .ok (.iload_n 2, 1) := dk_28 (dk_at dksX3_canTake_1 5 rfl rfl)
theorem dX3_canTake_29 : decode cX3_canTake 29 = .ok (.invokevirtual 310, 3) := dk_182 1 54 (dk_at dksX3_canTake_1 6 rfl rfl)
theorem dX3_canTake_32 : decode cX3_canTake 32 = .ok (.aload_n 0, 1) := dk_42 (dk_at dksX3_canTake_1 9 rfl rfl)
theorem dX3_canTake_33 : decode cX3_canTake 33 = .ok (.getfield 89, 3) := dk_180 0 89 (dk_at dksX3_canTake_1 10 rfl rfl)
theorem dX3_canTake_36 : decode cX3_canTake 36 = .ok (.if_icmp .gt 7, 3) := dk_163 0 7 (dk_at dksX3_canTake_1 13 rfl rfl)
theorem dX3_canTake_39 : decode cX3_canTake 39 = .ok (.iconst 1, 1) := dk_4 (dk_at dksX3_canTake_1 16 rfl rfl)
theorem dX3_canTake_40 : decode cX3_canTake 40 = .ok (.goto 4, 3) := dk_167 0 4 (dk_at dksX3_canTake_1 17 rfl rfl)
theorem dX3_canTake_43 : decode cX3_canTake 43 = .ok (.iconst 0, 1) := dk_3 (dk_at dksX3_canTake_1 20 rfl rfl)
theorem dX3_canTake_44 : decode cX3_canTake 44 = .ok (.ireturn, 1) := dk_172 (dk_at dksX3_canTake_1 21 rfl rfl)
abbrev cX3_hardBy : ByteArray := prog_9_method_60_code
def yX3_hardBy : MethodName := ⟨RX3, "hardBy", "(II)I"⟩
def dkwX3_hardBy_2 : List UInt8 := [172]
abbrev dktX3_hardBy_2 : List UInt8 := dkwX3_hardBy_2 ++ []
def dkwX3_hardBy_1 : List UInt8 := [180, 0, 79, 16, 8, 27, 104, 21, 4, 96, 46, 167, 0, 4, 3, 96, 62, 132, 4, 1, 167, 255, 218, 29]
abbrev dktX3_hardBy_1 : List UInt8 := dkwX3_hardBy_1 ++ dktX3_hardBy_2
def dkwX3_hardBy_0 : List UInt8 := [3, 62, 3, 54, 4, 21, 4, 16, 8, 162, 0, 37, 29, 28, 21, 4, 184, 1, 15, 153, 0, 18, 42]
abbrev dktX3_hardBy_0 : List UInt8 := dkwX3_hardBy_0 ++ dktX3_hardBy_1
theorem dksX3_hardBy_0 : cX3_hardBy.data.toList.drop 0 = dktX3_hardBy_0 := by decide +kernel
theorem dksX3_hardBy_1 : cX3_hardBy.data.toList.drop 23 = dktX3_hardBy_1 := dk_seg dksX3_hardBy_0 23 rfl rfl
theorem dksX3_hardBy_2 : cX3_hardBy.data.toList.drop 47 = dktX3_hardBy_2 := dk_seg dksX3_hardBy_1 24 rfl rfl
theorem dX3_hardBy_0 : decode cX3_hardBy 0 = .ok (.iconst 0, 1) := dk_3 (dk_at dksX3_hardBy_0 0 rfl rfl)
theorem dX3_hardBy_1 : decode cX3_hardBy 1 = .ok (.istore_n 3, 1) := dk_62 (dk_at dksX3_hardBy_0 1 rfl rfl)
theorem dX3_hardBy_2 : decode cX3_hardBy 2 = .ok (.iconst 0, 1) := dk_3 (dk_at dksX3_hardBy_0 2 rfl rfl)
theorem dX3_hardBy_3 : decode cX3_hardBy 3 = .ok (.istore 4, 2) := dk_54 4 (dk_at dksX3_hardBy_0 3 rfl rfl)
theorem dX3_hardBy_5 : decode cX3_hardBy 5 = .ok (.iload 4, 2) := dk_21 4 (dk_at dksX3_hardBy_0 5 rfl rfl)
theorem dX3_hardBy_7 : decode cX3_hardBy 7 = .ok (.bipush 8, 2) := dk_16 8 (dk_at dksX3_hardBy_0 7 rfl rfl)
theorem dX3_hardBy_9 : decode cX3_hardBy 9 = .ok (.if_icmp .ge 37, 3) := dk_162 0 37 (dk_at dksX3_hardBy_0 9 rfl rfl)
theorem dX3_hardBy_12 : decode cX3_hardBy 12 = .ok (.iload_n 3, 1) := dk_29 (dk_at dksX3_hardBy_0 12 rfl rfl)
theorem dX3_hardBy_13 : decode cX3_hardBy 13 = .ok (.iload_n 2, 1) := dk_28 (dk_at dksX3_hardBy_0 13 rfl rfl)
theorem dX3_hardBy_14 : decode cX3_hardBy 14 = .ok (.iload 4, 2) := dk_21 4 (dk_at dksX3_hardBy_0 14 rfl rfl)
theorem dX3_hardBy_16 : decode cX3_hardBy 16 = .ok (.invokestatic 271, 3) := dk_184 1 15 (dk_at dksX3_hardBy_0 16 rfl rfl)
theorem dX3_hardBy_19 : decode cX3_hardBy 19 = .ok (.ifCond .eq 18, 3) := dk_153 0 18 (dk_at dksX3_hardBy_0 19 rfl rfl)
theorem dX3_hardBy_22 : decode cX3_hardBy 22 = .ok (.aload_n 0, 1) := dk_42 (dk_at dksX3_hardBy_0 22 rfl rfl)
theorem dX3_hardBy_23 : decode cX3_hardBy 23 = .ok (.getfield 79, 3) := dk_180 0 79 (dk_at dksX3_hardBy_1 0 rfl rfl)
theorem dX3_hardBy_26 : decode cX3_hardBy 26 = .ok (.bipush 8, 2) := dk_16 8 (dk_at dksX3_hardBy_1 3 rfl rfl)
theorem dX3_hardBy_28 : decode cX3_hardBy 28 = .ok (.iload_n 1, 1) := dk_27 (dk_at dksX3_hardBy_1 5 rfl rfl)
theorem dX3_hardBy_29 : decode cX3_hardBy 29 = .ok (.imul, 1) := dk_104 (dk_at dksX3_hardBy_1 6 rfl rfl)
theorem dX3_hardBy_30 : decode cX3_hardBy 30 = .ok (.iload 4, 2) := dk_21 4 (dk_at dksX3_hardBy_1 7 rfl rfl)
theorem dX3_hardBy_32 : decode cX3_hardBy 32 = .ok (.iadd, 1) := dk_96 (dk_at dksX3_hardBy_1 9 rfl rfl)
theorem dX3_hardBy_33 : decode cX3_hardBy 33 = .ok (.iaload, 1) := dk_46 (dk_at dksX3_hardBy_1 10 rfl rfl)
theorem dX3_hardBy_34 : decode cX3_hardBy 34 = .ok (.goto 4, 3) := dk_167 0 4 (dk_at dksX3_hardBy_1 11 rfl rfl)
theorem dX3_hardBy_37 : decode cX3_hardBy 37 = .ok (.iconst 0, 1) := dk_3 (dk_at dksX3_hardBy_1 14 rfl rfl)
theorem dX3_hardBy_38 : decode cX3_hardBy 38 = .ok (.iadd, 1) := dk_96 (dk_at dksX3_hardBy_1 15 rfl rfl)
theorem dX3_hardBy_39 : decode cX3_hardBy 39 = .ok (.istore_n 3, 1) := dk_62 (dk_at dksX3_hardBy_1 16 rfl rfl)
theorem dX3_hardBy_40 : decode cX3_hardBy 40 = .ok (.iinc 4 1, 3) := dk_132 4 1 (dk_at dksX3_hardBy_1 17 rfl rfl)
theorem dX3_hardBy_43 : decode cX3_hardBy 43 = .ok (.goto (-38), 3) := dk_167 255 218 (dk_at dksX3_hardBy_1 20 rfl rfl)
theorem dX3_hardBy_46 : decode cX3_hardBy 46 = .ok (.iload_n 3, 1) := dk_29 (dk_at dksX3_hardBy_1 23 rfl rfl)
theorem dX3_hardBy_47 : decode cX3_hardBy 47 = .ok (.ireturn, 1) := dk_172 (dk_at dksX3_hardBy_2 0 rfl rfl)
abbrev cX3_costOf : ByteArray := prog_9_method_61_code
def yX3_costOf : MethodName := ⟨RX3, "costOf", "(III)I"⟩
def dkwX3_costOf_1 : List UInt8 := [28, 182, 0, 238, 2, 130, 126, 184, 0, 221, 167, 0, 4, 3, 172]
abbrev dktX3_costOf_1 : List UInt8 := dkwX3_costOf_1 ++ []
def dkwX3_costOf_0 : List UInt8 := [27, 154, 0, 12, 42, 28, 29, 182, 1, 54, 167, 0, 28, 27, 4, 160, 0, 22, 29, 42, 42, 180, 0, 9]
abbrev dktX3_costOf_0 : List UInt8 := dkwX3_costOf_0 ++ dktX3_costOf_1
theorem dksX3_costOf_0 : cX3_costOf.data.toList.drop 0 = dktX3_costOf_0 := by decide +kernel
theorem dksX3_costOf_1 : cX3_costOf.data.toList.drop 24 = dktX3_costOf_1 := dk_seg dksX3_costOf_0 24 rfl rfl
theorem dX3_costOf_0 : decode cX3_costOf 0 = .ok (.iload_n 1, 1) := dk_27 (dk_at dksX3_costOf_0 0 rfl rfl)
theorem dX3_costOf_1 : decode cX3_costOf 1 = .ok (.ifCond .ne 12, 3) := dk_154 0 12 (dk_at dksX3_costOf_0 1 rfl rfl)
theorem dX3_costOf_4 : decode cX3_costOf 4 = .ok (.aload_n 0, 1) := dk_42 (dk_at dksX3_costOf_0 4 rfl rfl)
theorem dX3_costOf_5 : decode cX3_costOf 5 = .ok (.iload_n 2, 1) := dk_28 (dk_at dksX3_costOf_0 5 rfl rfl)
theorem dX3_costOf_6 : decode cX3_costOf 6 = .ok (.iload_n 3, 1) := dk_29 (dk_at dksX3_costOf_0 6 rfl rfl)
theorem dX3_costOf_7 : decode cX3_costOf 7 = .ok (.invokevirtual 310, 3) := dk_182 1 54 (dk_at dksX3_costOf_0 7 rfl rfl)
theorem dX3_costOf_10 : decode cX3_costOf 10 = .ok (.goto 28, 3) := dk_167 0 28 (dk_at dksX3_costOf_0 10 rfl rfl)
theorem dX3_costOf_13 : decode cX3_costOf 13 = .ok (.iload_n 1, 1) := dk_27 (dk_at dksX3_costOf_0 13 rfl rfl)
theorem dX3_costOf_14 : decode cX3_costOf 14 = .ok (.iconst 1, 1) := dk_4 (dk_at dksX3_costOf_0 14 rfl rfl)
theorem dX3_costOf_15 : decode cX3_costOf 15 = .ok (.if_icmp .ne 22, 3) := dk_160 0 22 (dk_at dksX3_costOf_0 15 rfl rfl)
theorem dX3_costOf_18 : decode cX3_costOf 18 = .ok (.iload_n 3, 1) := dk_29 (dk_at dksX3_costOf_0 18 rfl rfl)
theorem dX3_costOf_19 : decode cX3_costOf 19 = .ok (.aload_n 0, 1) := dk_42 (dk_at dksX3_costOf_0 19 rfl rfl)
theorem dX3_costOf_20 : decode cX3_costOf 20 = .ok (.aload_n 0, 1) := dk_42 (dk_at dksX3_costOf_0 20 rfl rfl)
theorem dX3_costOf_21 : decode cX3_costOf 21 = .ok (.getfield 9, 3) := dk_180 0 9 (dk_at dksX3_costOf_0 21 rfl rfl)
theorem dX3_costOf_24 : decode cX3_costOf 24 = .ok (.iload_n 2, 1) := dk_28 (dk_at dksX3_costOf_1 0 rfl rfl)
theorem dX3_costOf_25 : decode cX3_costOf 25 = .ok (.invokevirtual 238, 3) := dk_182 0 238 (dk_at dksX3_costOf_1 1 rfl rfl)
theorem dX3_costOf_28 : decode cX3_costOf 28 = .ok (.iconst (-1), 1) := dk_2 (dk_at dksX3_costOf_1 4 rfl rfl)
theorem dX3_costOf_29 : decode cX3_costOf 29 = .ok (.ixor, 1) := dk_130 (dk_at dksX3_costOf_1 5 rfl rfl)
theorem dX3_costOf_30 : decode cX3_costOf 30 = .ok (.iand, 1) := dk_126 (dk_at dksX3_costOf_1 6 rfl rfl)
theorem dX3_costOf_31 : decode cX3_costOf 31 = .ok (.invokestatic 221, 3) := dk_184 0 221 (dk_at dksX3_costOf_1 7 rfl rfl)
theorem dX3_costOf_34 : decode cX3_costOf 34 = .ok (.goto 4, 3) := dk_167 0 4 (dk_at dksX3_costOf_1 10 rfl rfl)
theorem dX3_costOf_37 : decode cX3_costOf 37 = .ok (.iconst 0, 1) := dk_3 (dk_at dksX3_costOf_1 13 rfl rfl)
theorem dX3_costOf_38 : decode cX3_costOf 38 = .ok (.ireturn, 1) := dk_172 (dk_at dksX3_costOf_1 14 rfl rfl)
abbrev cX3_layLine : ByteArray := prog_9_method_69_code
def yX3_layLine : MethodName := ⟨RX3, "layLine", "(II)V"⟩
def dkwX3_layLine_4 : List UInt8 := [29, 21, 5, 79, 167, 0, 7, 42, 182, 1, 76, 132, 5, 1, 167, 255, 166, 132, 3, 1, 167, 255, 146, 177]
abbrev dktX3_layLine_4 : List UInt8 := dkwX3_layLine_4 ++ []
def dkwX3_layLine_3 : List UInt8 := [27, 182, 1, 73, 28, 160, 0, 7, 4, 167, 0, 4, 3, 54, 4, 21, 4, 153, 0, 14, 42, 180, 0, 92]
abbrev dktX3_layLine_3 : List UInt8 := dkwX3_layLine_3 ++ dktX3_layLine_4
def dkwX3_layLine_2 : List UInt8 := [167, 0, 59, 42, 182, 1, 64, 42, 29, 21, 5, 182, 1, 67, 42, 21, 5, 182, 1, 70, 153, 0, 16, 42]
abbrev dktX3_layLine_2 : List UInt8 := dkwX3_layLine_2 ++ dktX3_layLine_3
def dkwX3_layLine_1 : List UInt8 := [162, 0, 87, 21, 4, 154, 0, 82, 42, 180, 0, 67, 21, 5, 46, 29, 184, 1, 15, 154, 0, 6]
abbrev dktX3_layLine_1 : List UInt8 := dkwX3_layLine_1 ++ dktX3_layLine_2
def dkwX3_layLine_0 : List UInt8 := [3, 62, 29, 42, 180, 0, 13, 162, 0, 108, 3, 54, 4, 3, 54, 5, 21, 5, 42, 180, 0, 120]
abbrev dktX3_layLine_0 : List UInt8 := dkwX3_layLine_0 ++ dktX3_layLine_1
theorem dksX3_layLine_0 : cX3_layLine.data.toList.drop 0 = dktX3_layLine_0 := by decide +kernel
theorem dksX3_layLine_1 : cX3_layLine.data.toList.drop 22 = dktX3_layLine_1 := dk_seg dksX3_layLine_0 22 rfl rfl
theorem dksX3_layLine_2 : cX3_layLine.data.toList.drop 44 = dktX3_layLine_2 := dk_seg dksX3_layLine_1 22 rfl rfl
theorem dksX3_layLine_3 : cX3_layLine.data.toList.drop 68 = dktX3_layLine_3 := dk_seg dksX3_layLine_2 24 rfl rfl
theorem dksX3_layLine_4 : cX3_layLine.data.toList.drop 92 = dktX3_layLine_4 := dk_seg dksX3_layLine_3 24 rfl rfl
theorem dX3_layLine_0 : decode cX3_layLine 0 = .ok (.iconst 0, 1) := dk_3 (dk_at dksX3_layLine_0 0 rfl rfl)
theorem dX3_layLine_1 : decode cX3_layLine 1 = .ok (.istore_n 3, 1) := dk_62 (dk_at dksX3_layLine_0 1 rfl rfl)
theorem dX3_layLine_2 : decode cX3_layLine 2 = .ok (.iload_n 3, 1) := dk_29 (dk_at dksX3_layLine_0 2 rfl rfl)
theorem dX3_layLine_3 : decode cX3_layLine 3 = .ok (.aload_n 0, 1) := dk_42 (dk_at dksX3_layLine_0 3 rfl rfl)
theorem dX3_layLine_4 : decode cX3_layLine 4 = .ok (.getfield 13, 3) := dk_180 0 13 (dk_at dksX3_layLine_0 4 rfl rfl)
theorem dX3_layLine_7 : decode cX3_layLine 7 = .ok (.if_icmp .ge 108, 3) := dk_162 0 108 (dk_at dksX3_layLine_0 7 rfl rfl)
theorem dX3_layLine_10 : decode cX3_layLine 10 = .ok (.iconst 0, 1) := dk_3 (dk_at dksX3_layLine_0 10 rfl rfl)
theorem dX3_layLine_11 : decode cX3_layLine 11 = .ok (.istore 4, 2) := dk_54 4 (dk_at dksX3_layLine_0 11 rfl rfl)
theorem dX3_layLine_13 : decode cX3_layLine 13 = .ok (.iconst 0, 1) := dk_3 (dk_at dksX3_layLine_0 13 rfl rfl)
theorem dX3_layLine_14 : decode cX3_layLine 14 = .ok (.istore 5, 2) := dk_54 5 (dk_at dksX3_layLine_0 14 rfl rfl)
theorem dX3_layLine_16 : decode cX3_layLine 16 = .ok (.iload 5, 2) := dk_21 5 (dk_at dksX3_layLine_0 16 rfl rfl)
theorem dX3_layLine_18 : decode cX3_layLine 18 = .ok (.aload_n 0, 1) := dk_42 (dk_at dksX3_layLine_0 18 rfl rfl)
theorem dX3_layLine_19 : decode cX3_layLine 19 = .ok (.getfield 120, 3) := dk_180 0 120 (dk_at dksX3_layLine_0 19 rfl rfl)
theorem dX3_layLine_22 : decode cX3_layLine 22 = .ok (.if_icmp .ge 87, 3) := dk_162 0 87 (dk_at dksX3_layLine_1 0 rfl rfl)
theorem dX3_layLine_25 : decode cX3_layLine 25 = .ok (.iload 4, 2) := dk_21 4 (dk_at dksX3_layLine_1 3 rfl rfl)
theorem dX3_layLine_27 : decode cX3_layLine 27 = .ok (.ifCond .ne 82, 3) := dk_154 0 82 (dk_at dksX3_layLine_1 5 rfl rfl)
theorem dX3_layLine_30 : decode cX3_layLine 30 = .ok (.aload_n 0, 1) := dk_42 (dk_at dksX3_layLine_1 8 rfl rfl)
theorem dX3_layLine_31 : decode cX3_layLine 31 = .ok (.getfield 67, 3) := dk_180 0 67 (dk_at dksX3_layLine_1 9 rfl rfl)
theorem dX3_layLine_34 : decode cX3_layLine 34 = .ok (.iload 5, 2) := dk_21 5 (dk_at dksX3_layLine_1 12 rfl rfl)
theorem dX3_layLine_36 : decode cX3_layLine 36 = .ok (.iaload, 1) := dk_46 (dk_at dksX3_layLine_1 14 rfl rfl)
theorem dX3_layLine_37 : decode cX3_layLine 37 = .ok (.iload_n 3, 1) := dk_29 (dk_at dksX3_layLine_1 15 rfl rfl)
theorem dX3_layLine_38 : decode cX3_layLine 38 = .ok (.invokestatic 271, 3) := dk_184 1 15 (dk_at dksX3_layLine_1 16 rfl rfl)
theorem dX3_layLine_41 : decode cX3_layLine 41 = .ok (.ifCond .ne 6, 3) := dk_154 0 6 (dk_at dksX3_layLine_1 19 rfl rfl)
theorem dX3_layLine_44 : decode cX3_layLine 44 = .ok (.goto 59, 3) := dk_167 0 59 (dk_at dksX3_layLine_2 0 rfl rfl)
theorem dX3_layLine_47 : decode cX3_layLine 47 = .ok (.aload_n 0, 1) := dk_42 (dk_at dksX3_layLine_2 3 rfl rfl)
theorem dX3_layLine_48 : decode cX3_layLine 48 = .ok (.invokevirtual 320, 3) := dk_182 1 64 (dk_at dksX3_layLine_2 4 rfl rfl)
theorem dX3_layLine_51 : decode cX3_layLine 51 = .ok (.aload_n 0, 1) := dk_42 (dk_at dksX3_layLine_2 7 rfl rfl)
theorem dX3_layLine_52 : decode cX3_layLine 52 = .ok (.iload_n 3, 1) := dk_29 (dk_at dksX3_layLine_2 8 rfl rfl)
theorem dX3_layLine_53 : decode cX3_layLine 53 = .ok (.iload 5, 2) := dk_21 5 (dk_at dksX3_layLine_2 9 rfl rfl)
theorem dX3_layLine_55 : decode cX3_layLine 55 = .ok (.invokevirtual 323, 3) := dk_182 1 67 (dk_at dksX3_layLine_2 11 rfl rfl)
theorem dX3_layLine_58 : decode cX3_layLine 58 = .ok (.aload_n 0, 1) := dk_42 (dk_at dksX3_layLine_2 14 rfl rfl)
theorem dX3_layLine_59 : decode cX3_layLine 59 = .ok (.iload 5, 2) := dk_21 5 (dk_at dksX3_layLine_2 15 rfl rfl)
theorem dX3_layLine_61 : decode cX3_layLine 61 = .ok (.invokevirtual 326, 3) := dk_182 1 70 (dk_at dksX3_layLine_2 17 rfl rfl)
theorem dX3_layLine_64 : decode cX3_layLine 64 = .ok (.ifCond .eq 16, 3) := dk_153 0 16 (dk_at dksX3_layLine_2 20 rfl rfl)
theorem dX3_layLine_67 : decode cX3_layLine 67 = .ok (.aload_n 0, 1) := dk_42 (dk_at dksX3_layLine_2 23 rfl rfl)
theorem dX3_layLine_68 : decode cX3_layLine 68 = .ok (.iload_n 1, 1) := dk_27 (dk_at dksX3_layLine_3 0 rfl rfl)
theorem dX3_layLine_69 : decode cX3_layLine 69 = .ok (.invokevirtual 329, 3) := dk_182 1 73 (dk_at dksX3_layLine_3 1 rfl rfl)
theorem dX3_layLine_72 : decode cX3_layLine 72 = .ok (.iload_n 2, 1) := dk_28 (dk_at dksX3_layLine_3 4 rfl rfl)
theorem dX3_layLine_73 : decode cX3_layLine 73 = .ok (.if_icmp .ne 7, 3) := dk_160 0 7 (dk_at dksX3_layLine_3 5 rfl rfl)
theorem dX3_layLine_76 : decode cX3_layLine 76 = .ok (.iconst 1, 1) := dk_4 (dk_at dksX3_layLine_3 8 rfl rfl)
theorem dX3_layLine_77 : decode cX3_layLine 77 = .ok (.goto 4, 3) := dk_167 0 4 (dk_at dksX3_layLine_3 9 rfl rfl)
theorem dX3_layLine_80 : decode cX3_layLine 80 = .ok (.iconst 0, 1) := dk_3 (dk_at dksX3_layLine_3 12 rfl rfl)
theorem dX3_layLine_81 : decode cX3_layLine 81 = .ok (.istore 4, 2) := dk_54 4 (dk_at dksX3_layLine_3 13 rfl rfl)
theorem dX3_layLine_83 : decode cX3_layLine 83 = .ok (.iload 4, 2) := dk_21 4 (dk_at dksX3_layLine_3 15 rfl rfl)
theorem dX3_layLine_85 : decode cX3_layLine 85 = .ok (.ifCond .eq 14, 3) := dk_153 0 14 (dk_at dksX3_layLine_3 17 rfl rfl)
theorem dX3_layLine_88 : decode cX3_layLine 88 = .ok (.aload_n 0, 1) := dk_42 (dk_at dksX3_layLine_3 20 rfl rfl)
theorem dX3_layLine_89 : decode cX3_layLine 89 = .ok (.getfield 92, 3) := dk_180 0 92 (dk_at dksX3_layLine_3 21 rfl rfl)
theorem dX3_layLine_92 : decode cX3_layLine 92 = .ok (.iload_n 3, 1) := dk_29 (dk_at dksX3_layLine_4 0 rfl rfl)
theorem dX3_layLine_93 : decode cX3_layLine 93 = .ok (.iload 5, 2) := dk_21 5 (dk_at dksX3_layLine_4 1 rfl rfl)
theorem dX3_layLine_95 : decode cX3_layLine 95 = .ok (.iastore, 1) := dk_79 (dk_at dksX3_layLine_4 3 rfl rfl)
theorem dX3_layLine_96 : decode cX3_layLine 96 = .ok (.goto 7, 3) := dk_167 0 7 (dk_at dksX3_layLine_4 4 rfl rfl)
theorem dX3_layLine_99 : decode cX3_layLine 99 = .ok (.aload_n 0, 1) := dk_42 (dk_at dksX3_layLine_4 7 rfl rfl)
theorem dX3_layLine_100 : decode cX3_layLine 100 = .ok (.invokevirtual 332, 3) := dk_182 1 76 (dk_at dksX3_layLine_4 8 rfl rfl)
theorem dX3_layLine_103 : decode cX3_layLine 103 = .ok (.iinc 5 1, 3) := dk_132 5 1 (dk_at dksX3_layLine_4 11 rfl rfl)
theorem dX3_layLine_106 : decode cX3_layLine 106 = .ok (.goto (-90), 3) := dk_167 255 166 (dk_at dksX3_layLine_4 14 rfl rfl)
theorem dX3_layLine_109 : decode cX3_layLine 109 = .ok (.iinc 3 1, 3) := dk_132 3 1 (dk_at dksX3_layLine_4 17 rfl rfl)
theorem dX3_layLine_112 : decode cX3_layLine 112 = .ok (.goto (-110), 3) := dk_167 255 146 (dk_at dksX3_layLine_4 20 rfl rfl)
theorem dX3_layLine_115 : decode cX3_layLine 115 = .ok (.return_, 1) := dk_177 (dk_at dksX3_layLine_4 23 rfl rfl)
abbrev cX3_keepMay : ByteArray := prog_9_method_66_code
def yX3_keepMay : MethodName := ⟨RX3, "keepMay", "()V"⟩
def dkwX3_keepMay_1 : List UInt8 := [27, 42, 180, 0, 70, 27, 46, 79, 132, 1, 1, 167, 255, 223, 177]
abbrev dktX3_keepMay_1 : List UInt8 := dkwX3_keepMay_1 ++ []
def dkwX3_keepMay_0 : List UInt8 := [3, 60, 27, 16, 8, 162, 0, 33, 42, 180, 0, 73, 27, 42, 180, 0, 67, 27, 46, 79, 42, 180, 0, 76]
abbrev dktX3_keepMay_0 : List UInt8 := dkwX3_keepMay_0 ++ dktX3_keepMay_1
theorem dksX3_keepMay_0 : cX3_keepMay.data.toList.drop 0 = dktX3_keepMay_0 := by decide +kernel
theorem dksX3_keepMay_1 : cX3_keepMay.data.toList.drop 24 = dktX3_keepMay_1 := dk_seg dksX3_keepMay_0 24 rfl rfl
theorem dX3_keepMay_0 : decode cX3_keepMay 0 = .ok (.iconst 0, 1) := dk_3 (dk_at dksX3_keepMay_0 0 rfl rfl)
theorem dX3_keepMay_1 : decode cX3_keepMay 1 = .ok (.istore_n 1, 1) := dk_60 (dk_at dksX3_keepMay_0 1 rfl rfl)
theorem dX3_keepMay_2 : decode cX3_keepMay 2 = .ok (.iload_n 1, 1) := dk_27 (dk_at dksX3_keepMay_0 2 rfl rfl)
theorem dX3_keepMay_3 : decode cX3_keepMay 3 = .ok (.bipush 8, 2) := dk_16 8 (dk_at dksX3_keepMay_0 3 rfl rfl)
theorem dX3_keepMay_5 : decode cX3_keepMay 5 = .ok (.if_icmp .ge 33, 3) := dk_162 0 33 (dk_at dksX3_keepMay_0 5 rfl rfl)
theorem dX3_keepMay_8 : decode cX3_keepMay 8 = .ok (.aload_n 0, 1) := dk_42 (dk_at dksX3_keepMay_0 8 rfl rfl)
theorem dX3_keepMay_9 : decode cX3_keepMay 9 = .ok (.getfield 73, 3) := dk_180 0 73 (dk_at dksX3_keepMay_0 9 rfl rfl)
theorem dX3_keepMay_12 : decode cX3_keepMay 12 = .ok (.iload_n 1, 1) := dk_27 (dk_at dksX3_keepMay_0 12 rfl rfl)
theorem dX3_keepMay_13 : decode cX3_keepMay 13 = .ok (.aload_n 0, 1) := dk_42 (dk_at dksX3_keepMay_0 13 rfl rfl)
theorem dX3_keepMay_14 : decode cX3_keepMay 14 = .ok (.getfield 67, 3) := dk_180 0 67 (dk_at dksX3_keepMay_0 14 rfl rfl)
theorem dX3_keepMay_17 : decode cX3_keepMay 17 = .ok (.iload_n 1, 1) := dk_27 (dk_at dksX3_keepMay_0 17 rfl rfl)
theorem dX3_keepMay_18 : decode cX3_keepMay 18 = .ok (.iaload, 1) := dk_46 (dk_at dksX3_keepMay_0 18 rfl rfl)
theorem dX3_keepMay_19 : decode cX3_keepMay 19 = .ok (.iastore, 1) := dk_79 (dk_at dksX3_keepMay_0 19 rfl rfl)
theorem dX3_keepMay_20 : decode cX3_keepMay 20 = .ok (.aload_n 0, 1) := dk_42 (dk_at dksX3_keepMay_0 20 rfl rfl)
theorem dX3_keepMay_21 : decode cX3_keepMay 21 = .ok (.getfield 76, 3) := dk_180 0 76 (dk_at dksX3_keepMay_0 21 rfl rfl)
theorem dX3_keepMay_24 : decode cX3_keepMay 24 = .ok (.iload_n 1, 1) := dk_27 (dk_at dksX3_keepMay_1 0 rfl rfl)
theorem dX3_keepMay_25 : decode cX3_keepMay 25 = .ok (.aload_n 0, 1) := dk_42 (dk_at dksX3_keepMay_1 1 rfl rfl)
theorem dX3_keepMay_26 : decode cX3_keepMay 26 = .ok (.getfield 70, 3) := dk_180 0 70 (dk_at dksX3_keepMay_1 2 rfl rfl)
theorem dX3_keepMay_29 : decode cX3_keepMay 29 = .ok (.iload_n 1, 1) := dk_27 (dk_at dksX3_keepMay_1 5 rfl rfl)
theorem dX3_keepMay_30 : decode cX3_keepMay 30 = .ok (.iaload, 1) := dk_46 (dk_at dksX3_keepMay_1 6 rfl rfl)
theorem dX3_keepMay_31 : decode cX3_keepMay 31 = .ok (.iastore, 1) := dk_79 (dk_at dksX3_keepMay_1 7 rfl rfl)
theorem dX3_keepMay_32 : decode cX3_keepMay 32 = .ok (.iinc 1 1, 3) := dk_132 1 1 (dk_at dksX3_keepMay_1 8 rfl rfl)
theorem dX3_keepMay_35 : decode cX3_keepMay 35 = .ok (.goto (-33), 3) := dk_167 255 223 (dk_at dksX3_keepMay_1 11 rfl rfl)
theorem dX3_keepMay_38 : decode cX3_keepMay 38 = .ok (.return_, 1) := dk_177 (dk_at dksX3_keepMay_1 14 rfl rfl)
abbrev cX3_fix : ByteArray := prog_9_method_65_code
def yX3_fix : MethodName := ⟨RX3, "fix", "(II)V"⟩
def dkwX3_fix_1 : List UInt8 := [120, 2, 130, 126, 79, 132, 3, 1, 167, 255, 226, 42, 180, 0, 70, 28, 92, 46, 4, 27, 120, 128, 79, 177]
abbrev dktX3_fix_1 : List UInt8 := dkwX3_fix_1 ++ []
def dkwX3_fix_0 : List UInt8 := [3, 62, 29, 42, 180, 0, 120, 162, 0, 28, 29, 28, 159, 0, 17, 42, 180, 0, 67, 29, 92, 46, 4, 27]
abbrev dktX3_fix_0 : List UInt8 := dkwX3_fix_0 ++ dktX3_fix_1
theorem dksX3_fix_0 : cX3_fix.data.toList.drop 0 = dktX3_fix_0 := by decide +kernel
theorem dksX3_fix_1 : cX3_fix.data.toList.drop 24 = dktX3_fix_1 := dk_seg dksX3_fix_0 24 rfl rfl
theorem dX3_fix_0 : decode cX3_fix 0 = .ok (.iconst 0, 1) := dk_3 (dk_at dksX3_fix_0 0 rfl rfl)
theorem dX3_fix_1 : decode cX3_fix 1 = .ok (.istore_n 3, 1) := dk_62 (dk_at dksX3_fix_0 1 rfl rfl)
theorem dX3_fix_2 : decode cX3_fix 2 = .ok (.iload_n 3, 1) := dk_29 (dk_at dksX3_fix_0 2 rfl rfl)
theorem dX3_fix_3 : decode cX3_fix 3 = .ok (.aload_n 0, 1) := dk_42 (dk_at dksX3_fix_0 3 rfl rfl)
theorem dX3_fix_4 : decode cX3_fix 4 = .ok (.getfield 120, 3) := dk_180 0 120 (dk_at dksX3_fix_0 4 rfl rfl)
theorem dX3_fix_7 : decode cX3_fix 7 = .ok (.if_icmp .ge 28, 3) := dk_162 0 28 (dk_at dksX3_fix_0 7 rfl rfl)
theorem dX3_fix_10 : decode cX3_fix 10 = .ok (.iload_n 3, 1) := dk_29 (dk_at dksX3_fix_0 10 rfl rfl)
theorem dX3_fix_11 : decode cX3_fix 11 = .ok (.iload_n 2, 1) := dk_28 (dk_at dksX3_fix_0 11 rfl rfl)
theorem dX3_fix_12 : decode cX3_fix 12 = .ok (.if_icmp .eq 17, 3) := dk_159 0 17 (dk_at dksX3_fix_0 12 rfl rfl)
theorem dX3_fix_15 : decode cX3_fix 15 = .ok (.aload_n 0, 1) := dk_42 (dk_at dksX3_fix_0 15 rfl rfl)
theorem dX3_fix_16 : decode cX3_fix 16 = .ok (.getfield 67, 3) := dk_180 0 67 (dk_at dksX3_fix_0 16 rfl rfl)
theorem dX3_fix_19 : decode cX3_fix 19 = .ok (.iload_n 3, 1) := dk_29 (dk_at dksX3_fix_0 19 rfl rfl)
theorem dX3_fix_20 : decode cX3_fix 20 = .ok (.dup2, 1) := dk_92 (dk_at dksX3_fix_0 20 rfl rfl)
theorem dX3_fix_21 : decode cX3_fix 21 = .ok (.iaload, 1) := dk_46 (dk_at dksX3_fix_0 21 rfl rfl)
theorem dX3_fix_22 : decode cX3_fix 22 = .ok (.iconst 1, 1) := dk_4 (dk_at dksX3_fix_0 22 rfl rfl)
theorem dX3_fix_23 : decode cX3_fix 23 = .ok (.iload_n 1, 1) := dk_27 (dk_at dksX3_fix_0 23 rfl rfl)
theorem dX3_fix_24 : decode cX3_fix 24 = .ok (.ishl, 1) := dk_120 (dk_at dksX3_fix_1 0 rfl rfl)
theorem dX3_fix_25 : decode cX3_fix 25 = .ok (.iconst (-1), 1) := dk_2 (dk_at dksX3_fix_1 1 rfl rfl)
theorem dX3_fix_26 : decode cX3_fix 26 = .ok (.ixor, 1) := dk_130 (dk_at dksX3_fix_1 2 rfl rfl)
theorem dX3_fix_27 : decode cX3_fix 27 = .ok (.iand, 1) := dk_126 (dk_at dksX3_fix_1 3 rfl rfl)
theorem dX3_fix_28 : decode cX3_fix 28 = .ok (.iastore, 1) := dk_79 (dk_at dksX3_fix_1 4 rfl rfl)
theorem dX3_fix_29 : decode cX3_fix 29 = .ok (.iinc 3 1, 3) := dk_132 3 1 (dk_at dksX3_fix_1 5 rfl rfl)
theorem dX3_fix_32 : decode cX3_fix 32 = .ok (.goto (-30), 3) := dk_167 255 226 (dk_at dksX3_fix_1 8 rfl rfl)
theorem dX3_fix_35 : decode cX3_fix 35 = .ok (.aload_n 0, 1) := dk_42 (dk_at dksX3_fix_1 11 rfl rfl)
theorem dX3_fix_36 : decode cX3_fix 36 = .ok (.getfield 70, 3) := dk_180 0 70 (dk_at dksX3_fix_1 12 rfl rfl)
theorem dX3_fix_39 : decode cX3_fix 39 = .ok (.iload_n 2, 1) := dk_28 (dk_at dksX3_fix_1 15 rfl rfl)
theorem dX3_fix_40 : decode cX3_fix 40 = .ok (.dup2, 1) := dk_92 (dk_at dksX3_fix_1 16 rfl rfl)
theorem dX3_fix_41 : decode cX3_fix 41 = .ok (.iaload, 1) := dk_46 (dk_at dksX3_fix_1 17 rfl rfl)
theorem dX3_fix_42 : decode cX3_fix 42 = .ok (.iconst 1, 1) := dk_4 (dk_at dksX3_fix_1 18 rfl rfl)
theorem dX3_fix_43 : decode cX3_fix 43 = .ok (.iload_n 1, 1) := dk_27 (dk_at dksX3_fix_1 19 rfl rfl)
theorem dX3_fix_44 : decode cX3_fix 44 = .ok (.ishl, 1) := dk_120 (dk_at dksX3_fix_1 20 rfl rfl)
theorem dX3_fix_45 : decode cX3_fix 45 = .ok (.ior, 1) := dk_128 (dk_at dksX3_fix_1 21 rfl rfl)
theorem dX3_fix_46 : decode cX3_fix 46 = .ok (.iastore, 1) := dk_79 (dk_at dksX3_fix_1 22 rfl rfl)
theorem dX3_fix_47 : decode cX3_fix 47 = .ok (.return_, 1) := dk_177 (dk_at dksX3_fix_1 23 rfl rfl)
abbrev cX3_areRight : ByteArray := prog_9_method_68_code
def yX3_areRight : MethodName := ⟨RX3, "areRight", "(I)Z"⟩
def dkwX3_areRight_0 : List UInt8 := [42, 180, 0, 70, 27, 46, 42, 180, 0, 67, 27, 46, 2, 130, 126, 154, 0, 7, 4, 167, 0, 4, 3, 172]
abbrev dktX3_areRight_0 : List UInt8 := dkwX3_areRight_0 ++ []
theorem dksX3_areRight_0 : cX3_areRight.data.toList.drop 0 = dktX3_areRight_0 := by decide +kernel
theorem dX3_areRight_0 : decode cX3_areRight 0 = .ok (.aload_n 0, 1) := dk_42 (dk_at dksX3_areRight_0 0 rfl rfl)
theorem dX3_areRight_1 : decode cX3_areRight 1 = .ok (.getfield 70, 3) := dk_180 0 70 (dk_at dksX3_areRight_0 1 rfl rfl)
theorem dX3_areRight_4 : decode cX3_areRight 4 = .ok (.iload_n 1, 1) := dk_27 (dk_at dksX3_areRight_0 4 rfl rfl)
theorem dX3_areRight_5 : decode cX3_areRight 5 = .ok (.iaload, 1) := dk_46 (dk_at dksX3_areRight_0 5 rfl rfl)
theorem dX3_areRight_6 : decode cX3_areRight 6 = .ok (.aload_n 0, 1) := dk_42 (dk_at dksX3_areRight_0 6 rfl rfl)
theorem dX3_areRight_7 : decode cX3_areRight 7 = .ok (.getfield 67, 3) := dk_180 0 67 (dk_at dksX3_areRight_0 7 rfl rfl)
theorem dX3_areRight_10 : decode cX3_areRight 10 = .ok (.iload_n 1, 1) := dk_27 (dk_at dksX3_areRight_0 10 rfl rfl)
theorem dX3_areRight_11 : decode cX3_areRight 11 = .ok (.iaload, 1) := dk_46 (dk_at dksX3_areRight_0 11 rfl rfl)
theorem dX3_areRight_12 : decode cX3_areRight 12 = .ok (.iconst (-1), 1) := dk_2 (dk_at dksX3_areRight_0 12 rfl rfl)
theorem dX3_areRight_13 : decode cX3_areRight 13 = .ok (.ixor, 1) := dk_130 (dk_at dksX3_areRight_0 13 rfl rfl)
theorem dX3_areRight_14 : decode cX3_areRight 14 = .ok (.iand, 1) := dk_126 (dk_at dksX3_areRight_0 14 rfl rfl)
theorem dX3_areRight_15 : decode cX3_areRight 15 = .ok (.ifCond .ne 7, 3) := dk_154 0 7 (dk_at dksX3_areRight_0 15 rfl rfl)
theorem dX3_areRight_18 : decode cX3_areRight 18 = .ok (.iconst 1, 1) := dk_4 (dk_at dksX3_areRight_0 18 rfl rfl)
theorem dX3_areRight_19 : decode cX3_areRight 19 = .ok (.goto 4, 3) := dk_167 0 4 (dk_at dksX3_areRight_0 19 rfl rfl)
theorem dX3_areRight_22 : decode cX3_areRight 22 = .ok (.iconst 0, 1) := dk_3 (dk_at dksX3_areRight_0 22 rfl rfl)
theorem dX3_areRight_23 : decode cX3_areRight 23 = .ok (.ireturn, 1) := dk_172 (dk_at dksX3_areRight_0 23 rfl rfl)
abbrev cX3_bringMay : ByteArray := prog_9_method_67_code
def yX3_bringMay : MethodName := ⟨RX3, "bringMay", "()V"⟩
def dkwX3_bringMay_1 : List UInt8 := [27, 42, 180, 0, 76, 27, 46, 79, 132, 1, 1, 167, 255, 223, 177]
abbrev dktX3_bringMay_1 : List UInt8 := dkwX3_bringMay_1 ++ []
def dkwX3_bringMay_0 : List UInt8 := [3, 60, 27, 16, 8, 162, 0, 33, 42, 180, 0, 67, 27, 42, 180, 0, 73, 27, 46, 79, 42, 180, 0, 70]
abbrev dktX3_bringMay_0 : List UInt8 := dkwX3_bringMay_0 ++ dktX3_bringMay_1
theorem dksX3_bringMay_0 : cX3_bringMay.data.toList.drop 0 = dktX3_bringMay_0 := by decide +kernel
theorem dksX3_bringMay_1 : cX3_bringMay.data.toList.drop 24 = dktX3_bringMay_1 := dk_seg dksX3_bringMay_0 24 rfl rfl
theorem dX3_bringMay_0 : decode cX3_bringMay 0 = .ok (.iconst 0, 1) := dk_3 (dk_at dksX3_bringMay_0 0 rfl rfl)
theorem dX3_bringMay_1 : decode cX3_bringMay 1 = .ok (.istore_n 1, 1) := dk_60 (dk_at dksX3_bringMay_0 1 rfl rfl)
theorem dX3_bringMay_2 : decode cX3_bringMay 2 = .ok (.iload_n 1, 1) := dk_27 (dk_at dksX3_bringMay_0 2 rfl rfl)
theorem dX3_bringMay_3 : decode cX3_bringMay 3 = .ok (.bipush 8, 2) := dk_16 8 (dk_at dksX3_bringMay_0 3 rfl rfl)
theorem dX3_bringMay_5 : decode cX3_bringMay 5 = .ok (.if_icmp .ge 33, 3) := dk_162 0 33 (dk_at dksX3_bringMay_0 5 rfl rfl)
theorem dX3_bringMay_8 : decode cX3_bringMay 8 = .ok (.aload_n 0, 1) := dk_42 (dk_at dksX3_bringMay_0 8 rfl rfl)
theorem dX3_bringMay_9 : decode cX3_bringMay 9 = .ok (.getfield 67, 3) := dk_180 0 67 (dk_at dksX3_bringMay_0 9 rfl rfl)
theorem dX3_bringMay_12 : decode cX3_bringMay 12 = .ok (.iload_n 1, 1) := dk_27 (dk_at dksX3_bringMay_0 12 rfl rfl)
theorem dX3_bringMay_13 : decode cX3_bringMay 13 = .ok (.aload_n 0, 1) := dk_42 (dk_at dksX3_bringMay_0 13 rfl rfl)
theorem dX3_bringMay_14 : decode cX3_bringMay 14 = .ok (.getfield 73, 3) := dk_180 0 73 (dk_at dksX3_bringMay_0 14 rfl rfl)
theorem dX3_bringMay_17 : decode cX3_bringMay 17 = .ok (.iload_n 1, 1) := dk_27 (dk_at dksX3_bringMay_0 17 rfl rfl)
theorem dX3_bringMay_18 : decode cX3_bringMay 18 = .ok (.iaload, 1) := dk_46 (dk_at dksX3_bringMay_0 18 rfl rfl)
theorem dX3_bringMay_19 : decode cX3_bringMay 19 = .ok (.iastore, 1) := dk_79 (dk_at dksX3_bringMay_0 19 rfl rfl)
theorem dX3_bringMay_20 : decode cX3_bringMay 20 = .ok (.aload_n 0, 1) := dk_42 (dk_at dksX3_bringMay_0 20 rfl rfl)
theorem dX3_bringMay_21 : decode cX3_bringMay 21 = .ok (.getfield 70, 3) := dk_180 0 70 (dk_at dksX3_bringMay_0 21 rfl rfl)
theorem dX3_bringMay_24 : decode cX3_bringMay 24 = .ok (.iload_n 1, 1) := dk_27 (dk_at dksX3_bringMay_1 0 rfl rfl)
theorem dX3_bringMay_25 : decode cX3_bringMay 25 = .ok (.aload_n 0, 1) := dk_42 (dk_at dksX3_bringMay_1 1 rfl rfl)
theorem dX3_bringMay_26 : decode cX3_bringMay 26 = .ok (.getfield 76, 3) := dk_180 0 76 (dk_at dksX3_bringMay_1 2 rfl rfl)
theorem dX3_bringMay_29 : decode cX3_bringMay 29 = .ok (.iload_n 1, 1) := dk_27 (dk_at dksX3_bringMay_1 5 rfl rfl)
theorem dX3_bringMay_30 : decode cX3_bringMay 30 = .ok (.iaload, 1) := dk_46 (dk_at dksX3_bringMay_1 6 rfl rfl)
theorem dX3_bringMay_31 : decode cX3_bringMay 31 = .ok (.iastore, 1) := dk_79 (dk_at dksX3_bringMay_1 7 rfl rfl)
theorem dX3_bringMay_32 : decode cX3_bringMay 32 = .ok (.iinc 1 1, 3) := dk_132 1 1 (dk_at dksX3_bringMay_1 8 rfl rfl)
theorem dX3_bringMay_35 : decode cX3_bringMay 35 = .ok (.goto (-33), 3) := dk_167 255 223 (dk_at dksX3_bringMay_1 11 rfl rfl)
theorem dX3_bringMay_38 : decode cX3_bringMay 38 = .ok (.return_, 1) := dk_177 (dk_at dksX3_bringMay_1 14 rfl rfl)
abbrev cX3_tellLine : ByteArray := prog_9_method_70_code
def yX3_tellLine : MethodName := ⟨RX3, "tellLine", "()V"⟩
def dkwX3_tellLine_1 : List UInt8 := [182, 1, 28, 132, 1, 1, 167, 255, 234, 177]
abbrev dktX3_tellLine_1 : List UInt8 := dkwX3_tellLine_1 ++ []
def dkwX3_tellLine_0 : List UInt8 := [42, 3, 181, 0, 117, 3, 60, 27, 42, 180, 0, 13, 162, 0, 20, 42, 42, 180, 0, 92, 27, 46, 133]
abbrev dktX3_tellLine_0 : List UInt8 := dkwX3_tellLine_0 ++ dktX3_tellLine_1
theorem dksX3_tellLine_0 : cX3_tellLine.data.toList.drop 0 = dktX3_tellLine_0 := by decide +kernel
theorem dksX3_tellLine_1 : cX3_tellLine.data.toList.drop 23 = dktX3_tellLine_1 := dk_seg dksX3_tellLine_0 23 rfl rfl
theorem dX3_tellLine_0 : decode cX3_tellLine 0 = .ok (.aload_n 0, 1) := dk_42 (dk_at dksX3_tellLine_0 0 rfl rfl)
theorem dX3_tellLine_1 : decode cX3_tellLine 1 = .ok (.iconst 0, 1) := dk_3 (dk_at dksX3_tellLine_0 1 rfl rfl)
theorem dX3_tellLine_2 : decode cX3_tellLine 2 = .ok (.putfield 117, 3) := dk_181 0 117 (dk_at dksX3_tellLine_0 2 rfl rfl)
theorem dX3_tellLine_5 : decode cX3_tellLine 5 = .ok (.iconst 0, 1) := dk_3 (dk_at dksX3_tellLine_0 5 rfl rfl)
theorem dX3_tellLine_6 : decode cX3_tellLine 6 = .ok (.istore_n 1, 1) := dk_60 (dk_at dksX3_tellLine_0 6 rfl rfl)
theorem dX3_tellLine_7 : decode cX3_tellLine 7 = .ok (.iload_n 1, 1) := dk_27 (dk_at dksX3_tellLine_0 7 rfl rfl)
theorem dX3_tellLine_8 : decode cX3_tellLine 8 = .ok (.aload_n 0, 1) := dk_42 (dk_at dksX3_tellLine_0 8 rfl rfl)
theorem dX3_tellLine_9 : decode cX3_tellLine 9 = .ok (.getfield 13, 3) := dk_180 0 13 (dk_at dksX3_tellLine_0 9 rfl rfl)
theorem dX3_tellLine_12 : decode cX3_tellLine 12 = .ok (.if_icmp .ge 20, 3) := dk_162 0 20 (dk_at dksX3_tellLine_0 12 rfl rfl)
theorem dX3_tellLine_15 : decode cX3_tellLine 15 = .ok (.aload_n 0, 1) := dk_42 (dk_at dksX3_tellLine_0 15 rfl rfl)
theorem dX3_tellLine_16 : decode cX3_tellLine 16 = .ok (.aload_n 0, 1) := dk_42 (dk_at dksX3_tellLine_0 16 rfl rfl)
theorem dX3_tellLine_17 : decode cX3_tellLine 17 = .ok (.getfield 92, 3) := dk_180 0 92 (dk_at dksX3_tellLine_0 17 rfl rfl)
theorem dX3_tellLine_20 : decode cX3_tellLine 20 = .ok (.iload_n 1, 1) := dk_27 (dk_at dksX3_tellLine_0 20 rfl rfl)
theorem dX3_tellLine_21 : decode cX3_tellLine 21 = .ok (.iaload, 1) := dk_46 (dk_at dksX3_tellLine_0 21 rfl rfl)
theorem dX3_tellLine_22 : decode cX3_tellLine 22 = .ok (.i2l, 1) := dk_133 (dk_at dksX3_tellLine_0 22 rfl rfl)
theorem dX3_tellLine_23 : decode cX3_tellLine 23 = .ok (.invokevirtual 284, 3) := dk_182 1 28 (dk_at dksX3_tellLine_1 0 rfl rfl)
theorem dX3_tellLine_26 : decode cX3_tellLine 26 = .ok (.iinc 1 1, 3) := dk_132 1 1 (dk_at dksX3_tellLine_1 3 rfl rfl)
theorem dX3_tellLine_29 : decode cX3_tellLine 29 = .ok (.goto (-22), 3) := dk_167 255 234 (dk_at dksX3_tellLine_1 6 rfl rfl)
theorem dX3_tellLine_32 : decode cX3_tellLine 32 = .ok (.return_, 1) := dk_177 (dk_at dksX3_tellLine_1 9 rfl rfl)
abbrev cX3_fewest : ByteArray := prog_9_method_74_code
def yX3_fewest : MethodName := ⟨RX3, "fewest", "()I"⟩
def dkwX3_fewest_3 : List UInt8 := [182, 1, 28, 27, 184, 0, 221, 172]
abbrev dktX3_fewest_3 : List UInt8 := dkwX3_fewest_3 ++ []
def dkwX3_fewest_2 : List UInt8 := [28, 60, 132, 2, 1, 167, 255, 216, 27, 2, 160, 0, 6, 16, 254, 172, 42, 3, 181, 0, 117, 42, 27, 133]
abbrev dktX3_fewest_2 : List UInt8 := dkwX3_fewest_2 ++ dktX3_fewest_3
def dkwX3_fewest_1 : List UInt8 := [180, 0, 95, 28, 51, 153, 0, 21, 27, 2, 159, 0, 14, 28, 184, 0, 221, 27, 184, 0, 221, 162, 0, 5]
abbrev dktX3_fewest_1 : List UInt8 := dkwX3_fewest_1 ++ dktX3_fewest_2
def dkwX3_fewest_0 : List UInt8 := [42, 3, 181, 0, 114, 42, 182, 1, 91, 2, 60, 3, 61, 28, 4, 42, 180, 0, 120, 120, 162, 0, 36, 42]
abbrev dktX3_fewest_0 : List UInt8 := dkwX3_fewest_0 ++ dktX3_fewest_1
theorem dksX3_fewest_0 : cX3_fewest.data.toList.drop 0 = dktX3_fewest_0 := by decide +kernel
theorem dksX3_fewest_1 : cX3_fewest.data.toList.drop 24 = dktX3_fewest_1 := dk_seg dksX3_fewest_0 24 rfl rfl
theorem dksX3_fewest_2 : cX3_fewest.data.toList.drop 48 = dktX3_fewest_2 := dk_seg dksX3_fewest_1 24 rfl rfl
theorem dksX3_fewest_3 : cX3_fewest.data.toList.drop 72 = dktX3_fewest_3 := dk_seg dksX3_fewest_2 24 rfl rfl
theorem dX3_fewest_0 : decode cX3_fewest 0 = .ok (.aload_n 0, 1) := dk_42 (dk_at dksX3_fewest_0 0 rfl rfl)
theorem dX3_fewest_1 : decode cX3_fewest 1 = .ok (.iconst 0, 1) := dk_3 (dk_at dksX3_fewest_0 1 rfl rfl)
theorem dX3_fewest_2 : decode cX3_fewest 2 = .ok (.putfield 114, 3) := dk_181 0 114 (dk_at dksX3_fewest_0 2 rfl rfl)
theorem dX3_fewest_5 : decode cX3_fewest 5 = .ok (.aload_n 0, 1) := dk_42 (dk_at dksX3_fewest_0 5 rfl rfl)
theorem dX3_fewest_6 : decode cX3_fewest 6 = .ok (.invokevirtual 347, 3) := dk_182 1 91 (dk_at dksX3_fewest_0 6 rfl rfl)
theorem dX3_fewest_9 : decode cX3_fewest 9 = .ok (.iconst (-1), 1) := dk_2 (dk_at dksX3_fewest_0 9 rfl rfl)
theorem dX3_fewest_10 : decode cX3_fewest 10 = .ok (.istore_n 1, 1) := dk_60 (dk_at dksX3_fewest_0 10 rfl rfl)
theorem dX3_fewest_11 : decode cX3_fewest 11 = .ok (.iconst 0, 1) := dk_3 (dk_at dksX3_fewest_0 11 rfl rfl)
theorem dX3_fewest_12 : decode cX3_fewest 12 = .ok (.istore_n 2, 1) := dk_61 (dk_at dksX3_fewest_0 12 rfl rfl)
theorem dX3_fewest_13 : decode cX3_fewest 13 = .ok (.iload_n 2, 1) := dk_28 (dk_at dksX3_fewest_0 13 rfl rfl)
theorem dX3_fewest_14 : decode cX3_fewest 14 = .ok (.iconst 1, 1) := dk_4 (dk_at dksX3_fewest_0 14 rfl rfl)
theorem dX3_fewest_15 : decode cX3_fewest 15 = .ok (.aload_n 0, 1) := dk_42 (dk_at dksX3_fewest_0 15 rfl rfl)
theorem dX3_fewest_16 : decode cX3_fewest 16 = .ok (.getfield 120, 3) := dk_180 0 120 (dk_at dksX3_fewest_0 16 rfl rfl)
theorem dX3_fewest_19 : decode cX3_fewest 19 = .ok (.ishl, 1) := dk_120 (dk_at dksX3_fewest_0 19 rfl rfl)
theorem dX3_fewest_20 : decode cX3_fewest 20 = .ok (.if_icmp .ge 36, 3) := dk_162 0 36 (dk_at dksX3_fewest_0 20 rfl rfl)
theorem dX3_fewest_23 : decode cX3_fewest 23 = .ok (.aload_n 0, 1) := dk_42 (dk_at dksX3_fewest_0 23 rfl rfl)
theorem dX3_fewest_24 : decode cX3_fewest 24 = .ok (.getfield 95, 3) := dk_180 0 95 (dk_at dksX3_fewest_1 0 rfl rfl)
theorem dX3_fewest_27 : decode cX3_fewest 27 = .ok (.iload_n 2, 1) := dk_28 (dk_at dksX3_fewest_1 3 rfl rfl)
theorem dX3_fewest_28 : decode cX3_fewest 28 = .ok (.baload, 1) := dk_51 (dk_at dksX3_fewest_1 4 rfl rfl)
theorem dX3_fewest_29 : decode cX3_fewest 29 = .ok (.ifCond .eq 21, 3) := dk_153 0 21 (dk_at dksX3_fewest_1 5 rfl rfl)
theorem dX3_fewest_32 : decode cX3_fewest 32 = .ok (.iload_n 1, 1) := dk_27 (dk_at dksX3_fewest_1 8 rfl rfl)
theorem dX3_fewest_33 : decode cX3_fewest 33 = .ok (.iconst (-1), 1) := dk_2 (dk_at dksX3_fewest_1 9 rfl rfl)
theorem dX3_fewest_34 : decode cX3_fewest 34 = .ok (.if_icmp .eq 14, 3) := dk_159 0 14 (dk_at dksX3_fewest_1 10 rfl rfl)
theorem dX3_fewest_37 : decode cX3_fewest 37 = .ok (.iload_n 2, 1) := dk_28 (dk_at dksX3_fewest_1 13 rfl rfl)
theorem dX3_fewest_38 : decode cX3_fewest 38 = .ok (.invokestatic 221, 3) := dk_184 0 221 (dk_at dksX3_fewest_1 14 rfl rfl)
theorem dX3_fewest_41 : decode cX3_fewest 41 = .ok (.iload_n 1, 1) := dk_27 (dk_at dksX3_fewest_1 17 rfl rfl)
theorem dX3_fewest_42 : decode cX3_fewest 42 = .ok (.invokestatic 221, 3) := dk_184 0 221 (dk_at dksX3_fewest_1 18 rfl rfl)
theorem dX3_fewest_45 : decode cX3_fewest 45 = .ok (.if_icmp .ge 5, 3) := dk_162 0 5 (dk_at dksX3_fewest_1 21 rfl rfl)
theorem dX3_fewest_48 : decode cX3_fewest 48 = .ok (.iload_n 2, 1) := dk_28 (dk_at dksX3_fewest_2 0 rfl rfl)
theorem dX3_fewest_49 : decode cX3_fewest 49 = .ok (.istore_n 1, 1) := dk_60 (dk_at dksX3_fewest_2 1 rfl rfl)
theorem dX3_fewest_50 : decode cX3_fewest 50 = .ok (.iinc 2 1, 3) := dk_132 2 1 (dk_at dksX3_fewest_2 2 rfl rfl)
theorem dX3_fewest_53 : decode cX3_fewest 53 = .ok (.goto (-40), 3) := dk_167 255 216 (dk_at dksX3_fewest_2 5 rfl rfl)
theorem dX3_fewest_56 : decode cX3_fewest 56 = .ok (.iload_n 1, 1) := dk_27 (dk_at dksX3_fewest_2 8 rfl rfl)
theorem dX3_fewest_57 : decode cX3_fewest 57 = .ok (.iconst (-1), 1) := dk_2 (dk_at dksX3_fewest_2 9 rfl rfl)
theorem dX3_fewest_58 : decode cX3_fewest 58 = .ok (.if_icmp .ne 6, 3) := dk_160 0 6 (dk_at dksX3_fewest_2 10 rfl rfl)
theorem dX3_fewest_61 : decode cX3_fewest 61 = .ok (.bipush (-2), 2) := dk_16 254 (dk_at dksX3_fewest_2 13 rfl rfl)
theorem dX3_fewest_63 : decode cX3_fewest 63 = .ok (.ireturn, 1) := dk_172 (dk_at dksX3_fewest_2 15 rfl rfl)
theorem dX3_fewest_64 : decode cX3_fewest 64 = .ok (.aload_n 0, 1) := dk_42 (dk_at dksX3_fewest_2 16 rfl rfl)
theorem dX3_fewest_65 : decode cX3_fewest 65 = .ok (.iconst 0, 1) := dk_3 (dk_at dksX3_fewest_2 17 rfl rfl)
theorem dX3_fewest_66 : decode cX3_fewest 66 = .ok (.putfield 117, 3) := dk_181 0 117 (dk_at dksX3_fewest_2 18 rfl rfl)
theorem dX3_fewest_69 : decode cX3_fewest 69 = .ok (.aload_n 0, 1) := dk_42 (dk_at dksX3_fewest_2 21 rfl rfl)
theorem dX3_fewest_70 : decode cX3_fewest 70 = .ok (.iload_n 1, 1) := dk_27 (dk_at dksX3_fewest_2 22 rfl rfl)
theorem dX3_fewest_71 : decode cX3_fewest 71 = .ok (.i2l, 1) := dk_133 (dk_at dksX3_fewest_2 23 rfl rfl)
theorem dX3_fewest_72 : decode cX3_fewest 72 = .ok (.invokevirtual 284, 3) := dk_182 1 28 (dk_at dksX3_fewest_3 0 rfl rfl)
theorem dX3_fewest_75 : decode cX3_fewest 75 = .ok (.iload_n 1, 1) := dk_27 (dk_at dksX3_fewest_3 3 rfl rfl)
theorem dX3_fewest_76 : decode cX3_fewest 76 = .ok (.invokestatic 221, 3) := dk_184 0 221 (dk_at dksX3_fewest_3 4 rfl rfl)
theorem dX3_fewest_79 : decode cX3_fewest 79 = .ok (.ireturn, 1) := dk_172 (dk_at dksX3_fewest_3 7 rfl rfl)
abbrev cX3_layCanBe : ByteArray := prog_9_method_73_code
def yX3_layCanBe : MethodName := ⟨RX3, "layCanBe", "()V"⟩
def dkwX3_layCanBe_3 : List UInt8 := [162, 0, 7, 4, 167, 0, 4, 3, 84, 132, 1, 1, 167, 255, 177, 177]
abbrev dktX3_layCanBe_3 : List UInt8 := dkwX3_layCanBe_3 ++ []
def dkwX3_layCanBe_2 : List UInt8 := [167, 0, 4, 3, 79, 132, 2, 1, 167, 255, 221, 42, 180, 0, 95, 27, 42, 5, 182, 1, 73, 18, 88]
abbrev dktX3_layCanBe_2 : List UInt8 := dkwX3_layCanBe_2 ++ dktX3_layCanBe_3
def dkwX3_layCanBe_1 : List UInt8 := [162, 0, 33, 42, 180, 0, 67, 28, 27, 28, 184, 1, 15, 153, 0, 12, 42, 180, 0, 67, 28, 46]
abbrev dktX3_layCanBe_1 : List UInt8 := dkwX3_layCanBe_1 ++ dktX3_layCanBe_2
def dkwX3_layCanBe_0 : List UInt8 := [3, 60, 27, 4, 42, 180, 0, 120, 120, 162, 0, 75, 42, 2, 182, 1, 79, 3, 61, 28, 42, 180, 0, 120]
abbrev dktX3_layCanBe_0 : List UInt8 := dkwX3_layCanBe_0 ++ dktX3_layCanBe_1
theorem dksX3_layCanBe_0 : cX3_layCanBe.data.toList.drop 0 = dktX3_layCanBe_0 := by decide +kernel
theorem dksX3_layCanBe_1 : cX3_layCanBe.data.toList.drop 24 = dktX3_layCanBe_1 := dk_seg dksX3_layCanBe_0 24 rfl rfl
theorem dksX3_layCanBe_2 : cX3_layCanBe.data.toList.drop 46 = dktX3_layCanBe_2 := dk_seg dksX3_layCanBe_1 22 rfl rfl
theorem dksX3_layCanBe_3 : cX3_layCanBe.data.toList.drop 69 = dktX3_layCanBe_3 := dk_seg dksX3_layCanBe_2 23 rfl rfl
theorem dX3_layCanBe_0 : decode cX3_layCanBe 0 = .ok (.iconst 0, 1) := dk_3 (dk_at dksX3_layCanBe_0 0 rfl rfl)
theorem dX3_layCanBe_1 : decode cX3_layCanBe 1 = .ok (.istore_n 1, 1) := dk_60 (dk_at dksX3_layCanBe_0 1 rfl rfl)
theorem dX3_layCanBe_2 : decode cX3_layCanBe 2 = .ok (.iload_n 1, 1) := dk_27 (dk_at dksX3_layCanBe_0 2 rfl rfl)
theorem dX3_layCanBe_3 : decode cX3_layCanBe 3 = .ok (.iconst 1, 1) := dk_4 (dk_at dksX3_layCanBe_0 3 rfl rfl)
theorem dX3_layCanBe_4 : decode cX3_layCanBe 4 = .ok (.aload_n 0, 1) := dk_42 (dk_at dksX3_layCanBe_0 4 rfl rfl)
theorem dX3_layCanBe_5 : decode cX3_layCanBe 5 = .ok (.getfield 120, 3) := dk_180 0 120 (dk_at dksX3_layCanBe_0 5 rfl rfl)
theorem dX3_layCanBe_8 : decode cX3_layCanBe 8 = .ok (.ishl, 1) := dk_120 (dk_at dksX3_layCanBe_0 8 rfl rfl)
theorem dX3_layCanBe_9 : decode cX3_layCanBe 9 = .ok (.if_icmp .ge 75, 3) := dk_162 0 75 (dk_at dksX3_layCanBe_0 9 rfl rfl)
theorem dX3_layCanBe_12 : decode cX3_layCanBe 12 = .ok (.aload_n 0, 1) := dk_42 (dk_at dksX3_layCanBe_0 12 rfl rfl)
theorem dX3_layCanBe_13 : decode cX3_layCanBe 13 = .ok (.iconst (-1), 1) := dk_2 (dk_at dksX3_layCanBe_0 13 rfl rfl)
theorem dX3_layCanBe_14 : decode cX3_layCanBe 14 = .ok (.invokevirtual 335, 3) := dk_182 1 79 (dk_at dksX3_layCanBe_0 14 rfl rfl)
theorem dX3_layCanBe_17 : decode cX3_layCanBe 17 = .ok (.iconst 0, 1) := dk_3 (dk_at dksX3_layCanBe_0 17 rfl rfl)
theorem dX3_layCanBe_18 : decode cX3_layCanBe 18 = .ok (.istore_n 2, 1) := dk_61 (dk_at dksX3_layCanBe_0 18 rfl rfl)
theorem dX3_layCanBe_19 : decode cX3_layCanBe 19 = .ok (.iload_n 2, 1) := dk_28 (dk_at dksX3_layCanBe_0 19 rfl rfl)
theorem dX3_layCanBe_20 : decode cX3_layCanBe 20 = .ok (.aload_n 0, 1) := dk_42 (dk_at dksX3_layCanBe_0 20 rfl rfl)
theorem dX3_layCanBe_21 : decode cX3_layCanBe 21 = .ok (.getfield 120, 3) := dk_180 0 120 (dk_at dksX3_layCanBe_0 21 rfl rfl)
theorem dX3_layCanBe_24 : decode cX3_layCanBe 24 = .ok (.if_icmp .ge 33, 3) := dk_162 0 33 (dk_at dksX3_layCanBe_1 0 rfl rfl)
theorem dX3_layCanBe_27 : decode cX3_layCanBe 27 = .ok (.aload_n 0, 1) := dk_42 (dk_at dksX3_layCanBe_1 3 rfl rfl)
theorem dX3_layCanBe_28 : decode cX3_layCanBe 28 = .ok (.getfield 67, 3) := dk_180 0 67 (dk_at dksX3_layCanBe_1 4 rfl rfl)
theorem dX3_layCanBe_31 : decode cX3_layCanBe 31 = .ok (.iload_n 2, 1) := dk_28 (dk_at dksX3_layCanBe_1 7 rfl rfl)
theorem dX3_layCanBe_32 : decode cX3_layCanBe 32 = .ok (.iload_n 1, 1) := dk_27 (dk_at dksX3_layCanBe_1 8 rfl rfl)
theorem dX3_layCanBe_33 : decode cX3_layCanBe 33 = .ok (.iload_n 2, 1) := dk_28 (dk_at dksX3_layCanBe_1 9 rfl rfl)
theorem dX3_layCanBe_34 : decode cX3_layCanBe 34 = .ok (.invokestatic 271, 3) := dk_184 1 15 (dk_at dksX3_layCanBe_1 10 rfl rfl)
theorem dX3_layCanBe_37 : decode cX3_layCanBe 37 = .ok (.ifCond .eq 12, 3) := dk_153 0 12 (dk_at dksX3_layCanBe_1 13 rfl rfl)
theorem dX3_layCanBe_40 : decode cX3_layCanBe 40 = .ok (.aload_n 0, 1) := dk_42 (dk_at dksX3_layCanBe_1 16 rfl rfl)
theorem dX3_layCanBe_41 : decode cX3_layCanBe 41 = .ok (.getfield 67, 3) := dk_180 0 67 (dk_at dksX3_layCanBe_1 17 rfl rfl)
theorem dX3_layCanBe_44 : decode cX3_layCanBe 44 = .ok (.iload_n 2, 1) := dk_28 (dk_at dksX3_layCanBe_1 20 rfl rfl)
theorem dX3_layCanBe_45 : decode cX3_layCanBe 45 = .ok (.iaload, 1) := dk_46 (dk_at dksX3_layCanBe_1 21 rfl rfl)
theorem dX3_layCanBe_46 : decode cX3_layCanBe 46 = .ok (.goto 4, 3) := dk_167 0 4 (dk_at dksX3_layCanBe_2 0 rfl rfl)
theorem dX3_layCanBe_49 : decode cX3_layCanBe 49 = .ok (.iconst 0, 1) := dk_3 (dk_at dksX3_layCanBe_2 3 rfl rfl)
theorem dX3_layCanBe_50 : decode cX3_layCanBe 50 = .ok (.iastore, 1) := dk_79 (dk_at dksX3_layCanBe_2 4 rfl rfl)
theorem dX3_layCanBe_51 : decode cX3_layCanBe 51 = .ok (.iinc 2 1, 3) := dk_132 2 1 (dk_at dksX3_layCanBe_2 5 rfl rfl)
theorem dX3_layCanBe_54 : decode cX3_layCanBe 54 = .ok (.goto (-35), 3) := dk_167 255 221 (dk_at dksX3_layCanBe_2 8 rfl rfl)
theorem dX3_layCanBe_57 : decode cX3_layCanBe 57 = .ok (.aload_n 0, 1) := dk_42 (dk_at dksX3_layCanBe_2 11 rfl rfl)
theorem dX3_layCanBe_58 : decode cX3_layCanBe 58 = .ok (.getfield 95, 3) := dk_180 0 95 (dk_at dksX3_layCanBe_2 12 rfl rfl)
theorem dX3_layCanBe_61 : decode cX3_layCanBe 61 = .ok (.iload_n 1, 1) := dk_27 (dk_at dksX3_layCanBe_2 15 rfl rfl)
theorem dX3_layCanBe_62 : decode cX3_layCanBe 62 = .ok (.aload_n 0, 1) := dk_42 (dk_at dksX3_layCanBe_2 16 rfl rfl)
theorem dX3_layCanBe_63 : decode cX3_layCanBe 63 = .ok (.iconst 2, 1) := dk_5 (dk_at dksX3_layCanBe_2 17 rfl rfl)
theorem dX3_layCanBe_64 : decode cX3_layCanBe 64 = .ok (.invokevirtual 329, 3) := dk_182 1 73 (dk_at dksX3_layCanBe_2 18 rfl rfl)
theorem dX3_layCanBe_67 : decode cX3_layCanBe 67 = .ok (.ldc 88, 2) := dk_18 88 (dk_at dksX3_layCanBe_2 21 rfl rfl)
theorem dX3_layCanBe_69 : decode cX3_layCanBe 69 = .ok (.if_icmp .ge 7, 3) := dk_162 0 7 (dk_at dksX3_layCanBe_3 0 rfl rfl)
theorem dX3_layCanBe_72 : decode cX3_layCanBe 72 = .ok (.iconst 1, 1) := dk_4 (dk_at dksX3_layCanBe_3 3 rfl rfl)
theorem dX3_layCanBe_73 : decode cX3_layCanBe 73 = .ok (.goto 4, 3) := dk_167 0 4 (dk_at dksX3_layCanBe_3 4 rfl rfl)
theorem dX3_layCanBe_76 : decode cX3_layCanBe 76 = .ok (.iconst 0, 1) := dk_3 (dk_at dksX3_layCanBe_3 7 rfl rfl)
theorem dX3_layCanBe_77 : decode cX3_layCanBe 77 = .ok (.bastore, 1) := dk_84 (dk_at dksX3_layCanBe_3 8 rfl rfl)
theorem dX3_layCanBe_78 : decode cX3_layCanBe 78 = .ok (.iinc 1 1, 3) := dk_132 1 1 (dk_at dksX3_layCanBe_3 9 rfl rfl)
theorem dX3_layCanBe_81 : decode cX3_layCanBe 81 = .ok (.goto (-79), 3) := dk_167 255 177 (dk_at dksX3_layCanBe_3 12 rfl rfl)
theorem dX3_layCanBe_84 : decode cX3_layCanBe 84 = .ok (.return_, 1) := dk_177 (dk_at dksX3_layCanBe_3 15 rfl rfl)
abbrev cX3_bare : ByteArray := prog_9_method_75_code
def yX3_bare : MethodName := ⟨RX3, "bare", "()I"⟩
def dkwX3_bare_3 : List UInt8 := [16, 254, 172, 42, 3, 181, 0, 117, 42, 27, 133, 182, 1, 28, 27, 184, 0, 221, 172]
abbrev dktX3_bare_3 : List UInt8 := dkwX3_bare_3 ++ []
def dkwX3_bare_2 : List UInt8 := [184, 0, 221, 27, 184, 0, 221, 162, 0, 5, 28, 60, 132, 2, 1, 167, 255, 216, 27, 2, 160, 0, 6]
abbrev dktX3_bare_2 : List UInt8 := dkwX3_bare_2 ++ dktX3_bare_3
def dkwX3_bare_1 : List UInt8 := [182, 1, 51, 163, 0, 38, 42, 180, 0, 82, 28, 46, 18, 88, 160, 0, 21, 27, 2, 159, 0, 14, 28]
abbrev dktX3_bare_1 : List UInt8 := dkwX3_bare_1 ++ dktX3_bare_2
def dkwX3_bare_0 : List UInt8 := [42, 3, 181, 0, 114, 42, 2, 182, 1, 79, 42, 5, 182, 1, 73, 87, 2, 60, 4, 61, 28, 42]
abbrev dktX3_bare_0 : List UInt8 := dkwX3_bare_0 ++ dktX3_bare_1
theorem dksX3_bare_0 : cX3_bare.data.toList.drop 0 = dktX3_bare_0 := by decide +kernel
theorem dksX3_bare_1 : cX3_bare.data.toList.drop 22 = dktX3_bare_1 := dk_seg dksX3_bare_0 22 rfl rfl
theorem dksX3_bare_2 : cX3_bare.data.toList.drop 45 = dktX3_bare_2 := dk_seg dksX3_bare_1 23 rfl rfl
theorem dksX3_bare_3 : cX3_bare.data.toList.drop 68 = dktX3_bare_3 := dk_seg dksX3_bare_2 23 rfl rfl
theorem dX3_bare_0 : decode cX3_bare 0 = .ok (.aload_n 0, 1) := dk_42 (dk_at dksX3_bare_0 0 rfl rfl)
theorem dX3_bare_1 : decode cX3_bare 1 = .ok (.iconst 0, 1) := dk_3 (dk_at dksX3_bare_0 1 rfl rfl)
theorem dX3_bare_2 : decode cX3_bare 2 = .ok (.putfield 114, 3) := dk_181 0 114 (dk_at dksX3_bare_0 2 rfl rfl)
theorem dX3_bare_5 : decode cX3_bare 5 = .ok (.aload_n 0, 1) := dk_42 (dk_at dksX3_bare_0 5 rfl rfl)
theorem dX3_bare_6 : decode cX3_bare 6 = .ok (.iconst (-1), 1) := dk_2 (dk_at dksX3_bare_0 6 rfl rfl)
theorem dX3_bare_7 : decode cX3_bare 7 = .ok (.invokevirtual 335, 3) := dk_182 1 79 (dk_at dksX3_bare_0 7 rfl rfl)
theorem dX3_bare_10 : decode cX3_bare 10 = .ok (.aload_n 0, 1) := dk_42 (dk_at dksX3_bare_0 10 rfl rfl)
theorem dX3_bare_11 : decode cX3_bare 11 = .ok (.iconst 2, 1) := dk_5 (dk_at dksX3_bare_0 11 rfl rfl)
theorem dX3_bare_12 : decode cX3_bare 12 = .ok (.invokevirtual 329, 3) := dk_182 1 73 (dk_at dksX3_bare_0 12 rfl rfl)
theorem dX3_bare_15 : decode cX3_bare 15 = .ok (.pop, 1) := dk_87 (dk_at dksX3_bare_0 15 rfl rfl)
theorem dX3_bare_16 : decode cX3_bare 16 = .ok (.iconst (-1), 1) := dk_2 (dk_at dksX3_bare_0 16 rfl rfl)
theorem dX3_bare_17 : decode cX3_bare 17 = .ok (.istore_n 1, 1) := dk_60 (dk_at dksX3_bare_0 17 rfl rfl)
theorem dX3_bare_18 : decode cX3_bare 18 = .ok (.iconst 1, 1) := dk_4 (dk_at dksX3_bare_0 18 rfl rfl)
theorem dX3_bare_19 : decode cX3_bare 19 = .ok (.istore_n 2, 1) := dk_61 (dk_at dksX3_bare_0 19 rfl rfl)
theorem dX3_bare_20 : decode cX3_bare 20 = .ok (.iload_n 2, 1) := dk_28 (dk_at dksX3_bare_0 20 rfl rfl)
theorem dX3_bare_21 : decode cX3_bare 21 = .ok (.aload_n 0, 1) := dk_42 (dk_at dksX3_bare_0 21 rfl rfl)
theorem dX3_bare_22 : decode cX3_bare 22 = .ok (.invokevirtual 307, 3) := dk_182 1 51 (dk_at dksX3_bare_1 0 rfl rfl)
theorem dX3_bare_25 : decode cX3_bare 25 = .ok (.if_icmp .gt 38, 3) := dk_163 0 38 (dk_at dksX3_bare_1 3 rfl rfl)
theorem dX3_bare_28 : decode cX3_bare 28 = .ok (.aload_n 0, 1) := dk_42 (dk_at dksX3_bare_1 6 rfl rfl)
theorem dX3_bare_29 : decode cX3_bare 29 = .ok (.getfield 82, 3) := dk_180 0 82 (dk_at dksX3_bare_1 7 rfl rfl)
theorem dX3_bare_32 : decode cX3_bare 32 = .ok (.iload_n 2, 1) := dk_28 (dk_at dksX3_bare_1 10 rfl rfl)
theorem dX3_bare_33 : decode cX3_bare 33 = .ok (.iaload, 1) := dk_46 (dk_at dksX3_bare_1 11 rfl rfl)
theorem dX3_bare_34 : decode cX3_bare 34 = .ok (.ldc 88, 2) := dk_18 88 (dk_at dksX3_bare_1 12 rfl rfl)
theorem dX3_bare_36 : decode cX3_bare 36 = .ok (.if_icmp .ne 21, 3) := dk_160 0 21 (dk_at dksX3_bare_1 14 rfl rfl)
theorem dX3_bare_39 : decode cX3_bare 39 = .ok (.iload_n 1, 1) := dk_27 (dk_at dksX3_bare_1 17 rfl rfl)
theorem dX3_bare_40 : decode cX3_bare 40 = .ok (.iconst (-1), 1) := dk_2 (dk_at dksX3_bare_1 18 rfl rfl)
theorem dX3_bare_41 : decode cX3_bare 41 = .ok (.if_icmp .eq 14, 3) := dk_159 0 14 (dk_at dksX3_bare_1 19 rfl rfl)
theorem dX3_bare_44 : decode cX3_bare 44 = .ok (.iload_n 2, 1) := dk_28 (dk_at dksX3_bare_1 22 rfl rfl)
theorem dX3_bare_45 : decode cX3_bare 45 = .ok (.invokestatic 221, 3) := dk_184 0 221 (dk_at dksX3_bare_2 0 rfl rfl)
theorem dX3_bare_48 : decode cX3_bare 48 = .ok (.iload_n 1, 1) := dk_27 (dk_at dksX3_bare_2 3 rfl rfl)
theorem dX3_bare_49 : decode cX3_bare 49 = .ok (.invokestatic 221, 3) := dk_184 0 221 (dk_at dksX3_bare_2 4 rfl rfl)
theorem dX3_bare_52 : decode cX3_bare 52 = .ok (.if_icmp .ge 5, 3) := dk_162 0 5 (dk_at dksX3_bare_2 7 rfl rfl)
theorem dX3_bare_55 : decode cX3_bare 55 = .ok (.iload_n 2, 1) := dk_28 (dk_at dksX3_bare_2 10 rfl rfl)
theorem dX3_bare_56 : decode cX3_bare 56 = .ok (.istore_n 1, 1) := dk_60 (dk_at dksX3_bare_2 11 rfl rfl)
theorem dX3_bare_57 : decode cX3_bare 57 = .ok (.iinc 2 1, 3) := dk_132 2 1 (dk_at dksX3_bare_2 12 rfl rfl)
theorem dX3_bare_60 : decode cX3_bare 60 = .ok (.goto (-40), 3) := dk_167 255 216 (dk_at dksX3_bare_2 15 rfl rfl)
theorem dX3_bare_63 : decode cX3_bare 63 = .ok (.iload_n 1, 1) := dk_27 (dk_at dksX3_bare_2 18 rfl rfl)
theorem dX3_bare_64 : decode cX3_bare 64 = .ok (.iconst (-1), 1) := dk_2 (dk_at dksX3_bare_2 19 rfl rfl)
theorem dX3_bare_65 : decode cX3_bare 65 = .ok (.if_icmp .ne 6, 3) := dk_160 0 6 (dk_at dksX3_bare_2 20 rfl rfl)
theorem dX3_bare_68 : decode cX3_bare 68 = .ok (.bipush (-2), 2) := dk_16 254 (dk_at dksX3_bare_3 0 rfl rfl)
theorem dX3_bare_70 : decode cX3_bare 70 = .ok (.ireturn, 1) := dk_172 (dk_at dksX3_bare_3 2 rfl rfl)
theorem dX3_bare_71 : decode cX3_bare 71 = .ok (.aload_n 0, 1) := dk_42 (dk_at dksX3_bare_3 3 rfl rfl)
theorem dX3_bare_72 : decode cX3_bare 72 = .ok (.iconst 0, 1) := dk_3 (dk_at dksX3_bare_3 4 rfl rfl)
theorem dX3_bare_73 : decode cX3_bare 73 = .ok (.putfield 117, 3) := dk_181 0 117 (dk_at dksX3_bare_3 5 rfl rfl)
theorem dX3_bare_76 : decode cX3_bare 76 = .ok (.aload_n 0, 1) := dk_42 (dk_at dksX3_bare_3 8 rfl rfl)
theorem dX3_bare_77 : decode cX3_bare 77 = .ok (.iload_n 1, 1) := dk_27 (dk_at dksX3_bare_3 9 rfl rfl)
theorem dX3_bare_78 : decode cX3_bare 78 = .ok (.i2l, 1) := dk_133 (dk_at dksX3_bare_3 10 rfl rfl)
theorem dX3_bare_79 : decode cX3_bare 79 = .ok (.invokevirtual 284, 3) := dk_182 1 28 (dk_at dksX3_bare_3 11 rfl rfl)
theorem dX3_bare_82 : decode cX3_bare 82 = .ok (.iload_n 1, 1) := dk_27 (dk_at dksX3_bare_3 14 rfl rfl)
theorem dX3_bare_83 : decode cX3_bare 83 = .ok (.invokestatic 221, 3) := dk_184 0 221 (dk_at dksX3_bare_3 15 rfl rfl)
theorem dX3_bare_86 : decode cX3_bare 86 = .ok (.ireturn, 1) := dk_172 (dk_at dksX3_bare_3 18 rfl rfl)
abbrev cX3_rotas : ByteArray := prog_9_method_77_code
def yX3_rotas : MethodName := ⟨RX3, "rotas", "()I"⟩
def dkwX3_rotas_0 : List UInt8 := [42, 3, 181, 0, 114, 42, 2, 182, 1, 79, 42, 182, 1, 97, 172]
abbrev dktX3_rotas_0 : List UInt8 := dkwX3_rotas_0 ++ []
theorem dksX3_rotas_0 : cX3_rotas.data.toList.drop 0 = dktX3_rotas_0 := by decide +kernel
theorem dX3_rotas_0 : decode cX3_rotas 0 = .ok (.aload_n 0, 1) := dk_42 (dk_at dksX3_rotas_0 0 rfl rfl)
theorem dX3_rotas_1 : decode cX3_rotas 1 = .ok (.iconst 0, 1) := dk_3 (dk_at dksX3_rotas_0 1 rfl rfl)
theorem dX3_rotas_2 : decode cX3_rotas 2 = .ok (.putfield 114, 3) := dk_181 0 114 (dk_at dksX3_rotas_0 2 rfl rfl)
theorem dX3_rotas_5 : decode cX3_rotas 5 = .ok (.aload_n 0, 1) := dk_42 (dk_at dksX3_rotas_0 5 rfl rfl)
theorem dX3_rotas_6 : decode cX3_rotas 6 = .ok (.iconst (-1), 1) := dk_2 (dk_at dksX3_rotas_0 6 rfl rfl)
theorem dX3_rotas_7 : decode cX3_rotas 7 = .ok (.invokevirtual 335, 3) := dk_182 1 79 (dk_at dksX3_rotas_0 7 rfl rfl)
theorem dX3_rotas_10 : decode cX3_rotas 10 = .ok (.aload_n 0, 1) := dk_42 (dk_at dksX3_rotas_0 10 rfl rfl)
theorem dX3_rotas_11 : decode cX3_rotas 11 = .ok (.invokevirtual 353, 3) := dk_182 1 97 (dk_at dksX3_rotas_0 11 rfl rfl)
theorem dX3_rotas_14 : decode cX3_rotas 14 = .ok (.ireturn, 1) := dk_172 (dk_at dksX3_rotas_0 14 rfl rfl)
abbrev cX3_tellWays : ByteArray := prog_9_method_76_code
def yX3_tellWays : MethodName := ⟨RX3, "tellWays", "()I"⟩
def dkwX3_tellWays_1 : List UInt8 := [182, 1, 88, 27, 172]
abbrev dktX3_tellWays_1 : List UInt8 := dkwX3_tellWays_1 ++ []
def dkwX3_tellWays_0 : List UInt8 := [42, 182, 1, 94, 60, 42, 3, 181, 0, 117, 27, 154, 0, 5, 3, 172, 42, 5, 3, 182, 1, 85, 42]
abbrev dktX3_tellWays_0 : List UInt8 := dkwX3_tellWays_0 ++ dktX3_tellWays_1
theorem dksX3_tellWays_0 : cX3_tellWays.data.toList.drop 0 = dktX3_tellWays_0 := by decide +kernel
theorem dksX3_tellWays_1 : cX3_tellWays.data.toList.drop 23 = dktX3_tellWays_1 := dk_seg dksX3_tellWays_0 23 rfl rfl
theorem dX3_tellWays_0 : decode cX3_tellWays 0 = .ok (.aload_n 0, 1) := dk_42 (dk_at dksX3_tellWays_0 0 rfl rfl)
theorem dX3_tellWays_1 : decode cX3_tellWays 1 = .ok (.invokevirtual 350, 3) := dk_182 1 94 (dk_at dksX3_tellWays_0 1 rfl rfl)
theorem dX3_tellWays_4 : decode cX3_tellWays 4 = .ok (.istore_n 1, 1) := dk_60 (dk_at dksX3_tellWays_0 4 rfl rfl)
theorem dX3_tellWays_5 : decode cX3_tellWays 5 = .ok (.aload_n 0, 1) := dk_42 (dk_at dksX3_tellWays_0 5 rfl rfl)
theorem dX3_tellWays_6 : decode cX3_tellWays 6 = .ok (.iconst 0, 1) := dk_3 (dk_at dksX3_tellWays_0 6 rfl rfl)
theorem dX3_tellWays_7 : decode cX3_tellWays 7 = .ok (.putfield 117, 3) := dk_181 0 117 (dk_at dksX3_tellWays_0 7 rfl rfl)
theorem dX3_tellWays_10 : decode cX3_tellWays 10 = .ok (.iload_n 1, 1) := dk_27 (dk_at dksX3_tellWays_0 10 rfl rfl)
theorem dX3_tellWays_11 : decode cX3_tellWays 11 = .ok (.ifCond .ne 5, 3) := dk_154 0 5 (dk_at dksX3_tellWays_0 11 rfl rfl)
theorem dX3_tellWays_14 : decode cX3_tellWays 14 = .ok (.iconst 0, 1) := dk_3 (dk_at dksX3_tellWays_0 14 rfl rfl)
theorem dX3_tellWays_15 : decode cX3_tellWays 15 = .ok (.ireturn, 1) := dk_172 (dk_at dksX3_tellWays_0 15 rfl rfl)
theorem dX3_tellWays_16 : decode cX3_tellWays 16 = .ok (.aload_n 0, 1) := dk_42 (dk_at dksX3_tellWays_0 16 rfl rfl)
theorem dX3_tellWays_17 : decode cX3_tellWays 17 = .ok (.iconst 2, 1) := dk_5 (dk_at dksX3_tellWays_0 17 rfl rfl)
theorem dX3_tellWays_18 : decode cX3_tellWays 18 = .ok (.iconst 0, 1) := dk_3 (dk_at dksX3_tellWays_0 18 rfl rfl)
theorem dX3_tellWays_19 : decode cX3_tellWays 19 = .ok (.invokevirtual 341, 3) := dk_182 1 85 (dk_at dksX3_tellWays_0 19 rfl rfl)
theorem dX3_tellWays_22 : decode cX3_tellWays 22 = .ok (.aload_n 0, 1) := dk_42 (dk_at dksX3_tellWays_0 22 rfl rfl)
theorem dX3_tellWays_23 : decode cX3_tellWays 23 = .ok (.invokevirtual 344, 3) := dk_182 1 88 (dk_at dksX3_tellWays_1 0 rfl rfl)
theorem dX3_tellWays_26 : decode cX3_tellWays 26 = .ok (.iload_n 1, 1) := dk_27 (dk_at dksX3_tellWays_1 3 rfl rfl)
theorem dX3_tellWays_27 : decode cX3_tellWays 27 = .ok (.ireturn, 1) := dk_172 (dk_at dksX3_tellWays_1 4 rfl rfl)
abbrev cX3_countWays : ByteArray := prog_9_method_64_code
def yX3_countWays : MethodName := ⟨RX3, "countWays", "()I"⟩
def dkwX3_countWays_8 : List UInt8 := [167, 255, 153, 132, 1, 255, 167, 255, 108, 42, 180, 0, 85, 42, 182, 1, 51, 46, 172]
abbrev dktX3_countWays_8 : List UInt8 := dkwX3_countWays_8 ++ []
def dkwX3_countWays_7 : List UInt8 := [167, 255, 203, 28, 154, 0, 7, 2, 167, 0, 13, 28, 4, 100, 42, 180, 0, 67, 27, 46, 126, 61]
abbrev dktX3_countWays_7 : List UInt8 := dkwX3_countWays_7 ++ dktX3_countWays_8
def dkwX3_countWays_6 : List UInt8 := [21, 4, 128, 46, 96, 79, 21, 4, 154, 0, 7, 2, 167, 0, 9, 21, 4, 4, 100, 29, 126, 54, 4]
abbrev dktX3_countWays_6 : List UInt8 := dkwX3_countWays_6 ++ dktX3_countWays_7
def dkwX3_countWays_5 : List UInt8 := [180, 0, 85, 27, 16, 8, 120, 21, 4, 128, 28, 128, 92, 46, 42, 180, 0, 85, 27, 4, 96, 16, 8, 120]
abbrev dktX3_countWays_5 : List UInt8 := dkwX3_countWays_5 ++ dktX3_countWays_6
def dkwX3_countWays_4 : List UInt8 := [154, 0, 6, 167, 0, 71, 42, 182, 1, 51, 28, 2, 130, 126, 62, 29, 54, 4, 21, 4, 155, 0, 54, 42]
abbrev dktX3_countWays_4 : List UInt8 := dkwX3_countWays_4 ++ dktX3_countWays_5
def dkwX3_countWays_3 : List UInt8 := [79, 132, 2, 1, 167, 255, 233, 42, 180, 0, 67, 27, 46, 61, 28, 155, 0, 105, 42, 27, 28, 182, 1, 57]
abbrev dktX3_countWays_3 : List UInt8 := dkwX3_countWays_3 ++ dktX3_countWays_4
def dkwX3_countWays_2 : List UInt8 := [155, 0, 150, 3, 61, 28, 42, 182, 1, 51, 163, 0, 21, 42, 180, 0, 85, 27, 16, 8, 120, 28, 128, 3]
abbrev dktX3_countWays_2 : List UInt8 := dkwX3_countWays_2 ++ dktX3_countWays_3
def dkwX3_countWays_1 : List UInt8 := [154, 0, 7, 4, 167, 0, 4, 3, 79, 132, 1, 1, 167, 255, 222, 42, 180, 0, 120, 4, 100, 60, 27]
abbrev dktX3_countWays_1 : List UInt8 := dkwX3_countWays_1 ++ dktX3_countWays_2
def dkwX3_countWays_0 : List UInt8 := [3, 60, 27, 42, 182, 1, 51, 163, 0, 32, 42, 180, 0, 85, 42, 180, 0, 120, 16, 8, 120, 27, 128, 27]
abbrev dktX3_countWays_0 : List UInt8 := dkwX3_countWays_0 ++ dktX3_countWays_1
theorem dksX3_countWays_0 : cX3_countWays.data.toList.drop 0 = dktX3_countWays_0 := by decide +kernel
theorem dksX3_countWays_1 : cX3_countWays.data.toList.drop 24 = dktX3_countWays_1 := dk_seg dksX3_countWays_0 24 rfl rfl
theorem dksX3_countWays_2 : cX3_countWays.data.toList.drop 47 = dktX3_countWays_2 := dk_seg dksX3_countWays_1 23 rfl rfl
theorem dksX3_countWays_3 : cX3_countWays.data.toList.drop 71 = dktX3_countWays_3 := dk_seg dksX3_countWays_2 24 rfl rfl
theorem dksX3_countWays_4 : cX3_countWays.data.toList.drop 95 = dktX3_countWays_4 := dk_seg dksX3_countWays_3 24 rfl rfl
theorem dksX3_countWays_5 : cX3_countWays.data.toList.drop 119 = dktX3_countWays_5 := dk_seg dksX3_countWays_4 24 rfl rfl
theorem dksX3_countWays_6 : cX3_countWays.data.toList.drop 143 = dktX3_countWays_6 := dk_seg dksX3_countWays_5 24 rfl rfl
theorem dksX3_countWays_7 : cX3_countWays.data.toList.drop 166 = dktX3_countWays_7 := dk_seg dksX3_countWays_6 23 rfl rfl
theorem dksX3_countWays_8 : cX3_countWays.data.toList.drop 188 = dktX3_countWays_8 := dk_seg dksX3_countWays_7 22 rfl rfl
theorem dX3_countWays_0 : decode cX3_countWays 0 = .ok (.iconst 0, 1) := dk_3 (dk_at dksX3_countWays_0 0 rfl rfl)
theorem dX3_countWays_1 : decode cX3_countWays 1 = .ok (.istore_n 1, 1) := dk_60 (dk_at dksX3_countWays_0 1 rfl rfl)
theorem dX3_countWays_2 : decode cX3_countWays 2 = .ok (.iload_n 1, 1) := dk_27 (dk_at dksX3_countWays_0 2 rfl rfl)
theorem dX3_countWays_3 : decode cX3_countWays 3 = .ok (.aload_n 0, 1) := dk_42 (dk_at dksX3_countWays_0 3 rfl rfl)
theorem dX3_countWays_4 : decode cX3_countWays 4 = .ok (.invokevirtual 307, 3) := dk_182 1 51 (dk_at dksX3_countWays_0 4 rfl rfl)
theorem dX3_countWays_7 : decode cX3_countWays 7 = .ok (.if_icmp .gt 32, 3) := dk_163 0 32 (dk_at dksX3_countWays_0 7 rfl rfl)
theorem dX3_countWays_10 : decode cX3_countWays 10 = .ok (.aload_n 0, 1) := dk_42 (dk_at dksX3_countWays_0 10 rfl rfl)
theorem dX3_countWays_11 : decode cX3_countWays 11 = .ok (.getfield 85, 3) := dk_180 0 85 (dk_at dksX3_countWays_0 11 rfl rfl)
theorem dX3_countWays_14 : decode cX3_countWays 14 = .ok (.aload_n 0, 1) := dk_42 (dk_at dksX3_countWays_0 14 rfl rfl)
theorem dX3_countWays_15 : decode cX3_countWays 15 = .ok (.getfield 120, 3) := dk_180 0 120 (dk_at dksX3_countWays_0 15 rfl rfl)
theorem dX3_countWays_18 : decode cX3_countWays 18 = .ok (.bipush 8, 2) := dk_16 8 (dk_at dksX3_countWays_0 18 rfl rfl)
theorem dX3_countWays_20 : decode cX3_countWays 20 = .ok (.ishl, 1) := dk_120 (dk_at dksX3_countWays_0 20 rfl rfl)
theorem dX3_countWays_21 : decode cX3_countWays 21 = .ok (.iload_n 1, 1) := dk_27 (dk_at dksX3_countWays_0 21 rfl rfl)
theorem dX3_countWays_22 : decode cX3_countWays 22 = .ok (.ior, 1) := dk_128 (dk_at dksX3_countWays_0 22 rfl rfl)
theorem dX3_countWays_23 : decode cX3_countWays 23 = .ok (.iload_n 1, 1) := dk_27 (dk_at dksX3_countWays_0 23 rfl rfl)
theorem dX3_countWays_24 : decode cX3_countWays 24 = .ok (.ifCond .ne 7, 3) := dk_154 0 7 (dk_at dksX3_countWays_1 0 rfl rfl)
theorem dX3_countWays_27 : decode cX3_countWays 27 = .ok (.iconst 1, 1) := dk_4 (dk_at dksX3_countWays_1 3 rfl rfl)
theorem dX3_countWays_28 : decode cX3_countWays 28 = .ok (.goto 4, 3) := dk_167 0 4 (dk_at dksX3_countWays_1 4 rfl rfl)
theorem dX3_countWays_31 : decode cX3_countWays 31 = .ok (.iconst 0, 1) := dk_3 (dk_at dksX3_countWays_1 7 rfl rfl)
theorem dX3_countWays_32 : decode cX3_countWays 32 = .ok (.iastore, 1) := dk_79 (dk_at dksX3_countWays_1 8 rfl rfl)
theorem dX3_countWays_33 : decode cX3_countWays 33 = .ok (.iinc 1 1, 3) := dk_132 1 1 (dk_at dksX3_countWays_1 9 rfl rfl)
theorem dX3_countWays_36 : decode cX3_countWays 36 = .ok (.goto (-34), 3) := dk_167 255 222 (dk_at dksX3_countWays_1 12 rfl rfl)
theorem dX3_countWays_39 : decode cX3_countWays 39 = .ok (.aload_n 0, 1) := dk_42 (dk_at dksX3_countWays_1 15 rfl rfl)
theorem dX3_countWays_40 : decode cX3_countWays 40 = .ok (.getfield 120, 3) := dk_180 0 120 (dk_at dksX3_countWays_1 16 rfl rfl)
theorem dX3_countWays_43 : decode cX3_countWays 43 = .ok (.iconst 1, 1) := dk_4 (dk_at dksX3_countWays_1 19 rfl rfl)
theorem dX3_countWays_44 : decode cX3_countWays 44 = .ok (.isub, 1) := dk_100 (dk_at dksX3_countWays_1 20 rfl rfl)
theorem dX3_countWays_45 : decode cX3_countWays 45 = .ok (.istore_n 1, 1) := dk_60 (dk_at dksX3_countWays_1 21 rfl rfl)
theorem dX3_countWays_46 : decode cX3_countWays 46 = .ok (.iload_n 1, 1) := dk_27 (dk_at dksX3_countWays_1 22 rfl rfl)
theorem dX3_countWays_47 : decode cX3_countWays 47 = .ok (.ifCond .lt 150, 3) := dk_155 0 150 (dk_at dksX3_countWays_2 0 rfl rfl)
theorem dX3_countWays_50 : decode cX3_countWays 50 = .ok (.iconst 0, 1) := dk_3 (dk_at dksX3_countWays_2 3 rfl rfl)
theorem dX3_countWays_51 : decode cX3_countWays 51 = .ok (.istore_n 2, 1) := dk_61 (dk_at dksX3_countWays_2 4 rfl rfl)
theorem dX3_countWays_52 : decode cX3_countWays 52 = .ok (.iload_n 2, 1) := dk_28 (dk_at dksX3_countWays_2 5 rfl rfl)
theorem dX3_countWays_53 : decode cX3_countWays 53 = .ok (.aload_n 0, 1) := dk_42 (dk_at dksX3_countWays_2 6 rfl rfl)
theorem dX3_countWays_54 : decode cX3_countWays 54 = .ok (.invokevirtual 307, 3) := dk_182 1 51 (dk_at dksX3_countWays_2 7 rfl rfl)
theorem dX3_countWays_57 : decode cX3_countWays 57 = .ok (.if_icmp .gt 21, 3) := dk_163 0 21 (dk_at dksX3_countWays_2 10 rfl rfl)
theorem dX3_countWays_60 : decode cX3_countWays 60 = .ok (.aload_n 0, 1) := dk_42 (dk_at dksX3_countWays_2 13 rfl rfl)
theorem dX3_countWays_61 : decode cX3_countWays 61 = .ok (.getfield 85, 3) := dk_180 0 85 (dk_at dksX3_countWays_2 14 rfl rfl)
theorem dX3_countWays_64 : decode cX3_countWays 64 = .ok (.iload_n 1, 1) := dk_27 (dk_at dksX3_countWays_2 17 rfl rfl)
theorem dX3_countWays_65 : decode cX3_countWays 65 = .ok (.bipush 8, 2) := dk_16 8 (dk_at dksX3_countWays_2 18 rfl rfl)
theorem dX3_countWays_67 : decode cX3_countWays 67 = .ok (.ishl, 1) := dk_120 (dk_at dksX3_countWays_2 20 rfl rfl)
theorem dX3_countWays_68 : decode cX3_countWays 68 = .ok (.iload_n 2, 1) := dk_28 (dk_at dksX3_countWays_2 21 rfl rfl)
theorem dX3_countWays_69 : decode cX3_countWays 69 = .ok (.ior, 1) := dk_128 (dk_at dksX3_countWays_2 22 rfl rfl)
theorem dX3_countWays_70 : decode cX3_countWays 70 = .ok (.iconst 0, 1) := dk_3 (dk_at dksX3_countWays_2 23 rfl rfl)
theorem dX3_countWays_71 : decode cX3_countWays 71 = .ok (.iastore, 1) := dk_79 (dk_at dksX3_countWays_3 0 rfl rfl)
theorem dX3_countWays_72 : decode cX3_countWays 72 = .ok (.iinc 2 1, 3) := dk_132 2 1 (dk_at dksX3_countWays_3 1 rfl rfl)
theorem dX3_countWays_75 : decode cX3_countWays 75 = .ok (.goto (-23), 3) := dk_167 255 233 (dk_at dksX3_countWays_3 4 rfl rfl)
theorem dX3_countWays_78 : decode cX3_countWays 78 = .ok (.aload_n 0, 1) := dk_42 (dk_at dksX3_countWays_3 7 rfl rfl)
theorem dX3_countWays_79 : decode cX3_countWays 79 = .ok (.getfield 67, 3) := dk_180 0 67 (dk_at dksX3_countWays_3 8 rfl rfl)
theorem dX3_countWays_82 : decode cX3_countWays 82 = .ok (.iload_n 1, 1) := dk_27 (dk_at dksX3_countWays_3 11 rfl rfl)
theorem dX3_countWays_83 : decode cX3_countWays 83 = .ok (.iaload, 1) := dk_46 (dk_at dksX3_countWays_3 12 rfl rfl)
theorem dX3_countWays_84 : decode cX3_countWays 84 = .ok (.istore_n 2, 1) := dk_61 (dk_at dksX3_countWays_3 13 rfl rfl)
theorem dX3_countWays_85 : decode cX3_countWays 85 = .ok (.iload_n 2, 1) := dk_28 (dk_at dksX3_countWays_3 14 rfl rfl)
theorem dX3_countWays_86 : decode cX3_countWays 86 = .ok (.ifCond .lt 105, 3) := dk_155 0 105 (dk_at dksX3_countWays_3 15 rfl rfl)
theorem dX3_countWays_89 : decode cX3_countWays 89 = .ok (.aload_n 0, 1) := dk_42 (dk_at dksX3_countWays_3 18 rfl rfl)
theorem dX3_countWays_90 : decode cX3_countWays 90 = .ok (.iload_n 1, 1) := dk_27 (dk_at dksX3_countWays_3 19 rfl rfl)
theorem dX3_countWays_91 : decode cX3_countWays 91 = .ok (.iload_n 2, 1) := dk_28 (dk_at dksX3_countWays_3 20 rfl rfl)
theorem dX3_countWays_92 : decode cX3_countWays 92 = .ok (.invokevirtual 313, 3) := dk_182 1 57 (dk_at dksX3_countWays_3 21 rfl rfl)
theorem dX3_countWays_95 : decode cX3_countWays 95 = .ok (.ifCond .ne 6, 3) := dk_154 0 6 (dk_at dksX3_countWays_4 0 rfl rfl)
theorem dX3_countWays_98 : decode cX3_countWays 98 = .ok (.goto 71, 3) := dk_167 0 71 (dk_at dksX3_countWays_4 3 rfl rfl)
theorem dX3_countWays_101 : decode cX3_countWays 101 = .ok (.aload_n 0, 1) := dk_42 (dk_at dksX3_countWays_4 6 rfl rfl)
theorem dX3_countWays_102 : decode cX3_countWays 102 = .ok (.invokevirtual 307, 3) := dk_182 1 51 (dk_at dksX3_countWays_4 7 rfl rfl)
theorem dX3_countWays_105 : decode cX3_countWays 105 = .ok (.iload_n 2, 1) := dk_28 (dk_at dksX3_countWays_4 10 rfl rfl)
theorem dX3_countWays_106 : decode cX3_countWays 106 = .ok (.iconst (-1), 1) := dk_2 (dk_at dksX3_countWays_4 11 rfl rfl)
theorem dX3_countWays_107 : decode cX3_countWays 107 = .ok (.ixor, 1) := dk_130 (dk_at dksX3_countWays_4 12 rfl rfl)
theorem dX3_countWays_108 : decode cX3_countWays 108 = .ok (.iand, 1) := dk_126 (dk_at dksX3_countWays_4 13 rfl rfl)
theorem dX3_countWays_109 : decode cX3_countWays 109 = .ok (.istore_n 3, 1) := dk_62 (dk_at dksX3_countWays_4 14 rfl rfl)
theorem dX3_countWays_110 : decode cX3_countWays 110 = .ok (.iload_n 3, 1) := dk_29 (dk_at dksX3_countWays_4 15 rfl rfl)
theorem dX3_countWays_111 : decode cX3_countWays 111 = .ok (.istore 4, 2) := dk_54 4 (dk_at dksX3_countWays_4 16 rfl rfl)
theorem dX3_countWays_113 : decode cX3_countWays 113 = .ok (.iload 4, 2) := dk_21 4 (dk_at dksX3_countWays_4 18 rfl rfl)
theorem dX3_countWays_115 : decode cX3_countWays 115 = .ok (.ifCond .lt 54, 3) := dk_155 0 54 (dk_at dksX3_countWays_4 20 rfl rfl)
theorem dX3_countWays_118 : decode cX3_countWays 118 = .ok (.aload_n 0, 1) := dk_42 (dk_at dksX3_countWays_4 23 rfl rfl)
theorem dX3_countWays_119 : decode cX3_countWays 119 = .ok (.getfield 85, 3) := dk_180 0 85 (dk_at dksX3_countWays_5 0 rfl rfl)
theorem dX3_countWays_122 : decode cX3_countWays 122 = .ok (.iload_n 1, 1) := dk_27 (dk_at dksX3_countWays_5 3 rfl rfl)
theorem dX3_countWays_123 : decode cX3_countWays 123 = .ok (.bipush 8, 2) := dk_16 8 (dk_at dksX3_countWays_5 4 rfl rfl)
theorem dX3_countWays_125 : decode cX3_countWays 125 = .ok (.ishl, 1) := dk_120 (dk_at dksX3_countWays_5 6 rfl rfl)
theorem dX3_countWays_126 : decode cX3_countWays 126 = .ok (.iload 4, 2) := dk_21 4 (dk_at dksX3_countWays_5 7 rfl rfl)
theorem dX3_countWays_128 : decode cX3_countWays 128 = .ok (.ior, 1) := dk_128 (dk_at dksX3_countWays_5 9 rfl rfl)
theorem dX3_countWays_129 : decode cX3_countWays 129 = .ok (.iload_n 2, 1) := dk_28 (dk_at dksX3_countWays_5 10 rfl rfl)
theorem dX3_countWays_130 : decode cX3_countWays 130 = .ok (.ior, 1) := dk_128 (dk_at dksX3_countWays_5 11 rfl rfl)
theorem dX3_countWays_131 : decode cX3_countWays 131 = .ok (.dup2, 1) := dk_92 (dk_at dksX3_countWays_5 12 rfl rfl)
theorem dX3_countWays_132 : decode cX3_countWays 132 = .ok (.iaload, 1) := dk_46 (dk_at dksX3_countWays_5 13 rfl rfl)
theorem dX3_countWays_133 : decode cX3_countWays 133 = .ok (.aload_n 0, 1) := dk_42 (dk_at dksX3_countWays_5 14 rfl rfl)
theorem dX3_countWays_134 : decode cX3_countWays 134 = .ok (.getfield 85, 3) := dk_180 0 85 (dk_at dksX3_countWays_5 15 rfl rfl)
theorem dX3_countWays_137 : decode cX3_countWays 137 = .ok (.iload_n 1, 1) := dk_27 (dk_at dksX3_countWays_5 18 rfl rfl)
theorem dX3_countWays_138 : decode cX3_countWays 138 = .ok (.iconst 1, 1) := dk_4 (dk_at dksX3_countWays_5 19 rfl rfl)
theorem dX3_countWays_139 : decode cX3_countWays 139 = .ok (.iadd, 1) := dk_96 (dk_at dksX3_countWays_5 20 rfl rfl)
theorem dX3_countWays_140 : decode cX3_countWays 140 = .ok (.bipush 8, 2) := dk_16 8 (dk_at dksX3_countWays_5 21 rfl rfl)
theorem dX3_countWays_142 : decode cX3_countWays 142 = .ok (.ishl, 1) := dk_120 (dk_at dksX3_countWays_5 23 rfl rfl)
theorem dX3_countWays_143 : decode cX3_countWays 143 = .ok (.iload 4, 2) := dk_21 4 (dk_at dksX3_countWays_6 0 rfl rfl)
theorem dX3_countWays_145 : decode cX3_countWays 145 = .ok (.ior, 1) := dk_128 (dk_at dksX3_countWays_6 2 rfl rfl)
theorem dX3_countWays_146 : decode cX3_countWays 146 = .ok (.iaload, 1) := dk_46 (dk_at dksX3_countWays_6 3 rfl rfl)
theorem dX3_countWays_147 : decode cX3_countWays 147 = .ok (.iadd, 1) := dk_96 (dk_at dksX3_countWays_6 4 rfl rfl)
theorem dX3_countWays_148 : decode cX3_countWays 148 = .ok (.iastore, 1) := dk_79 (dk_at dksX3_countWays_6 5 rfl rfl)
theorem dX3_countWays_149 : decode cX3_countWays 149 = .ok (.iload 4, 2) := dk_21 4 (dk_at dksX3_countWays_6 6 rfl rfl)
theorem dX3_countWays_151 : decode cX3_countWays 151 = .ok (.ifCond .ne 7, 3) := dk_154 0 7 (dk_at dksX3_countWays_6 8 rfl rfl)
theorem dX3_countWays_154 : decode cX3_countWays 154 = .ok (.iconst (-1), 1) := dk_2 (dk_at dksX3_countWays_6 11 rfl rfl)
theorem dX3_countWays_155 : decode cX3_countWays 155 = .ok (.goto 9, 3) := dk_167 0 9 (dk_at dksX3_countWays_6 12 rfl rfl)
theorem dX3_countWays_158 : decode cX3_countWays 158 = .ok (.iload 4, 2) := dk_21 4 (dk_at dksX3_countWays_6 15 rfl rfl)
theorem dX3_countWays_160 : decode cX3_countWays 160 = .ok (.iconst 1, 1) := dk_4 (dk_at dksX3_countWays_6 17 rfl rfl)
theorem dX3_countWays_161 : decode cX3_countWays 161 = .ok (.isub, 1) := dk_100 (dk_at dksX3_countWays_6 18 rfl rfl)
theorem dX3_countWays_162 : decode cX3_countWays 162 = .ok (.iload_n 3, 1) := dk_29 (dk_at dksX3_countWays_6 19 rfl rfl)
theorem dX3_countWays_163 : decode cX3_countWays 163 = .ok (.iand, 1) := dk_126 (dk_at dksX3_countWays_6 20 rfl rfl)
theorem dX3_countWays_164 : decode cX3_countWays 164 = .ok (.istore 4, 2) := dk_54 4 (dk_at dksX3_countWays_6 21 rfl rfl)
theorem dX3_countWays_166 : decode cX3_countWays 166 = .ok (.goto (-53), 3) := dk_167 255 203 (dk_at dksX3_countWays_7 0 rfl rfl)
theorem dX3_countWays_169 : decode cX3_countWays 169 = .ok (.iload_n 2, 1) := dk_28 (dk_at dksX3_countWays_7 3 rfl rfl)
theorem dX3_countWays_170 : decode cX3_countWays 170 = .ok (.ifCond .ne 7, 3) := dk_154 0 7 (dk_at dksX3_countWays_7 4 rfl rfl)
theorem dX3_countWays_173 : decode cX3_countWays 173 = .ok (.iconst (-1), 1) := dk_2 (dk_at dksX3_countWays_7 7 rfl rfl)
theorem dX3_countWays_174 : decode cX3_countWays 174 = .ok (.goto 13, 3) := dk_167 0 13 (dk_at dksX3_countWays_7 8 rfl rfl)
theorem dX3_countWays_177 : decode cX3_countWays 177 = .ok (.iload_n 2, 1) := dk_28 (dk_at dksX3_countWays_7 11 rfl rfl)
theorem dX3_countWays_178 : decode cX3_countWays 178 = .ok (.iconst 1, 1) := dk_4 (dk_at dksX3_countWays_7 12 rfl rfl)
theorem dX3_countWays_179 : decode cX3_countWays 179 = .ok (.isub, 1) := dk_100 (dk_at dksX3_countWays_7 13 rfl rfl)
theorem dX3_countWays_180 : decode cX3_countWays 180 = .ok (.aload_n 0, 1) := dk_42 (dk_at dksX3_countWays_7 14 rfl rfl)
theorem dX3_countWays_181 : decode cX3_countWays 181 = .ok (.getfield 67, 3) := dk_180 0 67 (dk_at dksX3_countWays_7 15 rfl rfl)
theorem dX3_countWays_184 : decode cX3_countWays 184 = .ok (.iload_n 1, 1) := dk_27 (dk_at dksX3_countWays_7 18 rfl rfl)
theorem dX3_countWays_185 : decode cX3_countWays 185 = .ok (.iaload, 1) := dk_46 (dk_at dksX3_countWays_7 19 rfl rfl)
theorem dX3_countWays_186 : decode cX3_countWays 186 = .ok (.iand, 1) := dk_126 (dk_at dksX3_countWays_7 20 rfl rfl)
theorem dX3_countWays_187 : decode cX3_countWays 187 = .ok (.istore_n 2, 1) := dk_61 (dk_at dksX3_countWays_7 21 rfl rfl)
theorem dX3_countWays_188 : decode cX3_countWays 188 = .ok (.goto (-103), 3) := dk_167 255 153 (dk_at dksX3_countWays_8 0 rfl rfl)
theorem dX3_countWays_191 : decode cX3_countWays 191 = .ok (.iinc 1 (-1), 3) := dk_132 1 255 (dk_at dksX3_countWays_8 3 rfl rfl)
theorem dX3_countWays_194 : decode cX3_countWays 194 = .ok (.goto (-148), 3) := dk_167 255 108 (dk_at dksX3_countWays_8 6 rfl rfl)
theorem dX3_countWays_197 : decode cX3_countWays 197 = .ok (.aload_n 0, 1) := dk_42 (dk_at dksX3_countWays_8 9 rfl rfl)
theorem dX3_countWays_198 : decode cX3_countWays 198 = .ok (.getfield 85, 3) := dk_180 0 85 (dk_at dksX3_countWays_8 10 rfl rfl)
theorem dX3_countWays_201 : decode cX3_countWays 201 = .ok (.aload_n 0, 1) := dk_42 (dk_at dksX3_countWays_8 13 rfl rfl)
theorem dX3_countWays_202 : decode cX3_countWays 202 = .ok (.invokevirtual 307, 3) := dk_182 1 51 (dk_at dksX3_countWays_8 14 rfl rfl)
theorem dX3_countWays_205 : decode cX3_countWays 205 = .ok (.iaload, 1) := dk_46 (dk_at dksX3_countWays_8 17 rfl rfl)
theorem dX3_countWays_206 : decode cX3_countWays 206 = .ok (.ireturn, 1) := dk_172 (dk_at dksX3_countWays_8 18 rfl rfl)
abbrev cX3_mended : ByteArray := prog_9_method_78_code
def yX3_mended : MethodName := ⟨RX3, "mended", "(I)I"⟩
def dkwX3_mended_2 : List UInt8 := [172]
abbrev dktX3_mended_2 : List UInt8 := dkwX3_mended_2 ++ []
def dkwX3_mended_1 : List UInt8 := [182, 1, 73, 61, 28, 18, 88, 160, 0, 6, 16, 254, 172, 42, 4, 28, 182, 1, 85, 42, 182, 1, 88, 28]
abbrev dktX3_mended_1 : List UInt8 := dkwX3_mended_1 ++ dktX3_mended_2
def dkwX3_mended_0 : List UInt8 := [42, 3, 181, 0, 114, 42, 27, 182, 0, 127, 154, 0, 5, 2, 172, 42, 27, 182, 1, 79, 42, 4]
abbrev dktX3_mended_0 : List UInt8 := dkwX3_mended_0 ++ dktX3_mended_1
theorem dksX3_mended_0 : cX3_mended.data.toList.drop 0 = dktX3_mended_0 := by decide +kernel
theorem dksX3_mended_1 : cX3_mended.data.toList.drop 22 = dktX3_mended_1 := dk_seg dksX3_mended_0 22 rfl rfl
theorem dksX3_mended_2 : cX3_mended.data.toList.drop 46 = dktX3_mended_2 := dk_seg dksX3_mended_1 24 rfl rfl
theorem dX3_mended_0 : decode cX3_mended 0 = .ok (.aload_n 0, 1) := dk_42 (dk_at dksX3_mended_0 0 rfl rfl)
theorem dX3_mended_1 : decode cX3_mended 1 = .ok (.iconst 0, 1) := dk_3 (dk_at dksX3_mended_0 1 rfl rfl)
theorem dX3_mended_2 : decode cX3_mended 2 = .ok (.putfield 114, 3) := dk_181 0 114 (dk_at dksX3_mended_0 2 rfl rfl)
theorem dX3_mended_5 : decode cX3_mended 5 = .ok (.aload_n 0, 1) := dk_42 (dk_at dksX3_mended_0 5 rfl rfl)
theorem dX3_mended_6 : decode cX3_mended 6 = .ok (.iload_n 1, 1) := dk_27 (dk_at dksX3_mended_0 6 rfl rfl)
theorem dX3_mended_7 : decode cX3_mended 7 = .ok (.invokevirtual 127, 3) := dk_182 0 127 (dk_at dksX3_mended_0 7 rfl rfl)
theorem dX3_mended_10 : decode cX3_mended 10 = .ok (.ifCond .ne 5, 3) := dk_154 0 5 (dk_at dksX3_mended_0 10 rfl rfl)
theorem dX3_mended_13 : decode cX3_mended 13 = .ok (.iconst (-1), 1) := dk_2 (dk_at dksX3_mended_0 13 rfl rfl)
theorem dX3_mended_14 : decode cX3_mended 14 = .ok (.ireturn, 1) := dk_172 (dk_at dksX3_mended_0 14 rfl rfl)
theorem dX3_mended_15 : decode cX3_mended 15 = .ok (.aload_n 0, 1) := dk_42 (dk_at dksX3_mended_0 15 rfl rfl)
theorem dX3_mended_16 : decode cX3_mended 16 = .ok (.iload_n 1, 1) := dk_27 (dk_at dksX3_mended_0 16 rfl rfl)
theorem dX3_mended_17 : decode cX3_mended 17 = .ok (.invokevirtual 335, 3) := dk_182 1 79 (dk_at dksX3_mended_0 17 rfl rfl)
theorem dX3_mended_20 : decode cX3_mended 20 = .ok (.aload_n 0, 1) := dk_42 (dk_at dksX3_mended_0 20 rfl rfl)
theorem dX3_mended_21 : decode cX3_mended 21 = .ok (.iconst 1, 1) := dk_4 (dk_at dksX3_mended_0 21 rfl rfl)
theorem dX3_mended_22 : decode cX3_mended 22 = .ok (.invokevirtual 329, 3) := dk_182 1 73 (dk_at dksX3_mended_1 0 rfl rfl)
theorem dX3_mended_25 : decode cX3_mended 25 = .ok (.istore_n 2, 1) := dk_61 (dk_at dksX3_mended_1 3 rfl rfl)
theorem dX3_mended_26 : decode cX3_mended 26 = .ok (.iload_n 2, 1) := dk_28 (dk_at dksX3_mended_1 4 rfl rfl)
theorem dX3_mended_27 : decode cX3_mended 27 = .ok (.ldc 88, 2) := dk_18 88 (dk_at dksX3_mended_1 5 rfl rfl)
theorem dX3_mended_29 : decode cX3_mended 29 = .ok (.if_icmp .ne 6, 3) := dk_160 0 6 (dk_at dksX3_mended_1 7 rfl rfl)
theorem dX3_mended_32 : decode cX3_mended 32 = .ok (.bipush (-2), 2) := dk_16 254 (dk_at dksX3_mended_1 10 rfl rfl)
theorem dX3_mended_34 : decode cX3_mended 34 = .ok (.ireturn, 1) := dk_172 (dk_at dksX3_mended_1 12 rfl rfl)
theorem dX3_mended_35 : decode cX3_mended 35 = .ok (.aload_n 0, 1) := dk_42 (dk_at dksX3_mended_1 13 rfl rfl)
theorem dX3_mended_36 : decode cX3_mended 36 = .ok (.iconst 1, 1) := dk_4 (dk_at dksX3_mended_1 14 rfl rfl)
theorem dX3_mended_37 : decode cX3_mended 37 = .ok (.iload_n 2, 1) := dk_28 (dk_at dksX3_mended_1 15 rfl rfl)
theorem dX3_mended_38 : decode cX3_mended 38 = .ok (.invokevirtual 341, 3) := dk_182 1 85 (dk_at dksX3_mended_1 16 rfl rfl)
theorem dX3_mended_41 : decode cX3_mended 41 = .ok (.aload_n 0, 1) := dk_42 (dk_at dksX3_mended_1 19 rfl rfl)
theorem dX3_mended_42 : decode cX3_mended 42 = .ok (.invokevirtual 344, 3) := dk_182 1 88 (dk_at dksX3_mended_1 20 rfl rfl)
theorem dX3_mended_45 : decode cX3_mended 45 = .ok (.iload_n 2, 1) := dk_28 (dk_at dksX3_mended_1 23 rfl rfl)
theorem dX3_mended_46 : decode cX3_mended 46 = .ok (.ireturn, 1) := dk_172 (dk_at dksX3_mended_2 0 rfl rfl)
abbrev cX3_takes : ByteArray := prog_9_method_79_code
def yX3_takes : MethodName := ⟨RX3, "takes", "()I"⟩
def dkwX3_takes_3 : List UInt8 := [180, 0, 9, 29, 42, 180, 0, 92, 29, 46, 79, 132, 3, 1, 167, 255, 210, 28, 172]
abbrev dktX3_takes_3 : List UInt8 := dkwX3_takes_3 ++ []
def dkwX3_takes_2 : List UInt8 := [42, 180, 0, 9, 29, 46, 42, 180, 0, 92, 29, 46, 160, 0, 7, 3, 167, 0, 4, 4, 96, 61, 42]
abbrev dktX3_takes_2 : List UInt8 := dkwX3_takes_2 ++ dktX3_takes_3
def dkwX3_takes_1 : List UInt8 := [182, 1, 85, 42, 42, 180, 0, 9, 182, 0, 253, 3, 61, 3, 62, 29, 42, 180, 0, 13, 162, 0, 44, 28]
abbrev dktX3_takes_1 : List UInt8 := dkwX3_takes_1 ++ dktX3_takes_2
def dkwX3_takes_0 : List UInt8 := [42, 3, 181, 0, 114, 42, 2, 182, 1, 82, 60, 27, 18, 88, 160, 0, 6, 16, 254, 172, 42, 3, 27]
abbrev dktX3_takes_0 : List UInt8 := dkwX3_takes_0 ++ dktX3_takes_1
theorem dksX3_takes_0 : cX3_takes.data.toList.drop 0 = dktX3_takes_0 := by decide +kernel
theorem dksX3_takes_1 : cX3_takes.data.toList.drop 23 = dktX3_takes_1 := dk_seg dksX3_takes_0 23 rfl rfl
theorem dksX3_takes_2 : cX3_takes.data.toList.drop 47 = dktX3_takes_2 := dk_seg dksX3_takes_1 24 rfl rfl
theorem dksX3_takes_3 : cX3_takes.data.toList.drop 70 = dktX3_takes_3 := dk_seg dksX3_takes_2 23 rfl rfl
theorem dX3_takes_0 : decode cX3_takes 0 = .ok (.aload_n 0, 1) := dk_42 (dk_at dksX3_takes_0 0 rfl rfl)
theorem dX3_takes_1 : decode cX3_takes 1 = .ok (.iconst 0, 1) := dk_3 (dk_at dksX3_takes_0 1 rfl rfl)
theorem dX3_takes_2 : decode cX3_takes 2 = .ok (.putfield 114, 3) := dk_181 0 114 (dk_at dksX3_takes_0 2 rfl rfl)
theorem dX3_takes_5 : decode cX3_takes 5 = .ok (.aload_n 0, 1) := dk_42 (dk_at dksX3_takes_0 5 rfl rfl)
theorem dX3_takes_6 : decode cX3_takes 6 = .ok (.iconst (-1), 1) := dk_2 (dk_at dksX3_takes_0 6 rfl rfl)
theorem dX3_takes_7 : decode cX3_takes 7 = .ok (.invokevirtual 338, 3) := dk_182 1 82 (dk_at dksX3_takes_0 7 rfl rfl)
theorem dX3_takes_10 : decode cX3_takes 10 = .ok (.istore_n 1, 1) := dk_60 (dk_at dksX3_takes_0 10 rfl rfl)
theorem dX3_takes_11 : decode cX3_takes 11 = .ok (.iload_n 1, 1) := dk_27 (dk_at dksX3_takes_0 11 rfl rfl)
theorem dX3_takes_12 : decode cX3_takes 12 = .ok (.ldc 88, 2) := dk_18 88 (dk_at dksX3_takes_0 12 rfl rfl)
theorem dX3_takes_14 : decode cX3_takes 14 = .ok (.if_icmp .ne 6, 3) := dk_160 0 6 (dk_at dksX3_takes_0 14 rfl rfl)
theorem dX3_takes_17 : decode cX3_takes 17 = .ok (.bipush (-2), 2) := dk_16 254 (dk_at dksX3_takes_0 17 rfl rfl)
theorem dX3_takes_19 : decode cX3_takes 19 = .ok (.ireturn, 1) := dk_172 (dk_at dksX3_takes_0 19 rfl rfl)
theorem dX3_takes_20 : decode cX3_takes 20 = .ok (.aload_n 0, 1) := dk_42 (dk_at dksX3_takes_0 20 rfl rfl)
theorem dX3_takes_21 : decode cX3_takes 21 = .ok (.iconst 0, 1) := dk_3 (dk_at dksX3_takes_0 21 rfl rfl)
theorem dX3_takes_22 : decode cX3_takes 22 = .ok (.iload_n 1, 1) := dk_27 (dk_at dksX3_takes_0 22 rfl rfl)
theorem dX3_takes_23 : decode cX3_takes 23 = .ok (.invokevirtual 341, 3) := dk_182 1 85 (dk_at dksX3_takes_1 0 rfl rfl)
theorem dX3_takes_26 : decode cX3_takes 26 = .ok (.aload_n 0, 1) := dk_42 (dk_at dksX3_takes_1 3 rfl rfl)
theorem dX3_takes_27 : decode cX3_takes 27 = .ok (.aload_n 0, 1) := dk_42 (dk_at dksX3_takes_1 4 rfl rfl)
theorem dX3_takes_28 : decode cX3_takes 28 = .ok (.getfield 9, 3) := dk_180 0 9 (dk_at dksX3_takes_1 5 rfl rfl)
theorem dX3_takes_31 : decode cX3_takes 31 = .ok (.invokevirtual 253, 3) := dk_182 0 253 (dk_at dksX3_takes_1 8 rfl rfl)
theorem dX3_takes_34 : decode cX3_takes 34 = .ok (.iconst 0, 1) := dk_3 (dk_at dksX3_takes_1 11 rfl rfl)
theorem dX3_takes_35 : decode cX3_takes 35 = .ok (.istore_n 2, 1) := dk_61 (dk_at dksX3_takes_1 12 rfl rfl)
theorem dX3_takes_36 : decode cX3_takes 36 = .ok (.iconst 0, 1) := dk_3 (dk_at dksX3_takes_1 13 rfl rfl)
theorem dX3_takes_37 : decode cX3_takes 37 = .ok (.istore_n 3, 1) := dk_62 (dk_at dksX3_takes_1 14 rfl rfl)
theorem dX3_takes_38 : decode cX3_takes 38 = .ok (.iload_n 3, 1) := dk_29 (dk_at dksX3_takes_1 15 rfl rfl)
theorem dX3_takes_39 : decode cX3_takes 39 = .ok (.aload_n 0, 1) := dk_42 (dk_at dksX3_takes_1 16 rfl rfl)
theorem dX3_takes_40 : decode cX3_takes 40 = .ok (.getfield 13, 3) := dk_180 0 13 (dk_at dksX3_takes_1 17 rfl rfl)
theorem dX3_takes_43 : decode cX3_takes 43 = .ok (.if_icmp .ge 44, 3) := dk_162 0 44 (dk_at dksX3_takes_1 20 rfl rfl)
theorem dX3_takes_46 : decode cX3_takes 46 = .ok (.iload_n 2, 1) := dk_28 (dk_at dksX3_takes_1 23 rfl rfl)
theorem dX3_takes_47 : decode cX3_takes 47 = .ok (.aload_n 0, 1) := dk_42 (dk_at dksX3_takes_2 0 rfl rfl)
theorem dX3_takes_48 : decode cX3_takes 48 = .ok (.getfield 9, 3) := dk_180 0 9 (dk_at dksX3_takes_2 1 rfl rfl)
theorem dX3_takes_51 : decode cX3_takes 51 = .ok (.iload_n 3, 1) := dk_29 (dk_at dksX3_takes_2 4 rfl rfl)
theorem dX3_takes_52 : decode cX3_takes 52 = .ok (.iaload, 1) := dk_46 (dk_at dksX3_takes_2 5 rfl rfl)
theorem dX3_takes_53 : decode cX3_takes 53 = .ok (.aload_n 0, 1) := dk_42 (dk_at dksX3_takes_2 6 rfl rfl)
theorem dX3_takes_54 : decode cX3_takes 54 = .ok (.getfield 92, 3) := dk_180 0 92 (dk_at dksX3_takes_2 7 rfl rfl)
theorem dX3_takes_57 : decode cX3_takes 57 = .ok (.iload_n 3, 1) := dk_29 (dk_at dksX3_takes_2 10 rfl rfl)
theorem dX3_takes_58 : decode cX3_takes 58 = .ok (.iaload, 1) := dk_46 (dk_at dksX3_takes_2 11 rfl rfl)
theorem dX3_takes_59 : decode cX3_takes 59 = .ok (.if_icmp .ne 7, 3) := dk_160 0 7 (dk_at dksX3_takes_2 12 rfl rfl)
theorem dX3_takes_62 : decode cX3_takes 62 = .ok (.iconst 0, 1) := dk_3 (dk_at dksX3_takes_2 15 rfl rfl)
theorem dX3_takes_63 : decode cX3_takes 63 = .ok (.goto 4, 3) := dk_167 0 4 (dk_at dksX3_takes_2 16 rfl rfl)
theorem dX3_takes_66 : decode cX3_takes 66 = .ok (.iconst 1, 1) := dk_4 (dk_at dksX3_takes_2 19 rfl rfl)
theorem dX3_takes_67 : decode cX3_takes 67 = .ok (.iadd, 1) := dk_96 (dk_at dksX3_takes_2 20 rfl rfl)
theorem dX3_takes_68 : decode cX3_takes 68 = .ok (.istore_n 2, 1) := dk_61 (dk_at dksX3_takes_2 21 rfl rfl)
theorem dX3_takes_69 : decode cX3_takes 69 = .ok (.aload_n 0, 1) := dk_42 (dk_at dksX3_takes_2 22 rfl rfl)
theorem dX3_takes_70 : decode cX3_takes 70 = .ok (.getfield 9, 3) := dk_180 0 9 (dk_at dksX3_takes_3 0 rfl rfl)
theorem dX3_takes_73 : decode cX3_takes 73 = .ok (.iload_n 3, 1) := dk_29 (dk_at dksX3_takes_3 3 rfl rfl)
theorem dX3_takes_74 : decode cX3_takes 74 = .ok (.aload_n 0, 1) := dk_42 (dk_at dksX3_takes_3 4 rfl rfl)
theorem dX3_takes_75 : decode cX3_takes 75 = .ok (.getfield 92, 3) := dk_180 0 92 (dk_at dksX3_takes_3 5 rfl rfl)
theorem dX3_takes_78 : decode cX3_takes 78 = .ok (.iload_n 3, 1) := dk_29 (dk_at dksX3_takes_3 8 rfl rfl)
theorem dX3_takes_79 : decode cX3_takes 79 = .ok (.iaload, 1) := dk_46 (dk_at dksX3_takes_3 9 rfl rfl)
theorem dX3_takes_80 : decode cX3_takes 80 = .ok (.iastore, 1) := dk_79 (dk_at dksX3_takes_3 10 rfl rfl)
theorem dX3_takes_81 : decode cX3_takes 81 = .ok (.iinc 3 1, 3) := dk_132 3 1 (dk_at dksX3_takes_3 11 rfl rfl)
theorem dX3_takes_84 : decode cX3_takes 84 = .ok (.goto (-46), 3) := dk_167 255 210 (dk_at dksX3_takes_3 14 rfl rfl)
theorem dX3_takes_87 : decode cX3_takes 87 = .ok (.iload_n 2, 1) := dk_28 (dk_at dksX3_takes_3 17 rfl rfl)
theorem dX3_takes_88 : decode cX3_takes 88 = .ok (.ireturn, 1) := dk_172 (dk_at dksX3_takes_3 18 rfl rfl)
abbrev cX3_missed : ByteArray := prog_9_method_80_code
def yX3_missed : MethodName := ⟨RX3, "missed", "(I)I"⟩
def dkwX3_missed_2 : List UInt8 := [172]
abbrev dktX3_missed_2 : List UInt8 := dkwX3_missed_2 ++ []
def dkwX3_missed_1 : List UInt8 := [182, 1, 82, 62, 28, 18, 88, 159, 0, 9, 29, 18, 88, 160, 0, 8, 16, 254, 167, 0, 6, 29, 28, 100]
abbrev dktX3_missed_1 : List UInt8 := dkwX3_missed_1 ++ dktX3_missed_2
def dkwX3_missed_0 : List UInt8 := [42, 3, 181, 0, 114, 42, 27, 182, 0, 127, 154, 0, 5, 2, 172, 42, 2, 182, 1, 82, 61, 42, 27]
abbrev dktX3_missed_0 : List UInt8 := dkwX3_missed_0 ++ dktX3_missed_1
theorem dksX3_missed_0 : cX3_missed.data.toList.drop 0 = dktX3_missed_0 := by decide +kernel
theorem dksX3_missed_1 : cX3_missed.data.toList.drop 23 = dktX3_missed_1 := dk_seg dksX3_missed_0 23 rfl rfl
theorem dksX3_missed_2 : cX3_missed.data.toList.drop 47 = dktX3_missed_2 := dk_seg dksX3_missed_1 24 rfl rfl
theorem dX3_missed_0 : decode cX3_missed 0 = .ok (.aload_n 0, 1) := dk_42 (dk_at dksX3_missed_0 0 rfl rfl)
theorem dX3_missed_1 : decode cX3_missed 1 = .ok (.iconst 0, 1) := dk_3 (dk_at dksX3_missed_0 1 rfl rfl)
theorem dX3_missed_2 : decode cX3_missed 2 = .ok (.putfield 114, 3) := dk_181 0 114 (dk_at dksX3_missed_0 2 rfl rfl)
theorem dX3_missed_5 : decode cX3_missed 5 = .ok (.aload_n 0, 1) := dk_42 (dk_at dksX3_missed_0 5 rfl rfl)
theorem dX3_missed_6 : decode cX3_missed 6 = .ok (.iload_n 1, 1) := dk_27 (dk_at dksX3_missed_0 6 rfl rfl)
theorem dX3_missed_7 : decode cX3_missed 7 = .ok (.invokevirtual 127, 3) := dk_182 0 127 (dk_at dksX3_missed_0 7 rfl rfl)
theorem dX3_missed_10 : decode cX3_missed 10 = .ok (.ifCond .ne 5, 3) := dk_154 0 5 (dk_at dksX3_missed_0 10 rfl rfl)
theorem dX3_missed_13 : decode cX3_missed 13 = .ok (.iconst (-1), 1) := dk_2 (dk_at dksX3_missed_0 13 rfl rfl)
theorem dX3_missed_14 : decode cX3_missed 14 = .ok (.ireturn, 1) := dk_172 (dk_at dksX3_missed_0 14 rfl rfl)
theorem dX3_missed_15 : decode cX3_missed 15 = .ok (.aload_n 0, 1) := dk_42 (dk_at dksX3_missed_0 15 rfl rfl)
theorem dX3_missed_16 : decode cX3_missed 16 = .ok (.iconst (-1), 1) := dk_2 (dk_at dksX3_missed_0 16 rfl rfl)
theorem dX3_missed_17 : decode cX3_missed 17 = .ok (.invokevirtual 338, 3) := dk_182 1 82 (dk_at dksX3_missed_0 17 rfl rfl)
theorem dX3_missed_20 : decode cX3_missed 20 = .ok (.istore_n 2, 1) := dk_61 (dk_at dksX3_missed_0 20 rfl rfl)
theorem dX3_missed_21 : decode cX3_missed 21 = .ok (.aload_n 0, 1) := dk_42 (dk_at dksX3_missed_0 21 rfl rfl)
theorem dX3_missed_22 : decode cX3_missed 22 = .ok (.iload_n 1, 1) := dk_27 (dk_at dksX3_missed_0 22 rfl rfl)
theorem dX3_missed_23 : decode cX3_missed 23 = .ok (.invokevirtual 338, 3) := dk_182 1 82 (dk_at dksX3_missed_1 0 rfl rfl)
theorem dX3_missed_26 : decode cX3_missed 26 = .ok (.istore_n 3, 1) := dk_62 (dk_at dksX3_missed_1 3 rfl rfl)
theorem dX3_missed_27 : decode cX3_missed 27 = .ok (.iload_n 2, 1) := dk_28 (dk_at dksX3_missed_1 4 rfl rfl)
theorem dX3_missed_28 : decode cX3_missed 28 = .ok (.ldc 88, 2) := dk_18 88 (dk_at dksX3_missed_1 5 rfl rfl)
theorem dX3_missed_30 : decode cX3_missed 30 = .ok (.if_icmp .eq 9, 3) := dk_159 0 9 (dk_at dksX3_missed_1 7 rfl rfl)
theorem dX3_missed_33 : decode cX3_missed 33 = .ok (.iload_n 3, 1) := dk_29 (dk_at dksX3_missed_1 10 rfl rfl)
theorem dX3_missed_34 : decode cX3_missed 34 = .ok (.ldc 88, 2) := dk_18 88 (dk_at dksX3_missed_1 11 rfl rfl)
theorem dX3_missed_36 : decode cX3_missed 36 = .ok (.if_icmp .ne 8, 3) := dk_160 0 8 (dk_at dksX3_missed_1 13 rfl rfl)
theorem dX3_missed_39 : decode cX3_missed 39 = .ok (.bipush (-2), 2) := dk_16 254 (dk_at dksX3_missed_1 16 rfl rfl)
theorem dX3_missed_41 : decode cX3_missed 41 = .ok (.goto 6, 3) := dk_167 0 6 (dk_at dksX3_missed_1 18 rfl rfl)
theorem dX3_missed_44 : decode cX3_missed 44 = .ok (.iload_n 3, 1) := dk_29 (dk_at dksX3_missed_1 21 rfl rfl)
theorem dX3_missed_45 : decode cX3_missed 45 = .ok (.iload_n 2, 1) := dk_28 (dk_at dksX3_missed_1 22 rfl rfl)
theorem dX3_missed_46 : decode cX3_missed 46 = .ok (.isub, 1) := dk_100 (dk_at dksX3_missed_1 23 rfl rfl)
theorem dX3_missed_47 : decode cX3_missed 47 = .ok (.ireturn, 1) := dk_172 (dk_at dksX3_missed_2 0 rfl rfl)
abbrev cX3_paid : ByteArray := prog_9_method_81_code
def yX3_paid : MethodName := ⟨RX3, "paid", "(I)I"⟩
def dkwX3_paid_5 : List UInt8 := [100, 133, 182, 1, 28, 28, 29, 21, 4, 100, 100, 172]
abbrev dktX3_paid_5 : List UInt8 := dkwX3_paid_5 ++ []
def dkwX3_paid_4 : List UInt8 := [54, 4, 132, 5, 1, 167, 255, 212, 42, 3, 181, 0, 117, 42, 21, 4, 133, 182, 1, 28, 42, 29, 21, 4]
abbrev dktX3_paid_4 : List UInt8 := dkwX3_paid_4 ++ dktX3_paid_5
def dkwX3_paid_3 : List UInt8 := [21, 5, 46, 27, 160, 0, 18, 42, 180, 0, 79, 16, 8, 27, 104, 21, 5, 96, 46, 167, 0, 4, 3, 96]
abbrev dktX3_paid_3 : List UInt8 := dkwX3_paid_3 ++ dktX3_paid_4
def dkwX3_paid_2 : List UInt8 := [182, 1, 85, 3, 54, 4, 3, 54, 5, 21, 5, 42, 180, 0, 13, 162, 0, 41, 21, 4, 42, 180, 0, 92]
abbrev dktX3_paid_2 : List UInt8 := dkwX3_paid_2 ++ dktX3_paid_3
def dkwX3_paid_1 : List UInt8 := [182, 1, 82, 62, 29, 18, 88, 159, 0, 9, 28, 18, 88, 160, 0, 6, 16, 254, 172, 42, 3, 29]
abbrev dktX3_paid_1 : List UInt8 := dkwX3_paid_1 ++ dktX3_paid_2
def dkwX3_paid_0 : List UInt8 := [42, 3, 181, 0, 114, 42, 27, 182, 0, 127, 154, 0, 5, 2, 172, 42, 27, 182, 1, 82, 61, 42, 2]
abbrev dktX3_paid_0 : List UInt8 := dkwX3_paid_0 ++ dktX3_paid_1
theorem dksX3_paid_0 : cX3_paid.data.toList.drop 0 = dktX3_paid_0 := by decide +kernel
theorem dksX3_paid_1 : cX3_paid.data.toList.drop 23 = dktX3_paid_1 := dk_seg dksX3_paid_0 23 rfl rfl
theorem dksX3_paid_2 : cX3_paid.data.toList.drop 45 = dktX3_paid_2 := dk_seg dksX3_paid_1 22 rfl rfl
theorem dksX3_paid_3 : cX3_paid.data.toList.drop 69 = dktX3_paid_3 := dk_seg dksX3_paid_2 24 rfl rfl
theorem dksX3_paid_4 : cX3_paid.data.toList.drop 93 = dktX3_paid_4 := dk_seg dksX3_paid_3 24 rfl rfl
theorem dksX3_paid_5 : cX3_paid.data.toList.drop 117 = dktX3_paid_5 := dk_seg dksX3_paid_4 24 rfl rfl
theorem dX3_paid_0 : decode cX3_paid 0 = .ok (.aload_n 0, 1) := dk_42 (dk_at dksX3_paid_0 0 rfl rfl)
theorem dX3_paid_1 : decode cX3_paid 1 = .ok (.iconst 0, 1) := dk_3 (dk_at dksX3_paid_0 1 rfl rfl)
theorem dX3_paid_2 : decode cX3_paid 2 = .ok (.putfield 114, 3) := dk_181 0 114 (dk_at dksX3_paid_0 2 rfl rfl)
theorem dX3_paid_5 : decode cX3_paid 5 = .ok (.aload_n 0, 1) := dk_42 (dk_at dksX3_paid_0 5 rfl rfl)
theorem dX3_paid_6 : decode cX3_paid 6 = .ok (.iload_n 1, 1) := dk_27 (dk_at dksX3_paid_0 6 rfl rfl)
theorem dX3_paid_7 : decode cX3_paid 7 = .ok (.invokevirtual 127, 3) := dk_182 0 127 (dk_at dksX3_paid_0 7 rfl rfl)
theorem dX3_paid_10 : decode cX3_paid 10 = .ok (.ifCond .ne 5, 3) := dk_154 0 5 (dk_at dksX3_paid_0 10 rfl rfl)
theorem dX3_paid_13 : decode cX3_paid 13 = .ok (.iconst (-1), 1) := dk_2 (dk_at dksX3_paid_0 13 rfl rfl)
theorem dX3_paid_14 : decode cX3_paid 14 = .ok (.ireturn, 1) := dk_172 (dk_at dksX3_paid_0 14 rfl rfl)
theorem dX3_paid_15 : decode cX3_paid 15 = .ok (.aload_n 0, 1) := dk_42 (dk_at dksX3_paid_0 15 rfl rfl)
theorem dX3_paid_16 : decode cX3_paid 16 = .ok (.iload_n 1, 1) := dk_27 (dk_at dksX3_paid_0 16 rfl rfl)
theorem dX3_paid_17 : decode cX3_paid 17 = .ok (.invokevirtual 338, 3) := dk_182 1 82 (dk_at dksX3_paid_0 17 rfl rfl)
theorem dX3_paid_20 : decode cX3_paid 20 = .ok (.istore_n 2, 1) := dk_61 (dk_at dksX3_paid_0 20 rfl rfl)
theorem dX3_paid_21 : decode cX3_paid 21 = .ok (.aload_n 0, 1) := dk_42 (dk_at dksX3_paid_0 21 rfl rfl)
theorem dX3_paid_22 : decode cX3_paid 22 = .ok (.iconst (-1), 1) := dk_2 (dk_at dksX3_paid_0 22 rfl rfl)
theorem dX3_paid_23 : decode cX3_paid 23 = .ok (.invokevirtual 338, 3) := dk_182 1 82 (dk_at dksX3_paid_1 0 rfl rfl)
theorem dX3_paid_26 : decode cX3_paid 26 = .ok (.istore_n 3, 1) := dk_62 (dk_at dksX3_paid_1 3 rfl rfl)
theorem dX3_paid_27 : decode cX3_paid 27 = .ok (.iload_n 3, 1) := dk_29 (dk_at dksX3_paid_1 4 rfl rfl)
theorem dX3_paid_28 : decode cX3_paid 28 = .ok (.ldc 88, 2) := dk_18 88 (dk_at dksX3_paid_1 5 rfl rfl)
theorem dX3_paid_30 : decode cX3_paid 30 = .ok (.if_icmp .eq 9, 3) := dk_159 0 9 (dk_at dksX3_paid_1 7 rfl rfl)
theorem dX3_paid_33 : decode cX3_paid 33 = .ok (.iload_n 2, 1) := dk_28 (dk_at dksX3_paid_1 10 rfl rfl)
theorem dX3_paid_34 : decode cX3_paid 34 = .ok (.ldc 88, 2) := dk_18 88 (dk_at dksX3_paid_1 11 rfl rfl)
theorem dX3_paid_36 : decode cX3_paid 36 = .ok (.if_icmp .ne 6, 3) := dk_160 0 6 (dk_at dksX3_paid_1 13 rfl rfl)
theorem dX3_paid_39 : decode cX3_paid 39 = .ok (.bipush (-2), 2) := dk_16 254 (dk_at dksX3_paid_1 16 rfl rfl)
theorem dX3_paid_41 : decode cX3_paid 41 = .ok (.ireturn, 1) := dk_172 (dk_at dksX3_paid_1 18 rfl rfl)
theorem dX3_paid_42 : decode cX3_paid 42 = .ok (.aload_n 0, 1) := dk_42 (dk_at dksX3_paid_1 19 rfl rfl)
theorem dX3_paid_43 : decode cX3_paid 43 = .ok (.iconst 0, 1) := dk_3 (dk_at dksX3_paid_1 20 rfl rfl)
theorem dX3_paid_44 : decode cX3_paid 44 = .ok (.iload_n 3, 1) := dk_29 (dk_at dksX3_paid_1 21 rfl rfl)
theorem dX3_paid_45 : decode cX3_paid 45 = .ok (.invokevirtual 341, 3) := dk_182 1 85 (dk_at dksX3_paid_2 0 rfl rfl)
theorem dX3_paid_48 : decode cX3_paid 48 = .ok (.iconst 0, 1) := dk_3 (dk_at dksX3_paid_2 3 rfl rfl)
theorem dX3_paid_49 : decode cX3_paid 49 = .ok (.istore 4, 2) := dk_54 4 (dk_at dksX3_paid_2 4 rfl rfl)
theorem dX3_paid_51 : decode cX3_paid 51 = .ok (.iconst 0, 1) := dk_3 (dk_at dksX3_paid_2 6 rfl rfl)
theorem dX3_paid_52 : decode cX3_paid 52 = .ok (.istore 5, 2) := dk_54 5 (dk_at dksX3_paid_2 7 rfl rfl)
theorem dX3_paid_54 : decode cX3_paid 54 = .ok (.iload 5, 2) := dk_21 5 (dk_at dksX3_paid_2 9 rfl rfl)
theorem dX3_paid_56 : decode cX3_paid 56 = .ok (.aload_n 0, 1) := dk_42 (dk_at dksX3_paid_2 11 rfl rfl)
theorem dX3_paid_57 : decode cX3_paid 57 = .ok (.getfield 13, 3) := dk_180 0 13 (dk_at dksX3_paid_2 12 rfl rfl)
theorem dX3_paid_60 : decode cX3_paid 60 = .ok (.if_icmp .ge 41, 3) := dk_162 0 41 (dk_at dksX3_paid_2 15 rfl rfl)
theorem dX3_paid_63 : decode cX3_paid 63 = .ok (.iload 4, 2) := dk_21 4 (dk_at dksX3_paid_2 18 rfl rfl)
theorem dX3_paid_65 : decode cX3_paid 65 = .ok (.aload_n 0, 1) := dk_42 (dk_at dksX3_paid_2 20 rfl rfl)
theorem dX3_paid_66 : decode cX3_paid 66 = .ok (.getfield 92, 3) := dk_180 0 92 (dk_at dksX3_paid_2 21 rfl rfl)
theorem dX3_paid_69 : decode cX3_paid 69 = .ok (.iload 5, 2) := dk_21 5 (dk_at dksX3_paid_3 0 rfl rfl)
theorem dX3_paid_71 : decode cX3_paid 71 = .ok (.iaload, 1) := dk_46 (dk_at dksX3_paid_3 2 rfl rfl)
theorem dX3_paid_72 : decode cX3_paid 72 = .ok (.iload_n 1, 1) := dk_27 (dk_at dksX3_paid_3 3 rfl rfl)
theorem dX3_paid_73 : decode cX3_paid 73 = .ok (.if_icmp .ne 18, 3) := dk_160 0 18 (dk_at dksX3_paid_3 4 rfl rfl)
theorem dX3_paid_76 : decode cX3_paid 76 = .ok (.aload_n 0, 1) := dk_42 (dk_at dksX3_paid_3 7 rfl rfl)
theorem dX3_paid_77 : decode cX3_paid 77 = .ok (.getfield 79, 3) := dk_180 0 79 (dk_at dksX3_paid_3 8 rfl rfl)
theorem dX3_paid_80 : decode cX3_paid 80 = .ok (.bipush 8, 2) := dk_16 8 (dk_at dksX3_paid_3 11 rfl rfl)
theorem dX3_paid_82 : decode cX3_paid 82 = .ok (.iload_n 1, 1) := dk_27 (dk_at dksX3_paid_3 13 rfl rfl)
theorem dX3_paid_83 : decode cX3_paid 83 = .ok (.imul, 1) := dk_104 (dk_at dksX3_paid_3 14 rfl rfl)
theorem dX3_paid_84 : decode cX3_paid 84 = .ok (.iload 5, 2) := dk_21 5 (dk_at dksX3_paid_3 15 rfl rfl)
theorem dX3_paid_86 : decode cX3_paid 86 = .ok (.iadd, 1) := dk_96 (dk_at dksX3_paid_3 17 rfl rfl)
theorem dX3_paid_87 : decode cX3_paid 87 = .ok (.iaload, 1) := dk_46 (dk_at dksX3_paid_3 18 rfl rfl)
theorem dX3_paid_88 : decode cX3_paid 88 = .ok (.goto 4, 3) := dk_167 0 4 (dk_at dksX3_paid_3 19 rfl rfl)
theorem dX3_paid_91 : decode cX3_paid 91 = .ok (.iconst 0, 1) := dk_3 (dk_at dksX3_paid_3 22 rfl rfl)
theorem dX3_paid_92 : decode cX3_paid 92 = .ok (.iadd, 1) := dk_96 (dk_at dksX3_paid_3 23 rfl rfl)
theorem dX3_paid_93 : decode cX3_paid 93 = .ok (.istore 4, 2) := dk_54 4 (dk_at dksX3_paid_4 0 rfl rfl)
theorem dX3_paid_95 : decode cX3_paid 95 = .ok (.iinc 5 1, 3) := dk_132 5 1 (dk_at dksX3_paid_4 2 rfl rfl)
theorem dX3_paid_98 : decode cX3_paid 98 = .ok (.goto (-44), 3) := dk_167 255 212 (dk_at dksX3_paid_4 5 rfl rfl)
theorem dX3_paid_101 : decode cX3_paid 101 = .ok (.aload_n 0, 1) := dk_42 (dk_at dksX3_paid_4 8 rfl rfl)
theorem dX3_paid_102 : decode cX3_paid 102 = .ok (.iconst 0, 1) := dk_3 (dk_at dksX3_paid_4 9 rfl rfl)
theorem dX3_paid_103 : decode cX3_paid 103 = .ok (.putfield 117, 3) := dk_181 0 117 (dk_at dksX3_paid_4 10 rfl rfl)
theorem dX3_paid_106 : decode cX3_paid 106 = .ok (.aload_n 0, 1) := dk_42 (dk_at dksX3_paid_4 13 rfl rfl)
theorem dX3_paid_107 : decode cX3_paid 107 = .ok (.iload 4, 2) := dk_21 4 (dk_at dksX3_paid_4 14 rfl rfl)
theorem dX3_paid_109 : decode cX3_paid 109 = .ok (.i2l, 1) := dk_133 (dk_at dksX3_paid_4 16 rfl rfl)
theorem dX3_paid_110 : decode cX3_paid 110 = .ok (.invokevirtual 284, 3) := dk_182 1 28 (dk_at dksX3_paid_4 17 rfl rfl)
theorem dX3_paid_113 : decode cX3_paid 113 = .ok (.aload_n 0, 1) := dk_42 (dk_at dksX3_paid_4 20 rfl rfl)
theorem dX3_paid_114 : decode cX3_paid 114 = .ok (.iload_n 3, 1) := dk_29 (dk_at dksX3_paid_4 21 rfl rfl)
theorem dX3_paid_115 : decode cX3_paid 115 = .ok (.iload 4, 2) := dk_21 4 (dk_at dksX3_paid_4 22 rfl rfl)
theorem dX3_paid_117 : decode cX3_paid 117 = .ok (.isub, 1) := dk_100 (dk_at dksX3_paid_5 0 rfl rfl)
theorem dX3_paid_118 : decode cX3_paid 118 = .ok (.i2l, 1) := dk_133 (dk_at dksX3_paid_5 1 rfl rfl)
theorem dX3_paid_119 : decode cX3_paid 119 = .ok (.invokevirtual 284, 3) := dk_182 1 28 (dk_at dksX3_paid_5 2 rfl rfl)
theorem dX3_paid_122 : decode cX3_paid 122 = .ok (.iload_n 2, 1) := dk_28 (dk_at dksX3_paid_5 5 rfl rfl)
theorem dX3_paid_123 : decode cX3_paid 123 = .ok (.iload_n 3, 1) := dk_29 (dk_at dksX3_paid_5 6 rfl rfl)
theorem dX3_paid_124 : decode cX3_paid 124 = .ok (.iload 4, 2) := dk_21 4 (dk_at dksX3_paid_5 7 rfl rfl)
theorem dX3_paid_126 : decode cX3_paid 126 = .ok (.isub, 1) := dk_100 (dk_at dksX3_paid_5 9 rfl rfl)
theorem dX3_paid_127 : decode cX3_paid 127 = .ok (.isub, 1) := dk_100 (dk_at dksX3_paid_5 10 rfl rfl)
theorem dX3_paid_128 : decode cX3_paid 128 = .ok (.ireturn, 1) := dk_172 (dk_at dksX3_paid_5 11 rfl rfl)
abbrev cX3_fairest : ByteArray := prog_9_method_82_code
def yX3_fairest : MethodName := ⟨RX3, "fairest", "()I"⟩
def dkwX3_fairest_4 : List UInt8 := [182, 1, 28, 28, 172]
abbrev dktX3_fairest_4 : List UInt8 := dkwX3_fairest_4 ++ []
def dkwX3_fairest_3 : List UInt8 := [18, 88, 181, 0, 89, 29, 18, 88, 160, 0, 6, 16, 254, 172, 42, 3, 181, 0, 117, 42, 29, 133]
abbrev dktX3_fairest_3 : List UInt8 := dkwX3_fairest_3 ++ dktX3_fairest_4
def dkwX3_fairest_2 : List UInt8 := [167, 255, 225, 42, 180, 0, 89, 60, 167, 255, 217, 42, 28, 181, 0, 89, 42, 3, 182, 1, 73, 62, 42]
abbrev dktX3_fairest_2 : List UInt8 := dkwX3_fairest_2 ++ dktX3_fairest_3
def dkwX3_fairest_1 : List UInt8 := [27, 28, 96, 5, 108, 181, 0, 89, 42, 3, 182, 1, 73, 18, 88, 162, 0, 11, 42, 180, 0, 89, 61]
abbrev dktX3_fairest_1 : List UInt8 := dkwX3_fairest_1 ++ dktX3_fairest_2
def dkwX3_fairest_0 : List UInt8 := [42, 3, 181, 0, 114, 42, 2, 182, 1, 79, 2, 60, 17, 15, 157, 61, 28, 27, 100, 4, 164, 0, 38, 42]
abbrev dktX3_fairest_0 : List UInt8 := dkwX3_fairest_0 ++ dktX3_fairest_1
theorem dksX3_fairest_0 : cX3_fairest.data.toList.drop 0 = dktX3_fairest_0 := by decide +kernel
theorem dksX3_fairest_1 : cX3_fairest.data.toList.drop 24 = dktX3_fairest_1 := dk_seg dksX3_fairest_0 24 rfl rfl
theorem dksX3_fairest_2 : cX3_fairest.data.toList.drop 47 = dktX3_fairest_2 := dk_seg dksX3_fairest_1 23 rfl rfl
theorem dksX3_fairest_3 : cX3_fairest.data.toList.drop 70 = dktX3_fairest_3 := dk_seg dksX3_fairest_2 23 rfl rfl
theorem dksX3_fairest_4 : cX3_fairest.data.toList.drop 92 = dktX3_fairest_4 := dk_seg dksX3_fairest_3 22 rfl rfl
theorem dX3_fairest_0 : decode cX3_fairest 0 = .ok (.aload_n 0, 1) := dk_42 (dk_at dksX3_fairest_0 0 rfl rfl)
theorem dX3_fairest_1 : decode cX3_fairest 1 = .ok (.iconst 0, 1) := dk_3 (dk_at dksX3_fairest_0 1 rfl rfl)
theorem dX3_fairest_2 : decode cX3_fairest 2 = .ok (.putfield 114, 3) := dk_181 0 114 (dk_at dksX3_fairest_0 2 rfl rfl)
theorem dX3_fairest_5 : decode cX3_fairest 5 = .ok (.aload_n 0, 1) := dk_42 (dk_at dksX3_fairest_0 5 rfl rfl)
theorem dX3_fairest_6 : decode cX3_fairest 6 = .ok (.iconst (-1), 1) := dk_2 (dk_at dksX3_fairest_0 6 rfl rfl)
theorem dX3_fairest_7 : decode cX3_fairest 7 = .ok (.invokevirtual 335, 3) := dk_182 1 79 (dk_at dksX3_fairest_0 7 rfl rfl)
theorem dX3_fairest_10 : decode cX3_fairest 10 = .ok (.iconst (-1), 1) := dk_2 (dk_at dksX3_fairest_0 10 rfl rfl)
theorem dX3_fairest_11 : decode cX3_fairest 11 = .ok (.istore_n 1, 1) := dk_60 (dk_at dksX3_fairest_0 11 rfl rfl)
theorem dX3_fairest_12 : decode cX3_fairest 12 = .ok (.sipush 3997, 3) := dk_17 15 157 (dk_at dksX3_fairest_0 12 rfl rfl)
theorem dX3_fairest_15 : decode cX3_fairest 15 = .ok (.istore_n 2, 1) := dk_61 (dk_at dksX3_fairest_0 15 rfl rfl)
theorem dX3_fairest_16 : decode cX3_fairest 16 = .ok (.iload_n 2, 1) := dk_28 (dk_at dksX3_fairest_0 16 rfl rfl)
theorem dX3_fairest_17 : decode cX3_fairest 17 = .ok (.iload_n 1, 1) := dk_27 (dk_at dksX3_fairest_0 17 rfl rfl)
theorem dX3_fairest_18 : decode cX3_fairest 18 = .ok (.isub, 1) := dk_100 (dk_at dksX3_fairest_0 18 rfl rfl)
theorem dX3_fairest_19 : decode cX3_fairest 19 = .ok (.iconst 1, 1) := dk_4 (dk_at dksX3_fairest_0 19 rfl rfl)
theorem dX3_fairest_20 : decode cX3_fairest 20 = .ok (.if_icmp .le 38, 3) := dk_164 0 38 (dk_at dksX3_fairest_0 20 rfl rfl)
theorem dX3_fairest_23 : decode cX3_fairest 23 = .ok (.aload_n 0, 1) := dk_42 (dk_at dksX3_fairest_0 23 rfl rfl)
theorem dX3_fairest_24 : decode cX3_fairest 24 = .ok (.iload_n 1, 1) := dk_27 (dk_at dksX3_fairest_1 0 rfl rfl)
theorem dX3_fairest_25 : decode cX3_fairest 25 = .ok (.iload_n 2, 1) := dk_28 (dk_at dksX3_fairest_1 1 rfl rfl)
theorem dX3_fairest_26 : decode cX3_fairest 26 = .ok (.iadd, 1) := dk_96 (dk_at dksX3_fairest_1 2 rfl rfl)
theorem dX3_fairest_27 : decode cX3_fairest 27 = .ok (.iconst 2, 1) := dk_5 (dk_at dksX3_fairest_1 3 rfl rfl)
theorem dX3_fairest_28 : decode cX3_fairest 28 = .ok (.idiv, 1) := dk_108 (dk_at dksX3_fairest_1 4 rfl rfl)
theorem dX3_fairest_29 : decode cX3_fairest 29 = .ok (.putfield 89, 3) := dk_181 0 89 (dk_at dksX3_fairest_1 5 rfl rfl)
theorem dX3_fairest_32 : decode cX3_fairest 32 = .ok (.aload_n 0, 1) := dk_42 (dk_at dksX3_fairest_1 8 rfl rfl)
theorem dX3_fairest_33 : decode cX3_fairest 33 = .ok (.iconst 0, 1) := dk_3 (dk_at dksX3_fairest_1 9 rfl rfl)
theorem dX3_fairest_34 : decode cX3_fairest 34 = .ok (.invokevirtual 329, 3) := dk_182 1 73 (dk_at dksX3_fairest_1 10 rfl rfl)
theorem dX3_fairest_37 : decode cX3_fairest 37 = .ok (.ldc 88, 2) := dk_18 88 (dk_at dksX3_fairest_1 13 rfl rfl)
theorem dX3_fairest_39 : decode cX3_fairest 39 = .ok (.if_icmp .ge 11, 3) := dk_162 0 11 (dk_at dksX3_fairest_1 15 rfl rfl)
theorem dX3_fairest_42 : decode cX3_fairest 42 = .ok (.aload_n 0, 1) := dk_42 (dk_at dksX3_fairest_1 18 rfl rfl)
theorem dX3_fairest_43 : decode cX3_fairest 43 = .ok (.getfield 89, 3) := dk_180 0 89 (dk_at dksX3_fairest_1 19 rfl rfl)
theorem dX3_fairest_46 : decode cX3_fairest 46 = .ok (.istore_n 2, 1) := dk_61 (dk_at dksX3_fairest_1 22 rfl rfl)
theorem dX3_fairest_47 : decode cX3_fairest 47 = .ok (.goto (-31), 3) := dk_167 255 225 (dk_at dksX3_fairest_2 0 rfl rfl)
theorem dX3_fairest_50 : decode cX3_fairest 50 = .ok (.aload_n 0, 1) := dk_42 (dk_at dksX3_fairest_2 3 rfl rfl)
theorem dX3_fairest_51 : decode cX3_fairest 51 = .ok (.getfield 89, 3) := dk_180 0 89 (dk_at dksX3_fairest_2 4 rfl rfl)
theorem dX3_fairest_54 : decode cX3_fairest 54 = .ok (.istore_n 1, 1) := dk_60 (dk_at dksX3_fairest_2 7 rfl rfl)
theorem dX3_fairest_55 : decode cX3_fairest 55 = .ok (.goto (-39), 3) := dk_167 255 217 (dk_at dksX3_fairest_2 8 rfl rfl)
theorem dX3_fairest_58 : decode cX3_fairest 58 = .ok (.aload_n 0, 1) := dk_42 (dk_at dksX3_fairest_2 11 rfl rfl)
theorem dX3_fairest_59 : decode cX3_fairest 59 = .ok (.iload_n 2, 1) := dk_28 (dk_at dksX3_fairest_2 12 rfl rfl)
theorem dX3_fairest_60 : decode cX3_fairest 60 = .ok (.putfield 89, 3) := dk_181 0 89 (dk_at dksX3_fairest_2 13 rfl rfl)
theorem dX3_fairest_63 : decode cX3_fairest 63 = .ok (.aload_n 0, 1) := dk_42 (dk_at dksX3_fairest_2 16 rfl rfl)
theorem dX3_fairest_64 : decode cX3_fairest 64 = .ok (.iconst 0, 1) := dk_3 (dk_at dksX3_fairest_2 17 rfl rfl)
theorem dX3_fairest_65 : decode cX3_fairest 65 = .ok (.invokevirtual 329, 3) := dk_182 1 73 (dk_at dksX3_fairest_2 18 rfl rfl)
theorem dX3_fairest_68 : decode cX3_fairest 68 = .ok (.istore_n 3, 1) := dk_62 (dk_at dksX3_fairest_2 21 rfl rfl)
theorem dX3_fairest_69 : decode cX3_fairest 69 = .ok (.aload_n 0, 1) := dk_42 (dk_at dksX3_fairest_2 22 rfl rfl)
theorem dX3_fairest_70 : decode cX3_fairest 70 = .ok (.ldc 88, 2) := dk_18 88 (dk_at dksX3_fairest_3 0 rfl rfl)
theorem dX3_fairest_72 : decode cX3_fairest 72 = .ok (.putfield 89, 3) := dk_181 0 89 (dk_at dksX3_fairest_3 2 rfl rfl)
theorem dX3_fairest_75 : decode cX3_fairest 75 = .ok (.iload_n 3, 1) := dk_29 (dk_at dksX3_fairest_3 5 rfl rfl)
theorem dX3_fairest_76 : decode cX3_fairest 76 = .ok (.ldc 88, 2) := dk_18 88 (dk_at dksX3_fairest_3 6 rfl rfl)
theorem dX3_fairest_78 : decode cX3_fairest 78 = .ok (.if_icmp .ne 6, 3) := dk_160 0 6 (dk_at dksX3_fairest_3 8 rfl rfl)
theorem dX3_fairest_81 : decode cX3_fairest 81 = .ok (.bipush (-2), 2) := dk_16 254 (dk_at dksX3_fairest_3 11 rfl rfl)
theorem dX3_fairest_83 : decode cX3_fairest 83 = .ok (.ireturn, 1) := dk_172 (dk_at dksX3_fairest_3 13 rfl rfl)
theorem dX3_fairest_84 : decode cX3_fairest 84 = .ok (.aload_n 0, 1) := dk_42 (dk_at dksX3_fairest_3 14 rfl rfl)
theorem dX3_fairest_85 : decode cX3_fairest 85 = .ok (.iconst 0, 1) := dk_3 (dk_at dksX3_fairest_3 15 rfl rfl)
theorem dX3_fairest_86 : decode cX3_fairest 86 = .ok (.putfield 117, 3) := dk_181 0 117 (dk_at dksX3_fairest_3 16 rfl rfl)
theorem dX3_fairest_89 : decode cX3_fairest 89 = .ok (.aload_n 0, 1) := dk_42 (dk_at dksX3_fairest_3 19 rfl rfl)
theorem dX3_fairest_90 : decode cX3_fairest 90 = .ok (.iload_n 3, 1) := dk_29 (dk_at dksX3_fairest_3 20 rfl rfl)
theorem dX3_fairest_91 : decode cX3_fairest 91 = .ok (.i2l, 1) := dk_133 (dk_at dksX3_fairest_3 21 rfl rfl)
theorem dX3_fairest_92 : decode cX3_fairest 92 = .ok (.invokevirtual 284, 3) := dk_182 1 28 (dk_at dksX3_fairest_4 0 rfl rfl)
theorem dX3_fairest_95 : decode cX3_fairest 95 = .ok (.iload_n 2, 1) := dk_28 (dk_at dksX3_fairest_4 3 rfl rfl)
theorem dX3_fairest_96 : decode cX3_fairest 96 = .ok (.ireturn, 1) := dk_172 (dk_at dksX3_fairest_4 4 rfl rfl)
abbrev cX3_away : ByteArray := prog_9_method_83_code
def yX3_away : MethodName := ⟨RX3, "away", "()I"⟩
def dkwX3_away_4 : List UInt8 := [16, 254, 172, 42, 3, 181, 0, 117, 42, 28, 133, 182, 1, 28, 28, 184, 0, 221, 172]
abbrev dktX3_away_4 : List UInt8 := dkwX3_away_4 ++ []
def dkwX3_away_3 : List UInt8 := [184, 0, 221, 28, 184, 0, 221, 164, 0, 5, 29, 61, 132, 3, 1, 167, 255, 206, 28, 2, 160, 0, 6]
abbrev dktX3_away_3 : List UInt8 := dkwX3_away_3 ++ dktX3_away_4
def dkwX3_away_2 : List UInt8 := [42, 180, 0, 95, 27, 29, 2, 130, 126, 51, 154, 0, 6, 167, 0, 21, 28, 2, 159, 0, 14, 29]
abbrev dktX3_away_2 : List UInt8 := dkwX3_away_2 ++ dktX3_away_3
def dkwX3_away_1 : List UInt8 := [182, 1, 5, 2, 130, 126, 60, 2, 61, 3, 62, 29, 27, 163, 0, 51, 29, 27, 2, 130, 126, 154, 0, 37]
abbrev dktX3_away_1 : List UInt8 := dkwX3_away_1 ++ dktX3_away_2
def dkwX3_away_0 : List UInt8 := [42, 3, 181, 0, 114, 42, 182, 1, 91, 4, 42, 180, 0, 120, 120, 4, 100, 42, 42, 180, 0, 9]
abbrev dktX3_away_0 : List UInt8 := dkwX3_away_0 ++ dktX3_away_1
theorem dksX3_away_0 : cX3_away.data.toList.drop 0 = dktX3_away_0 := by decide +kernel
theorem dksX3_away_1 : cX3_away.data.toList.drop 22 = dktX3_away_1 := dk_seg dksX3_away_0 22 rfl rfl
theorem dksX3_away_2 : cX3_away.data.toList.drop 46 = dktX3_away_2 := dk_seg dksX3_away_1 24 rfl rfl
theorem dksX3_away_3 : cX3_away.data.toList.drop 68 = dktX3_away_3 := dk_seg dksX3_away_2 22 rfl rfl
theorem dksX3_away_4 : cX3_away.data.toList.drop 91 = dktX3_away_4 := dk_seg dksX3_away_3 23 rfl rfl
theorem dX3_away_0 : decode cX3_away 0 = .ok (.aload_n 0, 1) := dk_42 (dk_at dksX3_away_0 0 rfl rfl)
theorem dX3_away_1 : decode cX3_away 1 = .ok (.iconst 0, 1) := dk_3 (dk_at dksX3_away_0 1 rfl rfl)
theorem dX3_away_2 : decode cX3_away 2 = .ok (.putfield 114, 3) := dk_181 0 114 (dk_at dksX3_away_0 2 rfl rfl)
theorem dX3_away_5 : decode cX3_away 5 = .ok (.aload_n 0, 1) := dk_42 (dk_at dksX3_away_0 5 rfl rfl)
theorem dX3_away_6 : decode cX3_away 6 = .ok (.invokevirtual 347, 3) := dk_182 1 91 (dk_at dksX3_away_0 6 rfl rfl)
theorem dX3_away_9 : decode cX3_away 9 = .ok (.iconst 1, 1) := dk_4 (dk_at dksX3_away_0 9 rfl rfl)
theorem dX3_away_10 : decode cX3_away 10 = .ok (.aload_n 0, 1) := dk_42 (dk_at dksX3_away_0 10 rfl rfl)
theorem dX3_away_11 : decode cX3_away 11 = .ok (.getfield 120, 3) := dk_180 0 120 (dk_at dksX3_away_0 11 rfl rfl)
theorem dX3_away_14 : decode cX3_away 14 = .ok (.ishl, 1) := dk_120 (dk_at dksX3_away_0 14 rfl rfl)
theorem dX3_away_15 : decode cX3_away 15 = .ok (.iconst 1, 1) := dk_4 (dk_at dksX3_away_0 15 rfl rfl)
theorem dX3_away_16 : decode cX3_away 16 = .ok (.isub, 1) := dk_100 (dk_at dksX3_away_0 16 rfl rfl)
theorem dX3_away_17 : decode cX3_away 17 = .ok (.aload_n 0, 1) := dk_42 (dk_at dksX3_away_0 17 rfl rfl)
theorem dX3_away_18 : decode cX3_away 18 = .ok (.aload_n 0, 1) := dk_42 (dk_at dksX3_away_0 18 rfl rfl)
theorem dX3_away_19 : decode cX3_away 19 = .ok (.getfield 9, 3) := dk_180 0 9 (dk_at dksX3_away_0 19 rfl rfl)
theorem dX3_away_22 : decode cX3_away 22 = .ok (.invokevirtual 261, 3) := dk_182 1 5 (dk_at dksX3_away_1 0 rfl rfl)
theorem dX3_away_25 : decode cX3_away 25 = .ok (.iconst (-1), 1) := dk_2 (dk_at dksX3_away_1 3 rfl rfl)
theorem dX3_away_26 : decode cX3_away 26 = .ok (.ixor, 1) := dk_130 (dk_at dksX3_away_1 4 rfl rfl)
theorem dX3_away_27 : decode cX3_away 27 = .ok (.iand, 1) := dk_126 (dk_at dksX3_away_1 5 rfl rfl)
theorem dX3_away_28 : decode cX3_away 28 = .ok (.istore_n 1, 1) := dk_60 (dk_at dksX3_away_1 6 rfl rfl)
theorem dX3_away_29 : decode cX3_away 29 = .ok (.iconst (-1), 1) := dk_2 (dk_at dksX3_away_1 7 rfl rfl)
theorem dX3_away_30 : decode cX3_away 30 = .ok (.istore_n 2, 1) := dk_61 (dk_at dksX3_away_1 8 rfl rfl)
theorem dX3_away_31 : decode cX3_away 31 = .ok (.iconst 0, 1) := dk_3 (dk_at dksX3_away_1 9 rfl rfl)
theorem dX3_away_32 : decode cX3_away 32 = .ok (.istore_n 3, 1) := dk_62 (dk_at dksX3_away_1 10 rfl rfl)
theorem dX3_away_33 : decode cX3_away 33 = .ok (.iload_n 3, 1) := dk_29 (dk_at dksX3_away_1 11 rfl rfl)
theorem dX3_away_34 : decode cX3_away 34 = .ok (.iload_n 1, 1) := dk_27 (dk_at dksX3_away_1 12 rfl rfl)
theorem dX3_away_35 : decode cX3_away 35 = .ok (.if_icmp .gt 51, 3) := dk_163 0 51 (dk_at dksX3_away_1 13 rfl rfl)
theorem dX3_away_38 : decode cX3_away 38 = .ok (.iload_n 3, 1) := dk_29 (dk_at dksX3_away_1 16 rfl rfl)
theorem dX3_away_39 : decode cX3_away 39 = .ok (.iload_n 1, 1) := dk_27 (dk_at dksX3_away_1 17 rfl rfl)
theorem dX3_away_40 : decode cX3_away 40 = .ok (.iconst (-1), 1) := dk_2 (dk_at dksX3_away_1 18 rfl rfl)
theorem dX3_away_41 : decode cX3_away 41 = .ok (.ixor, 1) := dk_130 (dk_at dksX3_away_1 19 rfl rfl)
theorem dX3_away_42 : decode cX3_away 42 = .ok (.iand, 1) := dk_126 (dk_at dksX3_away_1 20 rfl rfl)
theorem dX3_away_43 : decode cX3_away 43 = .ok (.ifCond .ne 37, 3) := dk_154 0 37 (dk_at dksX3_away_1 21 rfl rfl)
theorem dX3_away_46 : decode cX3_away 46 = .ok (.aload_n 0, 1) := dk_42 (dk_at dksX3_away_2 0 rfl rfl)
theorem dX3_away_47 : decode cX3_away 47 = .ok (.getfield 95, 3) := dk_180 0 95 (dk_at dksX3_away_2 1 rfl rfl)
theorem dX3_away_50 : decode cX3_away 50 = .ok (.iload_n 1, 1) := dk_27 (dk_at dksX3_away_2 4 rfl rfl)
theorem dX3_away_51 : decode cX3_away 51 = .ok (.iload_n 3, 1) := dk_29 (dk_at dksX3_away_2 5 rfl rfl)
theorem dX3_away_52 : decode cX3_away 52 = .ok (.iconst (-1), 1) := dk_2 (dk_at dksX3_away_2 6 rfl rfl)
theorem dX3_away_53 : decode cX3_away 53 = .ok (.ixor, 1) := dk_130 (dk_at dksX3_away_2 7 rfl rfl)
theorem dX3_away_54 : decode cX3_away 54 = .ok (.iand, 1) := dk_126 (dk_at dksX3_away_2 8 rfl rfl)
theorem dX3_away_55 : decode cX3_away 55 = .ok (.baload, 1) := dk_51 (dk_at dksX3_away_2 9 rfl rfl)
theorem dX3_away_56 : decode cX3_away 56 = .ok (.ifCond .ne 6, 3) := dk_154 0 6 (dk_at dksX3_away_2 10 rfl rfl)
theorem dX3_away_59 : decode cX3_away 59 = .ok (.goto 21, 3) := dk_167 0 21 (dk_at dksX3_away_2 13 rfl rfl)
theorem dX3_away_62 : decode cX3_away 62 = .ok (.iload_n 2, 1) := dk_28 (dk_at dksX3_away_2 16 rfl rfl)
theorem dX3_away_63 : decode cX3_away 63 = .ok (.iconst (-1), 1) := dk_2 (dk_at dksX3_away_2 17 rfl rfl)
theorem dX3_away_64 : decode cX3_away 64 = .ok (.if_icmp .eq 14, 3) := dk_159 0 14 (dk_at dksX3_away_2 18 rfl rfl)
theorem dX3_away_67 : decode cX3_away 67 = .ok (.iload_n 3, 1) := dk_29 (dk_at dksX3_away_2 21 rfl rfl)
theorem dX3_away_68 : decode cX3_away 68 = .ok (.invokestatic 221, 3) := dk_184 0 221 (dk_at dksX3_away_3 0 rfl rfl)
theorem dX3_away_71 : decode cX3_away 71 = .ok (.iload_n 2, 1) := dk_28 (dk_at dksX3_away_3 3 rfl rfl)
theorem dX3_away_72 : decode cX3_away 72 = .ok (.invokestatic 221, 3) := dk_184 0 221 (dk_at dksX3_away_3 4 rfl rfl)
theorem dX3_away_75 : decode cX3_away 75 = .ok (.if_icmp .le 5, 3) := dk_164 0 5 (dk_at dksX3_away_3 7 rfl rfl)
theorem dX3_away_78 : decode cX3_away 78 = .ok (.iload_n 3, 1) := dk_29 (dk_at dksX3_away_3 10 rfl rfl)
theorem dX3_away_79 : decode cX3_away 79 = .ok (.istore_n 2, 1) := dk_61 (dk_at dksX3_away_3 11 rfl rfl)
theorem dX3_away_80 : decode cX3_away 80 = .ok (.iinc 3 1, 3) := dk_132 3 1 (dk_at dksX3_away_3 12 rfl rfl)
theorem dX3_away_83 : decode cX3_away 83 = .ok (.goto (-50), 3) := dk_167 255 206 (dk_at dksX3_away_3 15 rfl rfl)
theorem dX3_away_86 : decode cX3_away 86 = .ok (.iload_n 2, 1) := dk_28 (dk_at dksX3_away_3 18 rfl rfl)
theorem dX3_away_87 : decode cX3_away 87 = .ok (.iconst (-1), 1) := dk_2 (dk_at dksX3_away_3 19 rfl rfl)
theorem dX3_away_88 : decode cX3_away 88 = .ok (.if_icmp .ne 6, 3) := dk_160 0 6 (dk_at dksX3_away_3 20 rfl rfl)
theorem dX3_away_91 : decode cX3_away 91 = .ok (.bipush (-2), 2) := dk_16 254 (dk_at dksX3_away_4 0 rfl rfl)
theorem dX3_away_93 : decode cX3_away 93 = .ok (.ireturn, 1) := dk_172 (dk_at dksX3_away_4 2 rfl rfl)
theorem dX3_away_94 : decode cX3_away 94 = .ok (.aload_n 0, 1) := dk_42 (dk_at dksX3_away_4 3 rfl rfl)
theorem dX3_away_95 : decode cX3_away 95 = .ok (.iconst 0, 1) := dk_3 (dk_at dksX3_away_4 4 rfl rfl)
theorem dX3_away_96 : decode cX3_away 96 = .ok (.putfield 117, 3) := dk_181 0 117 (dk_at dksX3_away_4 5 rfl rfl)
theorem dX3_away_99 : decode cX3_away 99 = .ok (.aload_n 0, 1) := dk_42 (dk_at dksX3_away_4 8 rfl rfl)
theorem dX3_away_100 : decode cX3_away 100 = .ok (.iload_n 2, 1) := dk_28 (dk_at dksX3_away_4 9 rfl rfl)
theorem dX3_away_101 : decode cX3_away 101 = .ok (.i2l, 1) := dk_133 (dk_at dksX3_away_4 10 rfl rfl)
theorem dX3_away_102 : decode cX3_away 102 = .ok (.invokevirtual 284, 3) := dk_182 1 28 (dk_at dksX3_away_4 11 rfl rfl)
theorem dX3_away_105 : decode cX3_away 105 = .ok (.iload_n 2, 1) := dk_28 (dk_at dksX3_away_4 14 rfl rfl)
theorem dX3_away_106 : decode cX3_away 106 = .ok (.invokestatic 221, 3) := dk_184 0 221 (dk_at dksX3_away_4 15 rfl rfl)
theorem dX3_away_109 : decode cX3_away 109 = .ok (.ireturn, 1) := dk_172 (dk_at dksX3_away_4 18 rfl rfl)
abbrev cX3_able : ByteArray := prog_9_method_84_code
def yX3_able : MethodName := ⟨RX3, "able", "(I)I"⟩
def dkwX3_able_6 : List UInt8 := [182, 1, 28, 28, 4, 21, 4, 120, 128, 61, 132, 3, 1, 167, 255, 126, 42, 180, 0, 117, 172]
abbrev dktX3_able_6 : List UInt8 := dkwX3_able_6 ++ []
def dkwX3_able_5 : List UInt8 := [21, 5, 54, 4, 132, 5, 1, 167, 255, 169, 21, 4, 2, 160, 0, 6, 167, 0, 17, 42, 21, 4, 133]
abbrev dktX3_able_5 : List UInt8 := dkwX3_able_5 ++ dktX3_able_6
def dkwX3_able_4 : List UInt8 := [180, 0, 9, 21, 5, 27, 182, 0, 245, 42, 42, 180, 0, 9, 21, 4, 27, 182, 0, 245, 162, 0, 7]
abbrev dktX3_able_4 : List UInt8 := dkwX3_able_4 ++ dktX3_able_5
def dkwX3_able_3 : List UInt8 := [180, 0, 26, 21, 5, 46, 27, 184, 1, 15, 154, 0, 6, 167, 0, 38, 21, 4, 2, 159, 0, 28, 42, 42]
abbrev dktX3_able_3 : List UInt8 := dkwX3_able_3 ++ dktX3_able_4
def dkwX3_able_2 : List UInt8 := [21, 5, 184, 1, 15, 154, 0, 69, 42, 180, 0, 9, 16, 16, 21, 5, 96, 46, 4, 159, 0, 55, 42]
abbrev dktX3_able_2 : List UInt8 := dkwX3_able_2 ++ dktX3_able_3
def dkwX3_able_1 : List UInt8 := [42, 180, 0, 120, 162, 0, 128, 2, 54, 4, 3, 54, 5, 21, 5, 42, 180, 0, 120, 162, 0, 84, 28]
abbrev dktX3_able_1 : List UInt8 := dkwX3_able_1 ++ dktX3_able_2
def dkwX3_able_0 : List UInt8 := [42, 3, 181, 0, 114, 27, 184, 0, 242, 154, 0, 5, 2, 172, 3, 61, 42, 3, 181, 0, 117, 3, 62, 29]
abbrev dktX3_able_0 : List UInt8 := dkwX3_able_0 ++ dktX3_able_1
theorem dksX3_able_0 : cX3_able.data.toList.drop 0 = dktX3_able_0 := by decide +kernel
theorem dksX3_able_1 : cX3_able.data.toList.drop 24 = dktX3_able_1 := dk_seg dksX3_able_0 24 rfl rfl
theorem dksX3_able_2 : cX3_able.data.toList.drop 47 = dktX3_able_2 := dk_seg dksX3_able_1 23 rfl rfl
theorem dksX3_able_3 : cX3_able.data.toList.drop 70 = dktX3_able_3 := dk_seg dksX3_able_2 23 rfl rfl
theorem dksX3_able_4 : cX3_able.data.toList.drop 94 = dktX3_able_4 := dk_seg dksX3_able_3 24 rfl rfl
theorem dksX3_able_5 : cX3_able.data.toList.drop 117 = dktX3_able_5 := dk_seg dksX3_able_4 23 rfl rfl
theorem dksX3_able_6 : cX3_able.data.toList.drop 140 = dktX3_able_6 := dk_seg dksX3_able_5 23 rfl rfl
theorem dX3_able_0 : decode cX3_able 0 = .ok (.aload_n 0, 1) := dk_42 (dk_at dksX3_able_0 0 rfl rfl)
theorem dX3_able_1 : decode cX3_able 1 = .ok (.iconst 0, 1) := dk_3 (dk_at dksX3_able_0 1 rfl rfl)
theorem dX3_able_2 : decode cX3_able 2 = .ok (.putfield 114, 3) := dk_181 0 114 (dk_at dksX3_able_0 2 rfl rfl)
theorem dX3_able_5 : decode cX3_able 5 = .ok (.iload_n 1, 1) := dk_27 (dk_at dksX3_able_0 5 rfl rfl)
theorem dX3_able_6 : decode cX3_able 6 = .ok (.invokestatic 242, 3) := dk_184 0 242 (dk_at dksX3_able_0 6 rfl rfl)
theorem dX3_able_9 : decode cX3_able 9 = .ok (.ifCond .ne 5, 3) := dk_154 0 5 (dk_at dksX3_able_0 9 rfl rfl)
theorem dX3_able_12 : decode cX3_able 12 = .ok (.iconst (-1), 1) := dk_2 (dk_at dksX3_able_0 12 rfl rfl)
theorem dX3_able_13 : decode cX3_able 13 = .ok (.ireturn, 1) := dk_172 (dk_at dksX3_able_0 13 rfl rfl)
theorem dX3_able_14 : decode cX3_able 14 = .ok (.iconst 0, 1) := dk_3 (dk_at dksX3_able_0 14 rfl rfl)
theorem dX3_able_15 : decode cX3_able 15 = .ok (.istore_n 2, 1) := dk_61 (dk_at dksX3_able_0 15 rfl rfl)
theorem dX3_able_16 : decode cX3_able 16 = .ok (.aload_n 0, 1) := dk_42 (dk_at dksX3_able_0 16 rfl rfl)
theorem dX3_able_17 : decode cX3_able 17 = .ok (.iconst 0, 1) := dk_3 (dk_at dksX3_able_0 17 rfl rfl)
theorem dX3_able_18 : decode cX3_able 18 = .ok (.putfield 117, 3) := dk_181 0 117 (dk_at dksX3_able_0 18 rfl rfl)
theorem dX3_able_21 : decode cX3_able 21 = .ok (.iconst 0, 1) := dk_3 (dk_at dksX3_able_0 21 rfl rfl)
theorem dX3_able_22 : decode cX3_able 22 = .ok (.istore_n 3, 1) := dk_62 (dk_at dksX3_able_0 22 rfl rfl)
theorem dX3_able_23 : decode cX3_able 23 = .ok (.iload_n 3, 1) := dk_29 (dk_at dksX3_able_0 23 rfl rfl)
theorem dX3_able_24 : decode cX3_able 24 = .ok (.aload_n 0, 1) := dk_42 (dk_at dksX3_able_1 0 rfl rfl)
theorem dX3_able_25 : decode cX3_able 25 = .ok (.getfield 120, 3) := dk_180 0 120 (dk_at dksX3_able_1 1 rfl rfl)
theorem dX3_able_28 : decode cX3_able 28 = .ok (.if_icmp .ge 128, 3) := dk_162 0 128 (dk_at dksX3_able_1 4 rfl rfl)
theorem dX3_able_31 : decode cX3_able 31 = .ok (.iconst (-1), 1) := dk_2 (dk_at dksX3_able_1 7 rfl rfl)
theorem dX3_able_32 : decode cX3_able 32 = .ok (.istore 4, 2) := dk_54 4 (dk_at dksX3_able_1 8 rfl rfl)
theorem dX3_able_34 : decode cX3_able 34 = .ok (.iconst 0, 1) := dk_3 (dk_at dksX3_able_1 10 rfl rfl)
theorem dX3_able_35 : decode cX3_able 35 = .ok (.istore 5, 2) := dk_54 5 (dk_at dksX3_able_1 11 rfl rfl)
theorem dX3_able_37 : decode cX3_able 37 = .ok (.iload 5, 2) := dk_21 5 (dk_at dksX3_able_1 13 rfl rfl)
theorem dX3_able_39 : decode cX3_able 39 = .ok (.aload_n 0, 1) := dk_42 (dk_at dksX3_able_1 15 rfl rfl)
theorem dX3_able_40 : decode cX3_able 40 = .ok (.getfield 120, 3) := dk_180 0 120 (dk_at dksX3_able_1 16 rfl rfl)
theorem dX3_able_43 : decode cX3_able 43 = .ok (.if_icmp .ge 84, 3) := dk_162 0 84 (dk_at dksX3_able_1 19 rfl rfl)
theorem dX3_able_46 : decode cX3_able 46 = .ok (.iload_n 2, 1) := dk_28 (dk_at dksX3_able_1 22 rfl rfl)
theorem dX3_able_47 : decode cX3_able 47 = .ok (.iload 5, 2) := dk_21 5 (dk_at dksX3_able_2 0 rfl rfl)
theorem dX3_able_49 : decode cX3_able 49 = .ok (.invokestatic 271, 3) := dk_184 1 15 (dk_at dksX3_able_2 2 rfl rfl)
theorem dX3_able_52 : decode cX3_able 52 = .ok (.ifCond .ne 69, 3) := dk_154 0 69 (dk_at dksX3_able_2 5 rfl rfl)
theorem dX3_able_55 : decode cX3_able 55 = .ok (.aload_n 0, 1) := dk_42 (dk_at dksX3_able_2 8 rfl rfl)
theorem dX3_able_56 : decode cX3_able 56 = .ok (.getfield 9, 3) := dk_180 0 9 (dk_at dksX3_able_2 9 rfl rfl)
theorem dX3_able_59 : decode cX3_able 59 = .ok (.bipush 16, 2) := dk_16 16 (dk_at dksX3_able_2 12 rfl rfl)
theorem dX3_able_61 : decode cX3_able 61 = .ok (.iload 5, 2) := dk_21 5 (dk_at dksX3_able_2 14 rfl rfl)
theorem dX3_able_63 : decode cX3_able 63 = .ok (.iadd, 1) := dk_96 (dk_at dksX3_able_2 16 rfl rfl)
theorem dX3_able_64 : decode cX3_able 64 = .ok (.iaload, 1) := dk_46 (dk_at dksX3_able_2 17 rfl rfl)
theorem dX3_able_65 : decode cX3_able 65 = .ok (.iconst 1, 1) := dk_4 (dk_at dksX3_able_2 18 rfl rfl)
theorem dX3_able_66 : decode cX3_able 66 = .ok (.if_icmp .eq 55, 3) := dk_159 0 55 (dk_at dksX3_able_2 19 rfl rfl)
theorem dX3_able_69 : decode cX3_able 69 = .ok (.aload_n 0, 1) := dk_42 (dk_at dksX3_able_2 22 rfl rfl)
theorem dX3_able_70 : decode cX3_able 70 = .ok (.getfield 26, 3) := dk_180 0 26 (dk_at dksX3_able_3 0 rfl rfl)
theorem dX3_able_73 : decode cX3_able 73 = .ok (.iload 5, 2) := dk_21 5 (dk_at dksX3_able_3 3 rfl rfl)
theorem dX3_able_75 : decode cX3_able 75 = .ok (.iaload, 1) := dk_46 (dk_at dksX3_able_3 5 rfl rfl)
theorem dX3_able_76 : decode cX3_able 76 = .ok (.iload_n 1, 1) := dk_27 (dk_at dksX3_able_3 6 rfl rfl)
theorem dX3_able_77 : decode cX3_able 77 = .ok (.invokestatic 271, 3) := dk_184 1 15 (dk_at dksX3_able_3 7 rfl rfl)
theorem dX3_able_80 : decode cX3_able 80 = .ok (.ifCond .ne 6, 3) := dk_154 0 6 (dk_at dksX3_able_3 10 rfl rfl)
theorem dX3_able_83 : decode cX3_able 83 = .ok (.goto 38, 3) := dk_167 0 38 (dk_at dksX3_able_3 13 rfl rfl)
theorem dX3_able_86 : decode cX3_able 86 = .ok (.iload 4, 2) := dk_21 4 (dk_at dksX3_able_3 16 rfl rfl)
theorem dX3_able_88 : decode cX3_able 88 = .ok (.iconst (-1), 1) := dk_2 (dk_at dksX3_able_3 18 rfl rfl)
theorem dX3_able_89 : decode cX3_able 89 = .ok (.if_icmp .eq 28, 3) := dk_159 0 28 (dk_at dksX3_able_3 19 rfl rfl)
theorem dX3_able_92 : decode cX3_able 92 = .ok (.aload_n 0, 1) := dk_42 (dk_at dksX3_able_3 22 rfl rfl)
theorem dX3_able_93 : decode cX3_able 93 = .ok (.aload_n 0, 1) := dk_42 (dk_at dksX3_able_3 23 rfl rfl)
theorem dX3_able_94 : decode cX3_able 94 = .ok (.getfield 9, 3) := dk_180 0 9 (dk_at dksX3_able_4 0 rfl rfl)
theorem dX3_able_97 : decode cX3_able 97 = .ok (.iload 5, 2) := dk_21 5 (dk_at dksX3_able_4 3 rfl rfl)
theorem dX3_able_99 : decode cX3_able 99 = .ok (.iload_n 1, 1) := dk_27 (dk_at dksX3_able_4 5 rfl rfl)
theorem dX3_able_100 : decode cX3_able 100 = .ok (.invokevirtual 245, 3) := dk_182 0 245 (dk_at dksX3_able_4 6 rfl rfl)
theorem dX3_able_103 : decode cX3_able 103 = .ok (.aload_n 0, 1) := dk_42 (dk_at dksX3_able_4 9 rfl rfl)
theorem dX3_able_104 : decode cX3_able 104 = .ok (.aload_n 0, 1) := dk_42 (dk_at dksX3_able_4 10 rfl rfl)
theorem dX3_able_105 : decode cX3_able 105 = .ok (.getfield 9, 3) := dk_180 0 9 (dk_at dksX3_able_4 11 rfl rfl)
theorem dX3_able_108 : decode cX3_able 108 = .ok (.iload 4, 2) := dk_21 4 (dk_at dksX3_able_4 14 rfl rfl)
theorem dX3_able_110 : decode cX3_able 110 = .ok (.iload_n 1, 1) := dk_27 (dk_at dksX3_able_4 16 rfl rfl)
theorem dX3_able_111 : decode cX3_able 111 = .ok (.invokevirtual 245, 3) := dk_182 0 245 (dk_at dksX3_able_4 17 rfl rfl)
theorem dX3_able_114 : decode cX3_able 114 = .ok (.if_icmp .ge 7, 3) := dk_162 0 7 (dk_at dksX3_able_4 20 rfl rfl)
theorem dX3_able_117 : decode cX3_able 117 = .ok (.iload 5, 2) := dk_21 5 (dk_at dksX3_able_5 0 rfl rfl)
theorem dX3_able_119 : decode cX3_able 119 = .ok (.istore 4, 2) := dk_54 4 (dk_at dksX3_able_5 2 rfl rfl)
theorem dX3_able_121 : decode cX3_able 121 = .ok (.iinc 5 1, 3) := dk_132 5 1 (dk_at dksX3_able_5 4 rfl rfl)
theorem dX3_able_124 : decode cX3_able 124 = .ok (.goto (-87), 3) := dk_167 255 169 (dk_at dksX3_able_5 7 rfl rfl)
theorem dX3_able_127 : decode cX3_able 127 = .ok (.iload 4, 2) := dk_21 4 (dk_at dksX3_able_5 10 rfl rfl)
theorem dX3_able_129 : decode cX3_able 129 = .ok (.iconst (-1), 1) := dk_2 (dk_at dksX3_able_5 12 rfl rfl)
theorem dX3_able_130 : decode cX3_able 130 = .ok (.if_icmp .ne 6, 3) := dk_160 0 6 (dk_at dksX3_able_5 13 rfl rfl)
theorem dX3_able_133 : decode cX3_able 133 = .ok (.goto 17, 3) := dk_167 0 17 (dk_at dksX3_able_5 16 rfl rfl)
theorem dX3_able_136 : decode cX3_able 136 = .ok (.aload_n 0, 1) := dk_42 (dk_at dksX3_able_5 19 rfl rfl)
theorem dX3_able_137 : decode cX3_able 137 = .ok (.iload 4, 2) := dk_21 4 (dk_at dksX3_able_5 20 rfl rfl)
theorem dX3_able_139 : decode cX3_able 139 = .ok (.i2l, 1) := dk_133 (dk_at dksX3_able_5 22 rfl rfl)
theorem dX3_able_140 : decode cX3_able 140 = .ok (.invokevirtual 284, 3) := dk_182 1 28 (dk_at dksX3_able_6 0 rfl rfl)
theorem dX3_able_143 : decode cX3_able 143 = .ok (.iload_n 2, 1) := dk_28 (dk_at dksX3_able_6 3 rfl rfl)
theorem dX3_able_144 : decode cX3_able 144 = .ok (.iconst 1, 1) := dk_4 (dk_at dksX3_able_6 4 rfl rfl)
theorem dX3_able_145 : decode cX3_able 145 = .ok (.iload 4, 2) := dk_21 4 (dk_at dksX3_able_6 5 rfl rfl)
theorem dX3_able_147 : decode cX3_able 147 = .ok (.ishl, 1) := dk_120 (dk_at dksX3_able_6 7 rfl rfl)
theorem dX3_able_148 : decode cX3_able 148 = .ok (.ior, 1) := dk_128 (dk_at dksX3_able_6 8 rfl rfl)
theorem dX3_able_149 : decode cX3_able 149 = .ok (.istore_n 2, 1) := dk_61 (dk_at dksX3_able_6 9 rfl rfl)
theorem dX3_able_150 : decode cX3_able 150 = .ok (.iinc 3 1, 3) := dk_132 3 1 (dk_at dksX3_able_6 10 rfl rfl)
theorem dX3_able_153 : decode cX3_able 153 = .ok (.goto (-130), 3) := dk_167 255 126 (dk_at dksX3_able_6 13 rfl rfl)
theorem dX3_able_156 : decode cX3_able 156 = .ok (.aload_n 0, 1) := dk_42 (dk_at dksX3_able_6 16 rfl rfl)
theorem dX3_able_157 : decode cX3_able 157 = .ok (.getfield 117, 3) := dk_180 0 117 (dk_at dksX3_able_6 17 rfl rfl)
theorem dX3_able_160 : decode cX3_able 160 = .ok (.ireturn, 1) := dk_172 (dk_at dksX3_able_6 20 rfl rfl)
abbrev cX3_spent : ByteArray := prog_9_method_85_code
def yX3_spent : MethodName := ⟨RX3, "spent", "(I)I"⟩
def dkwX3_spent_5 : List UInt8 := [3, 181, 0, 117, 42, 28, 184, 0, 221, 133, 182, 1, 28, 42, 29, 133, 182, 1, 28, 28, 172]
abbrev dktX3_spent_5 : List UInt8 := dkwX3_spent_5 ++ []
def dkwX3_spent_4 : List UInt8 := [21, 4, 21, 5, 182, 0, 245, 184, 0, 232, 62, 132, 5, 1, 167, 255, 188, 132, 4, 1, 167, 255, 170, 42]
abbrev dktX3_spent_4 : List UInt8 := dkwX3_spent_4 ++ dktX3_spent_5
def dkwX3_spent_3 : List UInt8 := [182, 0, 245, 27, 163, 0, 6, 167, 0, 27, 28, 4, 21, 4, 120, 128, 61, 29, 42, 42, 180, 0, 9]
abbrev dktX3_spent_3 : List UInt8 := dkwX3_spent_3 ++ dktX3_spent_4
def dkwX3_spent_2 : List UInt8 := [180, 0, 26, 21, 4, 46, 21, 5, 184, 1, 15, 153, 0, 46, 42, 42, 180, 0, 9, 21, 4, 21, 5]
abbrev dktX3_spent_2 : List UInt8 := dkwX3_spent_2 ++ dktX3_spent_3
def dkwX3_spent_1 : List UInt8 := [54, 4, 21, 4, 42, 180, 0, 120, 162, 0, 83, 3, 54, 5, 21, 5, 16, 8, 162, 0, 67, 42]
abbrev dktX3_spent_1 : List UInt8 := dkwX3_spent_1 ++ dktX3_spent_2
def dkwX3_spent_0 : List UInt8 := [42, 3, 181, 0, 114, 27, 3, 17, 3, 231, 184, 0, 123, 154, 0, 5, 2, 172, 3, 61, 3, 62, 3]
abbrev dktX3_spent_0 : List UInt8 := dkwX3_spent_0 ++ dktX3_spent_1
theorem dksX3_spent_0 : cX3_spent.data.toList.drop 0 = dktX3_spent_0 := by decide +kernel
theorem dksX3_spent_1 : cX3_spent.data.toList.drop 23 = dktX3_spent_1 := dk_seg dksX3_spent_0 23 rfl rfl
theorem dksX3_spent_2 : cX3_spent.data.toList.drop 45 = dktX3_spent_2 := dk_seg dksX3_spent_1 22 rfl rfl
theorem dksX3_spent_3 : cX3_spent.data.toList.drop 68 = dktX3_spent_3 := dk_seg dksX3_spent_2 23 rfl rfl
theorem dksX3_spent_4 : cX3_spent.data.toList.drop 91 = dktX3_spent_4 := dk_seg dksX3_spent_3 23 rfl rfl
theorem dksX3_spent_5 : cX3_spent.data.toList.drop 115 = dktX3_spent_5 := dk_seg dksX3_spent_4 24 rfl rfl
theorem dX3_spent_0 : decode cX3_spent 0 = .ok (.aload_n 0, 1) := dk_42 (dk_at dksX3_spent_0 0 rfl rfl)
theorem dX3_spent_1 : decode cX3_spent 1 = .ok (.iconst 0, 1) := dk_3 (dk_at dksX3_spent_0 1 rfl rfl)
theorem dX3_spent_2 : decode cX3_spent 2 = .ok (.putfield 114, 3) := dk_181 0 114 (dk_at dksX3_spent_0 2 rfl rfl)
theorem dX3_spent_5 : decode cX3_spent 5 = .ok (.iload_n 1, 1) := dk_27 (dk_at dksX3_spent_0 5 rfl rfl)
theorem dX3_spent_6 : decode cX3_spent 6 = .ok (.iconst 0, 1) := dk_3 (dk_at dksX3_spent_0 6 rfl rfl)
theorem dX3_spent_7 : decode cX3_spent 7 = .ok (.sipush 999, 3) := dk_17 3 231 (dk_at dksX3_spent_0 7 rfl rfl)
theorem dX3_spent_10 : decode cX3_spent 10 = .ok (.invokestatic 123, 3) := dk_184 0 123 (dk_at dksX3_spent_0 10 rfl rfl)
theorem dX3_spent_13 : decode cX3_spent 13 = .ok (.ifCond .ne 5, 3) := dk_154 0 5 (dk_at dksX3_spent_0 13 rfl rfl)
theorem dX3_spent_16 : decode cX3_spent 16 = .ok (.iconst (-1), 1) := dk_2 (dk_at dksX3_spent_0 16 rfl rfl)
theorem dX3_spent_17 : decode cX3_spent 17 = .ok (.ireturn, 1) := dk_172 (dk_at dksX3_spent_0 17 rfl rfl)
theorem dX3_spent_18 : decode cX3_spent 18 = .ok (.iconst 0, 1) := dk_3 (dk_at dksX3_spent_0 18 rfl rfl)
theorem dX3_spent_19 : decode cX3_spent 19 = .ok (.istore_n 2, 1) := dk_61 (dk_at dksX3_spent_0 19 rfl rfl)
theorem dX3_spent_20 : decode cX3_spent 20 = .ok (.iconst 0, 1) := dk_3 (dk_at dksX3_spent_0 20 rfl rfl)
theorem dX3_spent_21 : decode cX3_spent 21 = .ok (.istore_n 3, 1) := dk_62 (dk_at dksX3_spent_0 21 rfl rfl)
theorem dX3_spent_22 : decode cX3_spent 22 = .ok (.iconst 0, 1) := dk_3 (dk_at dksX3_spent_0 22 rfl rfl)
theorem dX3_spent_23 : decode cX3_spent 23 = .ok (.istore 4, 2) := dk_54 4 (dk_at dksX3_spent_1 0 rfl rfl)
theorem dX3_spent_25 : decode cX3_spent 25 = .ok (.iload 4, 2) := dk_21 4 (dk_at dksX3_spent_1 2 rfl rfl)
theorem dX3_spent_27 : decode cX3_spent 27 = .ok (.aload_n 0, 1) := dk_42 (dk_at dksX3_spent_1 4 rfl rfl)
theorem dX3_spent_28 : decode cX3_spent 28 = .ok (.getfield 120, 3) := dk_180 0 120 (dk_at dksX3_spent_1 5 rfl rfl)
theorem dX3_spent_31 : decode cX3_spent 31 = .ok (.if_icmp .ge 83, 3) := dk_162 0 83 (dk_at dksX3_spent_1 8 rfl rfl)
theorem dX3_spent_34 : decode cX3_spent 34 = .ok (.iconst 0, 1) := dk_3 (dk_at dksX3_spent_1 11 rfl rfl)
theorem dX3_spent_35 : decode cX3_spent 35 = .ok (.istore 5, 2) := dk_54 5 (dk_at dksX3_spent_1 12 rfl rfl)
theorem dX3_spent_37 : decode cX3_spent 37 = .ok (.iload 5, 2) := dk_21 5 (dk_at dksX3_spent_1 14 rfl rfl)
theorem dX3_spent_39 : decode cX3_spent 39 = .ok (.bipush 8, 2) := dk_16 8 (dk_at dksX3_spent_1 16 rfl rfl)
theorem dX3_spent_41 : decode cX3_spent 41 = .ok (.if_icmp .ge 67, 3) := dk_162 0 67 (dk_at dksX3_spent_1 18 rfl rfl)
theorem dX3_spent_44 : decode cX3_spent 44 = .ok (.aload_n 0, 1) := dk_42 (dk_at dksX3_spent_1 21 rfl rfl)
theorem dX3_spent_45 : decode cX3_spent 45 = .ok (.getfield 26, 3) := dk_180 0 26 (dk_at dksX3_spent_2 0 rfl rfl)
theorem dX3_spent_48 : decode cX3_spent 48 = .ok (.iload 4, 2) := dk_21 4 (dk_at dksX3_spent_2 3 rfl rfl)
theorem dX3_spent_50 : decode cX3_spent 50 = .ok (.iaload, 1) := dk_46 (dk_at dksX3_spent_2 5 rfl rfl)
theorem dX3_spent_51 : decode cX3_spent 51 = .ok (.iload 5, 2) := dk_21 5 (dk_at dksX3_spent_2 6 rfl rfl)
theorem dX3_spent_53 : decode cX3_spent 53 = .ok (.invokestatic 271, 3) := dk_184 1 15 (dk_at dksX3_spent_2 8 rfl rfl)
theorem dX3_spent_56 : decode cX3_spent 56 = .ok (.ifCond .eq 46, 3) := dk_153 0 46 (dk_at dksX3_spent_2 11 rfl rfl)
theorem dX3_spent_59 : decode cX3_spent 59 = .ok (.aload_n 0, 1) := dk_42 (dk_at dksX3_spent_2 14 rfl rfl)
theorem dX3_spent_60 : decode cX3_spent 60 = .ok (.aload_n 0, 1) := dk_42 (dk_at dksX3_spent_2 15 rfl rfl)
theorem dX3_spent_61 : decode cX3_spent 61 = .ok (.getfield 9, 3) := dk_180 0 9 (dk_at dksX3_spent_2 16 rfl rfl)
theorem dX3_spent_64 : decode cX3_spent 64 = .ok (.iload 4, 2) := dk_21 4 (dk_at dksX3_spent_2 19 rfl rfl)
theorem dX3_spent_66 : decode cX3_spent 66 = .ok (.iload 5, 2) := dk_21 5 (dk_at dksX3_spent_2 21 rfl rfl)
theorem dX3_spent_68 : decode cX3_spent 68 = .ok (.invokevirtual 245, 3) := dk_182 0 245 (dk_at dksX3_spent_3 0 rfl rfl)
theorem dX3_spent_71 : decode cX3_spent 71 = .ok (.iload_n 1, 1) := dk_27 (dk_at dksX3_spent_3 3 rfl rfl)
theorem dX3_spent_72 : decode cX3_spent 72 = .ok (.if_icmp .gt 6, 3) := dk_163 0 6 (dk_at dksX3_spent_3 4 rfl rfl)
theorem dX3_spent_75 : decode cX3_spent 75 = .ok (.goto 27, 3) := dk_167 0 27 (dk_at dksX3_spent_3 7 rfl rfl)
theorem dX3_spent_78 : decode cX3_spent 78 = .ok (.iload_n 2, 1) := dk_28 (dk_at dksX3_spent_3 10 rfl rfl)
theorem dX3_spent_79 : decode cX3_spent 79 = .ok (.iconst 1, 1) := dk_4 (dk_at dksX3_spent_3 11 rfl rfl)
theorem dX3_spent_80 : decode cX3_spent 80 = .ok (.iload 4, 2) := dk_21 4 (dk_at dksX3_spent_3 12 rfl rfl)
theorem dX3_spent_82 : decode cX3_spent 82 = .ok (.ishl, 1) := dk_120 (dk_at dksX3_spent_3 14 rfl rfl)
theorem dX3_spent_83 : decode cX3_spent 83 = .ok (.ior, 1) := dk_128 (dk_at dksX3_spent_3 15 rfl rfl)
theorem dX3_spent_84 : decode cX3_spent 84 = .ok (.istore_n 2, 1) := dk_61 (dk_at dksX3_spent_3 16 rfl rfl)
theorem dX3_spent_85 : decode cX3_spent 85 = .ok (.iload_n 3, 1) := dk_29 (dk_at dksX3_spent_3 17 rfl rfl)
theorem dX3_spent_86 : decode cX3_spent 86 = .ok (.aload_n 0, 1) := dk_42 (dk_at dksX3_spent_3 18 rfl rfl)
theorem dX3_spent_87 : decode cX3_spent 87 = .ok (.aload_n 0, 1) := dk_42 (dk_at dksX3_spent_3 19 rfl rfl)
theorem dX3_spent_88 : decode cX3_spent 88 = .ok (.getfield 9, 3) := dk_180 0 9 (dk_at dksX3_spent_3 20 rfl rfl)
theorem dX3_spent_91 : decode cX3_spent 91 = .ok (.iload 4, 2) := dk_21 4 (dk_at dksX3_spent_4 0 rfl rfl)
theorem dX3_spent_93 : decode cX3_spent 93 = .ok (.iload 5, 2) := dk_21 5 (dk_at dksX3_spent_4 2 rfl rfl)
theorem dX3_spent_95 : decode cX3_spent 95 = .ok (.invokevirtual 245, 3) := dk_182 0 245 (dk_at dksX3_spent_4 4 rfl rfl)
theorem dX3_spent_98 : decode cX3_spent 98 = .ok (.invokestatic 232, 3) := dk_184 0 232 (dk_at dksX3_spent_4 7 rfl rfl)
theorem dX3_spent_101 : decode cX3_spent 101 = .ok (.istore_n 3, 1) := dk_62 (dk_at dksX3_spent_4 10 rfl rfl)
theorem dX3_spent_102 : decode cX3_spent 102 = .ok (.iinc 5 1, 3) := dk_132 5 1 (dk_at dksX3_spent_4 11 rfl rfl)
theorem dX3_spent_105 : decode cX3_spent 105 = .ok (.goto (-68), 3) := dk_167 255 188 (dk_at dksX3_spent_4 14 rfl rfl)
theorem dX3_spent_108 : decode cX3_spent 108 = .ok (.iinc 4 1, 3) := dk_132 4 1 (dk_at dksX3_spent_4 17 rfl rfl)
theorem dX3_spent_111 : decode cX3_spent 111 = .ok (.goto (-86), 3) := dk_167 255 170 (dk_at dksX3_spent_4 20 rfl rfl)
theorem dX3_spent_114 : decode cX3_spent 114 = .ok (.aload_n 0, 1) := dk_42 (dk_at dksX3_spent_4 23 rfl rfl)
theorem dX3_spent_115 : decode cX3_spent 115 = .ok (.iconst 0, 1) := dk_3 (dk_at dksX3_spent_5 0 rfl rfl)
theorem dX3_spent_116 : decode cX3_spent 116 = .ok (.putfield 117, 3) := dk_181 0 117 (dk_at dksX3_spent_5 1 rfl rfl)
theorem dX3_spent_119 : decode cX3_spent 119 = .ok (.aload_n 0, 1) := dk_42 (dk_at dksX3_spent_5 4 rfl rfl)
theorem dX3_spent_120 : decode cX3_spent 120 = .ok (.iload_n 2, 1) := dk_28 (dk_at dksX3_spent_5 5 rfl rfl)
theorem dX3_spent_121 : decode cX3_spent 121 = .ok (.invokestatic 221, 3) := dk_184 0 221 (dk_at dksX3_spent_5 6 rfl rfl)
theorem dX3_spent_124 : decode cX3_spent 124 = .ok (.i2l, 1) := dk_133 (dk_at dksX3_spent_5 9 rfl rfl)
theorem dX3_spent_125 : decode cX3_spent 125 = .ok (.invokevirtual 284, 3) := dk_182 1 28 (dk_at dksX3_spent_5 10 rfl rfl)
theorem dX3_spent_128 : decode cX3_spent 128 = .ok (.aload_n 0, 1) := dk_42 (dk_at dksX3_spent_5 13 rfl rfl)
theorem dX3_spent_129 : decode cX3_spent 129 = .ok (.iload_n 3, 1) := dk_29 (dk_at dksX3_spent_5 14 rfl rfl)
theorem dX3_spent_130 : decode cX3_spent 130 = .ok (.i2l, 1) := dk_133 (dk_at dksX3_spent_5 15 rfl rfl)
theorem dX3_spent_131 : decode cX3_spent 131 = .ok (.invokevirtual 284, 3) := dk_182 1 28 (dk_at dksX3_spent_5 16 rfl rfl)
theorem dX3_spent_134 : decode cX3_spent 134 = .ok (.iload_n 2, 1) := dk_28 (dk_at dksX3_spent_5 19 rfl rfl)
theorem dX3_spent_135 : decode cX3_spent 135 = .ok (.ireturn, 1) := dk_172 (dk_at dksX3_spent_5 20 rfl rfl)
abbrev cX3_shared : ByteArray := prog_9_method_86_code
def yX3_shared : MethodName := ⟨RX3, "shared", "(II)I"⟩
def dkwX3_shared_2 : List UInt8 := [180, 0, 26, 27, 46, 42, 180, 0, 26, 28, 46, 126, 172]
abbrev dktX3_shared_2 : List UInt8 := dkwX3_shared_2 ++ []
def dkwX3_shared_1 : List UInt8 := [17, 0, 255, 42, 180, 0, 26, 27, 46, 42, 180, 0, 26, 28, 46, 128, 2, 130, 126, 133, 182, 1, 28, 42]
abbrev dktX3_shared_1 : List UInt8 := dkwX3_shared_1 ++ dktX3_shared_2
def dkwX3_shared_0 : List UInt8 := [42, 3, 181, 0, 114, 42, 27, 28, 182, 1, 41, 154, 0, 5, 2, 172, 42, 3, 181, 0, 117, 42]
abbrev dktX3_shared_0 : List UInt8 := dkwX3_shared_0 ++ dktX3_shared_1
theorem dksX3_shared_0 : cX3_shared.data.toList.drop 0 = dktX3_shared_0 := by decide +kernel
theorem dksX3_shared_1 : cX3_shared.data.toList.drop 22 = dktX3_shared_1 := dk_seg dksX3_shared_0 22 rfl rfl
theorem dksX3_shared_2 : cX3_shared.data.toList.drop 46 = dktX3_shared_2 := dk_seg dksX3_shared_1 24 rfl rfl
theorem dX3_shared_0 : decode cX3_shared 0 = .ok (.aload_n 0, 1) := dk_42 (dk_at dksX3_shared_0 0 rfl rfl)
theorem dX3_shared_1 : decode cX3_shared 1 = .ok (.iconst 0, 1) := dk_3 (dk_at dksX3_shared_0 1 rfl rfl)
theorem dX3_shared_2 : decode cX3_shared 2 = .ok (.putfield 114, 3) := dk_181 0 114 (dk_at dksX3_shared_0 2 rfl rfl)
theorem dX3_shared_5 : decode cX3_shared 5 = .ok (.aload_n 0, 1) := dk_42 (dk_at dksX3_shared_0 5 rfl rfl)
theorem dX3_shared_6 : decode cX3_shared 6 = .ok (.iload_n 1, 1) := dk_27 (dk_at dksX3_shared_0 6 rfl rfl)
theorem dX3_shared_7 : decode cX3_shared 7 = .ok (.iload_n 2, 1) := dk_28 (dk_at dksX3_shared_0 7 rfl rfl)
theorem dX3_shared_8 : decode cX3_shared 8 = .ok (.invokevirtual 297, 3) := dk_182 1 41 (dk_at dksX3_shared_0 8 rfl rfl)
theorem dX3_shared_11 : decode cX3_shared 11 = .ok (.ifCond .ne 5, 3) := dk_154 0 5 (dk_at dksX3_shared_0 11 rfl rfl)
theorem dX3_shared_14 : decode cX3_shared 14 = .ok (.iconst (-1), 1) := dk_2 (dk_at dksX3_shared_0 14 rfl rfl)
theorem dX3_shared_15 : decode cX3_shared 15 = .ok (.ireturn, 1) := dk_172 (dk_at dksX3_shared_0 15 rfl rfl)
theorem dX3_shared_16 : decode cX3_shared 16 = .ok (.aload_n 0, 1) := dk_42 (dk_at dksX3_shared_0 16 rfl rfl)
theorem dX3_shared_17 : decode cX3_shared 17 = .ok (.iconst 0, 1) := dk_3 (dk_at dksX3_shared_0 17 rfl rfl)
theorem dX3_shared_18 : decode cX3_shared 18 = .ok (.putfield 117, 3) := dk_181 0 117 (dk_at dksX3_shared_0 18 rfl rfl)
theorem dX3_shared_21 : decode cX3_shared 21 = .ok (.aload_n 0, 1) := dk_42 (dk_at dksX3_shared_0 21 rfl rfl)
theorem dX3_shared_22 : decode cX3_shared 22 = .ok (.sipush 255, 3) := dk_17 0 255 (dk_at dksX3_shared_1 0 rfl rfl)
theorem dX3_shared_25 : decode cX3_shared 25 = .ok (.aload_n 0, 1) := dk_42 (dk_at dksX3_shared_1 3 rfl rfl)
theorem dX3_shared_26 : decode cX3_shared 26 = .ok (.getfield 26, 3) := dk_180 0 26 (dk_at dksX3_shared_1 4 rfl rfl)
theorem dX3_shared_29 : decode cX3_shared 29 = .ok (.iload_n 1, 1) := dk_27 (dk_at dksX3_shared_1 7 rfl rfl)
theorem dX3_shared_30 : decode cX3_shared 30 = .ok (.iaload, 1) := dk_46 (dk_at dksX3_shared_1 8 rfl rfl)
theorem dX3_shared_31 : decode cX3_shared 31 = .ok (.aload_n 0, 1) := dk_42 (dk_at dksX3_shared_1 9 rfl rfl)
theorem dX3_shared_32 : decode cX3_shared 32 = .ok (.getfield 26, 3) := dk_180 0 26 (dk_at dksX3_shared_1 10 rfl rfl)
theorem dX3_shared_35 : decode cX3_shared 35 = .ok (.iload_n 2, 1) := dk_28 (dk_at dksX3_shared_1 13 rfl rfl)
theorem dX3_shared_36 : decode cX3_shared 36 = .ok (.iaload, 1) := dk_46 (dk_at dksX3_shared_1 14 rfl rfl)
theorem dX3_shared_37 : decode cX3_shared 37 = .ok (.ior, 1) := dk_128 (dk_at dksX3_shared_1 15 rfl rfl)
theorem dX3_shared_38 : decode cX3_shared 38 = .ok (.iconst (-1), 1) := dk_2 (dk_at dksX3_shared_1 16 rfl rfl)
theorem dX3_shared_39 : decode cX3_shared 39 = .ok (.ixor, 1) := dk_130 (dk_at dksX3_shared_1 17 rfl rfl)
theorem dX3_shared_40 : decode cX3_shared 40 = .ok (.iand, 1) := dk_126 (dk_at dksX3_shared_1 18 rfl rfl)
theorem dX3_shared_41 : decode cX3_shared 41 = .ok (.i2l, 1) := dk_133 (dk_at dksX3_shared_1 19 rfl rfl)
theorem dX3_shared_42 : decode cX3_shared 42 = .ok (.invokevirtual 284, 3) := dk_182 1 28 (dk_at dksX3_shared_1 20 rfl rfl)
theorem dX3_shared_45 : decode cX3_shared 45 = .ok (.aload_n 0, 1) := dk_42 (dk_at dksX3_shared_1 23 rfl rfl)
theorem dX3_shared_46 : decode cX3_shared 46 = .ok (.getfield 26, 3) := dk_180 0 26 (dk_at dksX3_shared_2 0 rfl rfl)
theorem dX3_shared_49 : decode cX3_shared 49 = .ok (.iload_n 1, 1) := dk_27 (dk_at dksX3_shared_2 3 rfl rfl)
theorem dX3_shared_50 : decode cX3_shared 50 = .ok (.iaload, 1) := dk_46 (dk_at dksX3_shared_2 4 rfl rfl)
theorem dX3_shared_51 : decode cX3_shared 51 = .ok (.aload_n 0, 1) := dk_42 (dk_at dksX3_shared_2 5 rfl rfl)
theorem dX3_shared_52 : decode cX3_shared 52 = .ok (.getfield 26, 3) := dk_180 0 26 (dk_at dksX3_shared_2 6 rfl rfl)
theorem dX3_shared_55 : decode cX3_shared 55 = .ok (.iload_n 2, 1) := dk_28 (dk_at dksX3_shared_2 9 rfl rfl)
theorem dX3_shared_56 : decode cX3_shared 56 = .ok (.iaload, 1) := dk_46 (dk_at dksX3_shared_2 10 rfl rfl)
theorem dX3_shared_57 : decode cX3_shared 57 = .ok (.iand, 1) := dk_126 (dk_at dksX3_shared_2 11 rfl rfl)
theorem dX3_shared_58 : decode cX3_shared 58 = .ok (.ireturn, 1) := dk_172 (dk_at dksX3_shared_2 12 rfl rfl)
abbrev cX3_thin : ByteArray := prog_9_method_88_code
def yX3_thin : MethodName := ⟨RX3, "thin", "()I"⟩
def dkwX3_thin_2 : List UInt8 := [182, 1, 100, 133, 182, 1, 28, 27, 172]
abbrev dktX3_thin_2 : List UInt8 := dkwX3_thin_2 ++ []
def dkwX3_thin_1 : List UInt8 := [182, 1, 100, 162, 0, 5, 28, 60, 132, 2, 1, 167, 255, 230, 42, 3, 181, 0, 117, 42, 42, 27]
abbrev dktX3_thin_1 : List UInt8 := dkwX3_thin_1 ++ dktX3_thin_2
def dkwX3_thin_0 : List UInt8 := [42, 3, 181, 0, 114, 3, 60, 4, 61, 28, 42, 180, 0, 13, 162, 0, 24, 42, 28, 182, 1, 100, 42, 27]
abbrev dktX3_thin_0 : List UInt8 := dkwX3_thin_0 ++ dktX3_thin_1
theorem dksX3_thin_0 : cX3_thin.data.toList.drop 0 = dktX3_thin_0 := by decide +kernel
theorem dksX3_thin_1 : cX3_thin.data.toList.drop 24 = dktX3_thin_1 := dk_seg dksX3_thin_0 24 rfl rfl
theorem dksX3_thin_2 : cX3_thin.data.toList.drop 46 = dktX3_thin_2 := dk_seg dksX3_thin_1 22 rfl rfl
theorem dX3_thin_0 : decode cX3_thin 0 = .ok (.aload_n 0, 1) := dk_42 (dk_at dksX3_thin_0 0 rfl rfl)
theorem dX3_thin_1 : decode cX3_thin 1 = .ok (.iconst 0, 1) := dk_3 (dk_at dksX3_thin_0 1 rfl rfl)
theorem dX3_thin_2 : decode cX3_thin 2 = .ok (.putfield 114, 3) := dk_181 0 114 (dk_at dksX3_thin_0 2 rfl rfl)
theorem dX3_thin_5 : decode cX3_thin 5 = .ok (.iconst 0, 1) := dk_3 (dk_at dksX3_thin_0 5 rfl rfl)
theorem dX3_thin_6 : decode cX3_thin 6 = .ok (.istore_n 1, 1) := dk_60 (dk_at dksX3_thin_0 6 rfl rfl)
theorem dX3_thin_7 : decode cX3_thin 7 = .ok (.iconst 1, 1) := dk_4 (dk_at dksX3_thin_0 7 rfl rfl)
theorem dX3_thin_8 : decode cX3_thin 8 = .ok (.istore_n 2, 1) := dk_61 (dk_at dksX3_thin_0 8 rfl rfl)
theorem dX3_thin_9 : decode cX3_thin 9 = .ok (.iload_n 2, 1) := dk_28 (dk_at dksX3_thin_0 9 rfl rfl)
theorem dX3_thin_10 : decode cX3_thin 10 = .ok (.aload_n 0, 1) := dk_42 (dk_at dksX3_thin_0 10 rfl rfl)
theorem dX3_thin_11 : decode cX3_thin 11 = .ok (.getfield 13, 3) := dk_180 0 13 (dk_at dksX3_thin_0 11 rfl rfl)
theorem dX3_thin_14 : decode cX3_thin 14 = .ok (.if_icmp .ge 24, 3) := dk_162 0 24 (dk_at dksX3_thin_0 14 rfl rfl)
theorem dX3_thin_17 : decode cX3_thin 17 = .ok (.aload_n 0, 1) := dk_42 (dk_at dksX3_thin_0 17 rfl rfl)
theorem dX3_thin_18 : decode cX3_thin 18 = .ok (.iload_n 2, 1) := dk_28 (dk_at dksX3_thin_0 18 rfl rfl)
theorem dX3_thin_19 : decode cX3_thin 19 = .ok (.invokevirtual 356, 3) := dk_182 1 100 (dk_at dksX3_thin_0 19 rfl rfl)
theorem dX3_thin_22 : decode cX3_thin 22 = .ok (.aload_n 0, 1) := dk_42 (dk_at dksX3_thin_0 22 rfl rfl)
theorem dX3_thin_23 : decode cX3_thin 23 = .ok (.iload_n 1, 1) := dk_27 (dk_at dksX3_thin_0 23 rfl rfl)
theorem dX3_thin_24 : decode cX3_thin 24 = .ok (.invokevirtual 356, 3) := dk_182 1 100 (dk_at dksX3_thin_1 0 rfl rfl)
theorem dX3_thin_27 : decode cX3_thin 27 = .ok (.if_icmp .ge 5, 3) := dk_162 0 5 (dk_at dksX3_thin_1 3 rfl rfl)
theorem dX3_thin_30 : decode cX3_thin 30 = .ok (.iload_n 2, 1) := dk_28 (dk_at dksX3_thin_1 6 rfl rfl)
theorem dX3_thin_31 : decode cX3_thin 31 = .ok (.istore_n 1, 1) := dk_60 (dk_at dksX3_thin_1 7 rfl rfl)
theorem dX3_thin_32 : decode cX3_thin 32 = .ok (.iinc 2 1, 3) := dk_132 2 1 (dk_at dksX3_thin_1 8 rfl rfl)
theorem dX3_thin_35 : decode cX3_thin 35 = .ok (.goto (-26), 3) := dk_167 255 230 (dk_at dksX3_thin_1 11 rfl rfl)
theorem dX3_thin_38 : decode cX3_thin 38 = .ok (.aload_n 0, 1) := dk_42 (dk_at dksX3_thin_1 14 rfl rfl)
theorem dX3_thin_39 : decode cX3_thin 39 = .ok (.iconst 0, 1) := dk_3 (dk_at dksX3_thin_1 15 rfl rfl)
theorem dX3_thin_40 : decode cX3_thin 40 = .ok (.putfield 117, 3) := dk_181 0 117 (dk_at dksX3_thin_1 16 rfl rfl)
theorem dX3_thin_43 : decode cX3_thin 43 = .ok (.aload_n 0, 1) := dk_42 (dk_at dksX3_thin_1 19 rfl rfl)
theorem dX3_thin_44 : decode cX3_thin 44 = .ok (.aload_n 0, 1) := dk_42 (dk_at dksX3_thin_1 20 rfl rfl)
theorem dX3_thin_45 : decode cX3_thin 45 = .ok (.iload_n 1, 1) := dk_27 (dk_at dksX3_thin_1 21 rfl rfl)
theorem dX3_thin_46 : decode cX3_thin 46 = .ok (.invokevirtual 356, 3) := dk_182 1 100 (dk_at dksX3_thin_2 0 rfl rfl)
theorem dX3_thin_49 : decode cX3_thin 49 = .ok (.i2l, 1) := dk_133 (dk_at dksX3_thin_2 3 rfl rfl)
theorem dX3_thin_50 : decode cX3_thin 50 = .ok (.invokevirtual 284, 3) := dk_182 1 28 (dk_at dksX3_thin_2 4 rfl rfl)
theorem dX3_thin_53 : decode cX3_thin 53 = .ok (.iload_n 1, 1) := dk_27 (dk_at dksX3_thin_2 7 rfl rfl)
theorem dX3_thin_54 : decode cX3_thin 54 = .ok (.ireturn, 1) := dk_172 (dk_at dksX3_thin_2 8 rfl rfl)
abbrev cX3_ableMany : ByteArray := prog_9_method_87_code
def yX3_ableMany : MethodName := ⟨RX3, "ableMany", "(I)I"⟩
def dkwX3_ableMany_2 : List UInt8 := [132, 3, 1, 167, 255, 212, 28, 172]
abbrev dktX3_ableMany_2 : List UInt8 := dkwX3_ableMany_2 ++ []
def dkwX3_ableMany_1 : List UInt8 := [154, 0, 20, 42, 180, 0, 26, 29, 46, 27, 184, 1, 15, 153, 0, 7, 4, 167, 0, 4, 3, 96, 61]
abbrev dktX3_ableMany_1 : List UInt8 := dkwX3_ableMany_1 ++ dktX3_ableMany_2
def dkwX3_ableMany_0 : List UInt8 := [3, 61, 3, 62, 29, 42, 180, 0, 120, 162, 0, 42, 28, 42, 180, 0, 9, 16, 16, 29, 96, 46]
abbrev dktX3_ableMany_0 : List UInt8 := dkwX3_ableMany_0 ++ dktX3_ableMany_1
theorem dksX3_ableMany_0 : cX3_ableMany.data.toList.drop 0 = dktX3_ableMany_0 := by decide +kernel
theorem dksX3_ableMany_1 : cX3_ableMany.data.toList.drop 22 = dktX3_ableMany_1 := dk_seg dksX3_ableMany_0 22 rfl rfl
theorem dksX3_ableMany_2 : cX3_ableMany.data.toList.drop 45 = dktX3_ableMany_2 := dk_seg dksX3_ableMany_1 23 rfl rfl
theorem dX3_ableMany_0 : decode cX3_ableMany 0 = .ok (.iconst 0, 1) := dk_3 (dk_at dksX3_ableMany_0 0 rfl rfl)
theorem dX3_ableMany_1 : decode cX3_ableMany 1 = .ok (.istore_n 2, 1) := dk_61 (dk_at dksX3_ableMany_0 1 rfl rfl)
theorem dX3_ableMany_2 : decode cX3_ableMany 2 = .ok (.iconst 0, 1) := dk_3 (dk_at dksX3_ableMany_0 2 rfl rfl)
theorem dX3_ableMany_3 : decode cX3_ableMany 3 = .ok (.istore_n 3, 1) := dk_62 (dk_at dksX3_ableMany_0 3 rfl rfl)
theorem dX3_ableMany_4 : decode cX3_ableMany 4 = .ok (.iload_n 3, 1) := dk_29 (dk_at dksX3_ableMany_0 4 rfl rfl)
theorem dX3_ableMany_5 : decode cX3_ableMany 5 = .ok (.aload_n 0, 1) := dk_42 (dk_at dksX3_ableMany_0 5 rfl rfl)
theorem dX3_ableMany_6 : decode cX3_ableMany 6 = .ok (.getfield 120, 3) := dk_180 0 120 (dk_at dksX3_ableMany_0 6 rfl rfl)
theorem dX3_ableMany_9 : decode cX3_ableMany 9 = .ok (.if_icmp .ge 42, 3) := dk_162 0 42 (dk_at dksX3_ableMany_0 9 rfl rfl)
theorem dX3_ableMany_12 : decode cX3_ableMany 12 = .ok (.iload_n 2, 1) := dk_28 (dk_at dksX3_ableMany_0 12 rfl rfl)
theorem dX3_ableMany_13 : decode cX3_ableMany 13 = .ok (.aload_n 0, 1) := dk_42 (dk_at dksX3_ableMany_0 13 rfl rfl)
theorem dX3_ableMany_14 : decode cX3_ableMany 14 = .ok (.getfield 9, 3) := dk_180 0 9 (dk_at dksX3_ableMany_0 14 rfl rfl)
theorem dX3_ableMany_17 : decode cX3_ableMany 17 = .ok (.bipush 16, 2) := dk_16 16 (dk_at dksX3_ableMany_0 17 rfl rfl)
theorem dX3_ableMany_19 : decode cX3_ableMany 19 = .ok (.iload_n 3, 1) := dk_29 (dk_at dksX3_ableMany_0 19 rfl rfl)
theorem dX3_ableMany_20 : decode cX3_ableMany 20 = .ok (.iadd, 1) := dk_96 (dk_at dksX3_ableMany_0 20 rfl rfl)
theorem dX3_ableMany_21 : decode cX3_ableMany 21 = .ok (.iaload, 1) := dk_46 (dk_at dksX3_ableMany_0 21 rfl rfl)
theorem dX3_ableMany_22 : decode cX3_ableMany 22 = .ok (.ifCond .ne 20, 3) := dk_154 0 20 (dk_at dksX3_ableMany_1 0 rfl rfl)
theorem dX3_ableMany_25 : decode cX3_ableMany 25 = .ok (.aload_n 0, 1) := dk_42 (dk_at dksX3_ableMany_1 3 rfl rfl)
theorem dX3_ableMany_26 : decode cX3_ableMany 26 = .ok (.getfield 26, 3) := dk_180 0 26 (dk_at dksX3_ableMany_1 4 rfl rfl)
theorem dX3_ableMany_29 : decode cX3_ableMany 29 = .ok (.iload_n 3, 1) := dk_29 (dk_at dksX3_ableMany_1 7 rfl rfl)
theorem dX3_ableMany_30 : decode cX3_ableMany 30 = .ok (.iaload, 1) := dk_46 (dk_at dksX3_ableMany_1 8 rfl rfl)
theorem dX3_ableMany_31 : decode cX3_ableMany 31 = .ok (.iload_n 1, 1) := dk_27 (dk_at dksX3_ableMany_1 9 rfl rfl)
theorem dX3_ableMany_32 : decode cX3_ableMany 32 = .ok (.invokestatic 271, 3) := dk_184 1 15 (dk_at dksX3_ableMany_1 10 rfl rfl)
theorem dX3_ableMany_35 : decode cX3_ableMany 35 = .ok (.ifCond .eq 7, 3) := dk_153 0 7 (dk_at dksX3_ableMany_1 13 rfl rfl)
theorem dX3_ableMany_38 : decode cX3_ableMany 38 = .ok (.iconst 1, 1) := dk_4 (dk_at dksX3_ableMany_1 16 rfl rfl)
theorem dX3_ableMany_39 : decode cX3_ableMany 39 = .ok (.goto 4, 3) := dk_167 0 4 (dk_at dksX3_ableMany_1 17 rfl rfl)
theorem dX3_ableMany_42 : decode cX3_ableMany 42 = .ok (.iconst 0, 1) := dk_3 (dk_at dksX3_ableMany_1 20 rfl rfl)
theorem dX3_ableMany_43 : decode cX3_ableMany 43 = .ok (.iadd, 1) := dk_96 (dk_at dksX3_ableMany_1 21 rfl rfl)
theorem dX3_ableMany_44 : decode cX3_ableMany 44 = .ok (.istore_n 2, 1) := dk_61 (dk_at dksX3_ableMany_1 22 rfl rfl)
theorem dX3_ableMany_45 : decode cX3_ableMany 45 = .ok (.iinc 3 1, 3) := dk_132 3 1 (dk_at dksX3_ableMany_2 0 rfl rfl)
theorem dX3_ableMany_48 : decode cX3_ableMany 48 = .ok (.goto (-44), 3) := dk_167 255 212 (dk_at dksX3_ableMany_2 3 rfl rfl)
theorem dX3_ableMany_51 : decode cX3_ableMany 51 = .ok (.iload_n 2, 1) := dk_28 (dk_at dksX3_ableMany_2 6 rfl rfl)
theorem dX3_ableMany_52 : decode cX3_ableMany 52 = .ok (.ireturn, 1) := dk_172 (dk_at dksX3_ableMany_2 7 rfl rfl)
abbrev cX3_changes : ByteArray := prog_9_method_89_code
def yX3_changes : MethodName := ⟨RX3, "changes", "()I"⟩
def dkwX3_changes_5 : List UInt8 := [42, 3, 181, 0, 117, 42, 28, 133, 182, 1, 28, 42, 29, 133, 182, 1, 28, 27, 172]
abbrev dktX3_changes_5 : List UInt8 := dkwX3_changes_5 ++ []
def dkwX3_changes_4 : List UInt8 := [180, 0, 17, 164, 0, 7, 4, 167, 0, 4, 3, 96, 61, 29, 21, 7, 96, 62, 132, 4, 1, 167, 255, 157]
abbrev dktX3_changes_4 : List UInt8 := dkwX3_changes_4 ++ dktX3_changes_5
def dkwX3_changes_3 : List UInt8 := [21, 5, 46, 42, 180, 0, 23, 21, 6, 46, 100, 184, 1, 18, 54, 7, 132, 1, 1, 28, 21, 7, 42]
abbrev dktX3_changes_3 : List UInt8 := dkwX3_changes_3 ++ dktX3_changes_4
def dkwX3_changes_2 : List UInt8 := [159, 0, 64, 21, 6, 2, 159, 0, 58, 21, 5, 21, 6, 160, 0, 6, 167, 0, 48, 42, 180, 0, 23]
abbrev dktX3_changes_2 : List UInt8 := dkwX3_changes_2 ++ dktX3_changes_3
def dkwX3_changes_1 : List UInt8 := [180, 0, 9, 21, 4, 4, 100, 46, 54, 5, 42, 180, 0, 9, 21, 4, 46, 54, 6, 21, 5, 2]
abbrev dktX3_changes_1 : List UInt8 := dkwX3_changes_1 ++ dktX3_changes_2
def dkwX3_changes_0 : List UInt8 := [42, 3, 181, 0, 114, 3, 60, 3, 61, 3, 62, 4, 54, 4, 21, 4, 42, 180, 0, 13, 162, 0, 96, 42]
abbrev dktX3_changes_0 : List UInt8 := dkwX3_changes_0 ++ dktX3_changes_1
theorem dksX3_changes_0 : cX3_changes.data.toList.drop 0 = dktX3_changes_0 := by decide +kernel
theorem dksX3_changes_1 : cX3_changes.data.toList.drop 24 = dktX3_changes_1 := dk_seg dksX3_changes_0 24 rfl rfl
theorem dksX3_changes_2 : cX3_changes.data.toList.drop 46 = dktX3_changes_2 := dk_seg dksX3_changes_1 22 rfl rfl
theorem dksX3_changes_3 : cX3_changes.data.toList.drop 69 = dktX3_changes_3 := dk_seg dksX3_changes_2 23 rfl rfl
theorem dksX3_changes_4 : cX3_changes.data.toList.drop 92 = dktX3_changes_4 := dk_seg dksX3_changes_3 23 rfl rfl
theorem dksX3_changes_5 : cX3_changes.data.toList.drop 116 = dktX3_changes_5 := dk_seg dksX3_changes_4 24 rfl rfl
theorem dX3_changes_0 : decode cX3_changes 0 = .ok (.aload_n 0, 1) := dk_42 (dk_at dksX3_changes_0 0 rfl rfl)
theorem dX3_changes_1 : decode cX3_changes 1 = .ok (.iconst 0, 1) := dk_3 (dk_at dksX3_changes_0 1 rfl rfl)
theorem dX3_changes_2 : decode cX3_changes 2 = .ok (.putfield 114, 3) := dk_181 0 114 (dk_at dksX3_changes_0 2 rfl rfl)
theorem dX3_changes_5 : decode cX3_changes 5 = .ok (.iconst 0, 1) := dk_3 (dk_at dksX3_changes_0 5 rfl rfl)
theorem dX3_changes_6 : decode cX3_changes 6 = .ok (.istore_n 1, 1) := dk_60 (dk_at dksX3_changes_0 6 rfl rfl)
theorem dX3_changes_7 : decode cX3_changes 7 = .ok (.iconst 0, 1) := dk_3 (dk_at dksX3_changes_0 7 rfl rfl)
theorem dX3_changes_8 : decode cX3_changes 8 = .ok (.istore_n 2, 1) := dk_61 (dk_at dksX3_changes_0 8 rfl rfl)
theorem dX3_changes_9 : decode cX3_changes 9 = .ok (.iconst 0, 1) := dk_3 (dk_at dksX3_changes_0 9 rfl rfl)
theorem dX3_changes_10 : decode cX3_changes 10 = .ok (.istore_n 3, 1) := dk_62 (dk_at dksX3_changes_0 10 rfl rfl)
theorem dX3_changes_11 : decode cX3_changes 11 = .ok (.iconst 1, 1) := dk_4 (dk_at dksX3_changes_0 11 rfl rfl)
theorem dX3_changes_12 : decode cX3_changes 12 = .ok (.istore 4, 2) := dk_54 4 (dk_at dksX3_changes_0 12 rfl rfl)
theorem dX3_changes_14 : decode cX3_changes 14 = .ok (.iload 4, 2) := dk_21 4 (dk_at dksX3_changes_0 14 rfl rfl)
theorem dX3_changes_16 : decode cX3_changes 16 = .ok (.aload_n 0, 1) := dk_42 (dk_at dksX3_changes_0 16 rfl rfl)
theorem dX3_changes_17 : decode cX3_changes 17 = .ok (.getfield 13, 3) := dk_180 0 13 (dk_at dksX3_changes_0 17 rfl rfl)
theorem dX3_changes_20 : decode cX3_changes 20 = .ok (.if_icmp .ge 96, 3) := dk_162 0 96 (dk_at dksX3_changes_0 20 rfl rfl)
theorem dX3_changes_23 : decode cX3_changes 23 = .ok (.aload_n 0, 1) := dk_42 (dk_at dksX3_changes_0 23 rfl rfl)
theorem dX3_changes_24 : decode cX3_changes 24 = .ok (.getfield 9, 3) := dk_180 0 9 (dk_at dksX3_changes_1 0 rfl rfl)
theorem dX3_changes_27 : decode cX3_changes 27 = .ok (.iload 4, 2) := dk_21 4 (dk_at dksX3_changes_1 3 rfl rfl)
theorem dX3_changes_29 : decode cX3_changes 29 = .ok (.iconst 1, 1) := dk_4 (dk_at dksX3_changes_1 5 rfl rfl)
theorem dX3_changes_30 : decode cX3_changes 30 = .ok (.isub, 1) := dk_100 (dk_at dksX3_changes_1 6 rfl rfl)
theorem dX3_changes_31 : decode cX3_changes 31 = .ok (.iaload, 1) := dk_46 (dk_at dksX3_changes_1 7 rfl rfl)
theorem dX3_changes_32 : decode cX3_changes 32 = .ok (.istore 5, 2) := dk_54 5 (dk_at dksX3_changes_1 8 rfl rfl)
theorem dX3_changes_34 : decode cX3_changes 34 = .ok (.aload_n 0, 1) := dk_42 (dk_at dksX3_changes_1 10 rfl rfl)
theorem dX3_changes_35 : decode cX3_changes 35 = .ok (.getfield 9, 3) := dk_180 0 9 (dk_at dksX3_changes_1 11 rfl rfl)
theorem dX3_changes_38 : decode cX3_changes 38 = .ok (.iload 4, 2) := dk_21 4 (dk_at dksX3_changes_1 14 rfl rfl)
theorem dX3_changes_40 : decode cX3_changes 40 = .ok (.iaload, 1) := dk_46 (dk_at dksX3_changes_1 16 rfl rfl)
theorem dX3_changes_41 : decode cX3_changes 41 = .ok (.istore 6, 2) := dk_54 6 (dk_at dksX3_changes_1 17 rfl rfl)
theorem dX3_changes_43 : decode cX3_changes 43 = .ok (.iload 5, 2) := dk_21 5 (dk_at dksX3_changes_1 19 rfl rfl)
theorem dX3_changes_45 : decode cX3_changes 45 = .ok (.iconst (-1), 1) := dk_2 (dk_at dksX3_changes_1 21 rfl rfl)
theorem dX3_changes_46 : decode cX3_changes 46 = .ok (.if_icmp .eq 64, 3) := dk_159 0 64 (dk_at dksX3_changes_2 0 rfl rfl)
theorem dX3_changes_49 : decode cX3_changes 49 = .ok (.iload 6, 2) := dk_21 6 (dk_at dksX3_changes_2 3 rfl rfl)
theorem dX3_changes_51 : decode cX3_changes 51 = .ok (.iconst (-1), 1) := dk_2 (dk_at dksX3_changes_2 5 rfl rfl)
theorem dX3_changes_52 : decode cX3_changes 52 = .ok (.if_icmp .eq 58, 3) := dk_159 0 58 (dk_at dksX3_changes_2 6 rfl rfl)
theorem dX3_changes_55 : decode cX3_changes 55 = .ok (.iload 5, 2) := dk_21 5 (dk_at dksX3_changes_2 9 rfl rfl)
theorem dX3_changes_57 : decode cX3_changes 57 = .ok (.iload 6, 2) := dk_21 6 (dk_at dksX3_changes_2 11 rfl rfl)
theorem dX3_changes_59 : decode cX3_changes 59 = .ok (.if_icmp .ne 6, 3) := dk_160 0 6 (dk_at dksX3_changes_2 13 rfl rfl)
theorem dX3_changes_62 : decode cX3_changes 62 = .ok (.goto 48, 3) := dk_167 0 48 (dk_at dksX3_changes_2 16 rfl rfl)
theorem dX3_changes_65 : decode cX3_changes 65 = .ok (.aload_n 0, 1) := dk_42 (dk_at dksX3_changes_2 19 rfl rfl)
theorem dX3_changes_66 : decode cX3_changes 66 = .ok (.getfield 23, 3) := dk_180 0 23 (dk_at dksX3_changes_2 20 rfl rfl)
theorem dX3_changes_69 : decode cX3_changes 69 = .ok (.iload 5, 2) := dk_21 5 (dk_at dksX3_changes_3 0 rfl rfl)
theorem dX3_changes_71 : decode cX3_changes 71 = .ok (.iaload, 1) := dk_46 (dk_at dksX3_changes_3 2 rfl rfl)
theorem dX3_changes_72 : decode cX3_changes 72 = .ok (.aload_n 0, 1) := dk_42 (dk_at dksX3_changes_3 3 rfl rfl)
theorem dX3_changes_73 : decode cX3_changes 73 = .ok (.getfield 23, 3) := dk_180 0 23 (dk_at dksX3_changes_3 4 rfl rfl)
theorem dX3_changes_76 : decode cX3_changes 76 = .ok (.iload 6, 2) := dk_21 6 (dk_at dksX3_changes_3 7 rfl rfl)
theorem dX3_changes_78 : decode cX3_changes 78 = .ok (.iaload, 1) := dk_46 (dk_at dksX3_changes_3 9 rfl rfl)
theorem dX3_changes_79 : decode cX3_changes 79 = .ok (.isub, 1) := dk_100 (dk_at dksX3_changes_3 10 rfl rfl)
theorem dX3_changes_80 : decode cX3_changes 80 = .ok (.invokestatic 274, 3) := dk_184 1 18 (dk_at dksX3_changes_3 11 rfl rfl)
theorem dX3_changes_83 : decode cX3_changes 83 = .ok (.istore 7, 2) := dk_54 7 (dk_at dksX3_changes_3 14 rfl rfl)
theorem dX3_changes_85 : decode cX3_changes 85 = .ok (.iinc 1 1, 3) := dk_132 1 1 (dk_at dksX3_changes_3 16 rfl rfl)
theorem dX3_changes_88 : decode cX3_changes 88 = .ok (.iload_n 2, 1) := dk_28 (dk_at dksX3_changes_3 19 rfl rfl)
theorem dX3_changes_89 : decode cX3_changes 89 = .ok (.iload 7, 2) := dk_21 7 (dk_at dksX3_changes_3 20 rfl rfl)
theorem dX3_changes_91 : decode cX3_changes 91 = .ok (.aload_n 0, 1) := dk_42 (dk_at dksX3_changes_3 22 rfl rfl)
theorem dX3_changes_92 : decode cX3_changes 92 = .ok (.getfield 17, 3) := dk_180 0 17 (dk_at dksX3_changes_4 0 rfl rfl)
theorem dX3_changes_95 : decode cX3_changes 95 = .ok (.if_icmp .le 7, 3) := dk_164 0 7 (dk_at dksX3_changes_4 3 rfl rfl)
theorem dX3_changes_98 : decode cX3_changes 98 = .ok (.iconst 1, 1) := dk_4 (dk_at dksX3_changes_4 6 rfl rfl)
theorem dX3_changes_99 : decode cX3_changes 99 = .ok (.goto 4, 3) := dk_167 0 4 (dk_at dksX3_changes_4 7 rfl rfl)
theorem dX3_changes_102 : decode cX3_changes 102 = .ok (.iconst 0, 1) := dk_3 (dk_at dksX3_changes_4 10 rfl rfl)
theorem dX3_changes_103 : decode cX3_changes 103 = .ok (.iadd, 1) := dk_96 (dk_at dksX3_changes_4 11 rfl rfl)
theorem dX3_changes_104 : decode cX3_changes 104 = .ok (.istore_n 2, 1) := dk_61 (dk_at dksX3_changes_4 12 rfl rfl)
theorem dX3_changes_105 : decode cX3_changes 105 = .ok (.iload_n 3, 1) := dk_29 (dk_at dksX3_changes_4 13 rfl rfl)
theorem dX3_changes_106 : decode cX3_changes 106 = .ok (.iload 7, 2) := dk_21 7 (dk_at dksX3_changes_4 14 rfl rfl)
theorem dX3_changes_108 : decode cX3_changes 108 = .ok (.iadd, 1) := dk_96 (dk_at dksX3_changes_4 16 rfl rfl)
theorem dX3_changes_109 : decode cX3_changes 109 = .ok (.istore_n 3, 1) := dk_62 (dk_at dksX3_changes_4 17 rfl rfl)
theorem dX3_changes_110 : decode cX3_changes 110 = .ok (.iinc 4 1, 3) := dk_132 4 1 (dk_at dksX3_changes_4 18 rfl rfl)
theorem dX3_changes_113 : decode cX3_changes 113 = .ok (.goto (-99), 3) := dk_167 255 157 (dk_at dksX3_changes_4 21 rfl rfl)
theorem dX3_changes_116 : decode cX3_changes 116 = .ok (.aload_n 0, 1) := dk_42 (dk_at dksX3_changes_5 0 rfl rfl)
theorem dX3_changes_117 : decode cX3_changes 117 = .ok (.iconst 0, 1) := dk_3 (dk_at dksX3_changes_5 1 rfl rfl)
theorem dX3_changes_118 : decode cX3_changes 118 = .ok (.putfield 117, 3) := dk_181 0 117 (dk_at dksX3_changes_5 2 rfl rfl)
theorem dX3_changes_121 : decode cX3_changes 121 = .ok (.aload_n 0, 1) := dk_42 (dk_at dksX3_changes_5 5 rfl rfl)
theorem dX3_changes_122 : decode cX3_changes 122 = .ok (.iload_n 2, 1) := dk_28 (dk_at dksX3_changes_5 6 rfl rfl)
theorem dX3_changes_123 : decode cX3_changes 123 = .ok (.i2l, 1) := dk_133 (dk_at dksX3_changes_5 7 rfl rfl)
theorem dX3_changes_124 : decode cX3_changes 124 = .ok (.invokevirtual 284, 3) := dk_182 1 28 (dk_at dksX3_changes_5 8 rfl rfl)
theorem dX3_changes_127 : decode cX3_changes 127 = .ok (.aload_n 0, 1) := dk_42 (dk_at dksX3_changes_5 11 rfl rfl)
theorem dX3_changes_128 : decode cX3_changes 128 = .ok (.iload_n 3, 1) := dk_29 (dk_at dksX3_changes_5 12 rfl rfl)
theorem dX3_changes_129 : decode cX3_changes 129 = .ok (.i2l, 1) := dk_133 (dk_at dksX3_changes_5 13 rfl rfl)
theorem dX3_changes_130 : decode cX3_changes 130 = .ok (.invokevirtual 284, 3) := dk_182 1 28 (dk_at dksX3_changes_5 14 rfl rfl)
theorem dX3_changes_133 : decode cX3_changes 133 = .ok (.iload_n 1, 1) := dk_27 (dk_at dksX3_changes_5 17 rfl rfl)
theorem dX3_changes_134 : decode cX3_changes 134 = .ok (.ireturn, 1) := dk_172 (dk_at dksX3_changes_5 18 rfl rfl)
abbrev cX3_smoothest : ByteArray := prog_9_method_91_code
def yX3_smoothest : MethodName := ⟨RX3, "smoothest", "()I"⟩
def dkwX3_smoothest_2 : List UInt8 := [27, 182, 1, 103, 154, 0, 9, 132, 1, 1, 167, 255, 244, 42, 182, 1, 88, 27, 172]
abbrev dktX3_smoothest_2 : List UInt8 := dkwX3_smoothest_2 ++ []
def dkwX3_smoothest_1 : List UInt8 := [60, 27, 16, 8, 162, 0, 16, 42, 180, 0, 58, 27, 3, 79, 132, 1, 1, 167, 255, 240, 3, 60, 42, 3]
abbrev dktX3_smoothest_1 : List UInt8 := dkwX3_smoothest_1 ++ dktX3_smoothest_2
def dkwX3_smoothest_0 : List UInt8 := [42, 3, 181, 0, 114, 42, 2, 182, 1, 79, 42, 5, 182, 1, 73, 18, 88, 160, 0, 6, 16, 254, 172, 3]
abbrev dktX3_smoothest_0 : List UInt8 := dkwX3_smoothest_0 ++ dktX3_smoothest_1
theorem dksX3_smoothest_0 : cX3_smoothest.data.toList.drop 0 = dktX3_smoothest_0 := by decide +kernel
theorem dksX3_smoothest_1 : cX3_smoothest.data.toList.drop 24 = dktX3_smoothest_1 := dk_seg dksX3_smoothest_0 24 rfl rfl
theorem dksX3_smoothest_2 : cX3_smoothest.data.toList.drop 48 = dktX3_smoothest_2 := dk_seg dksX3_smoothest_1 24 rfl rfl
theorem dX3_smoothest_0 : decode cX3_smoothest 0 = .ok (.aload_n 0, 1) := dk_42 (dk_at dksX3_smoothest_0 0 rfl rfl)
theorem dX3_smoothest_1 : decode cX3_smoothest 1 = .ok (.iconst 0, 1) := dk_3 (dk_at dksX3_smoothest_0 1 rfl rfl)
theorem dX3_smoothest_2 : decode cX3_smoothest 2 = .ok (.putfield 114, 3) := dk_181 0 114 (dk_at dksX3_smoothest_0 2 rfl rfl)
theorem dX3_smoothest_5 : decode cX3_smoothest 5 = .ok (.aload_n 0, 1) := dk_42 (dk_at dksX3_smoothest_0 5 rfl rfl)
theorem dX3_smoothest_6 : decode cX3_smoothest 6 = .ok (.iconst (-1), 1) := dk_2 (dk_at dksX3_smoothest_0 6 rfl rfl)
theorem dX3_smoothest_7 : decode cX3_smoothest 7 = .ok (.invokevirtual 335, 3) := dk_182 1 79 (dk_at dksX3_smoothest_0 7 rfl rfl)
theorem dX3_smoothest_10 : decode cX3_smoothest 10 = .ok (.aload_n 0, 1) := dk_42 (dk_at dksX3_smoothest_0 10 rfl rfl)
theorem dX3_smoothest_11 : decode cX3_smoothest 11 = .ok (.iconst 2, 1) := dk_5 (dk_at dksX3_smoothest_0 11 rfl rfl)
theorem dX3_smoothest_12 : decode cX3_smoothest 12 = .ok (.invokevirtual 329, 3) := dk_182 1 73 (dk_at dksX3_smoothest_0 12 rfl rfl)
theorem dX3_smoothest_15 : decode cX3_smoothest 15 = .ok (.ldc 88, 2) := dk_18 88 (dk_at dksX3_smoothest_0 15 rfl rfl)
theorem dX3_smoothest_17 : decode cX3_smoothest 17 = .ok (.if_icmp .ne 6, 3) := dk_160 0 6 (dk_at dksX3_smoothest_0 17 rfl rfl)
theorem dX3_smoothest_20 : decode cX3_smoothest 20 = .ok (.bipush (-2), 2) := dk_16 254 (dk_at dksX3_smoothest_0 20 rfl rfl)
theorem dX3_smoothest_22 : decode cX3_smoothest 22 = .ok (.ireturn, 1) := dk_172 (dk_at dksX3_smoothest_0 22 rfl rfl)
theorem dX3_smoothest_23 : decode cX3_smoothest 23 = .ok (.iconst 0, 1) := dk_3 (dk_at dksX3_smoothest_0 23 rfl rfl)
theorem dX3_smoothest_24 : decode cX3_smoothest 24 = .ok (.istore_n 1, 1) := dk_60 (dk_at dksX3_smoothest_1 0 rfl rfl)
theorem dX3_smoothest_25 : decode cX3_smoothest 25 = .ok (.iload_n 1, 1) := dk_27 (dk_at dksX3_smoothest_1 1 rfl rfl)
theorem dX3_smoothest_26 : decode cX3_smoothest 26 = .ok (.bipush 8, 2) := dk_16 8 (dk_at dksX3_smoothest_1 2 rfl rfl)
theorem dX3_smoothest_28 : decode cX3_smoothest 28 = .ok (.if_icmp .ge 16, 3) := dk_162 0 16 (dk_at dksX3_smoothest_1 4 rfl rfl)
theorem dX3_smoothest_31 : decode cX3_smoothest 31 = .ok (.aload_n 0, 1) := dk_42 (dk_at dksX3_smoothest_1 7 rfl rfl)
theorem dX3_smoothest_32 : decode cX3_smoothest 32 = .ok (.getfield 58, 3) := dk_180 0 58 (dk_at dksX3_smoothest_1 8 rfl rfl)
theorem dX3_smoothest_35 : decode cX3_smoothest 35 = .ok (.iload_n 1, 1) := dk_27 (dk_at dksX3_smoothest_1 11 rfl rfl)
theorem dX3_smoothest_36 : decode cX3_smoothest 36 = .ok (.iconst 0, 1) := dk_3 (dk_at dksX3_smoothest_1 12 rfl rfl)
theorem dX3_smoothest_37 : decode cX3_smoothest 37 = .ok (.iastore, 1) := dk_79 (dk_at dksX3_smoothest_1 13 rfl rfl)
theorem dX3_smoothest_38 : decode cX3_smoothest 38 = .ok (.iinc 1 1, 3) := dk_132 1 1 (dk_at dksX3_smoothest_1 14 rfl rfl)
theorem dX3_smoothest_41 : decode cX3_smoothest 41 = .ok (.goto (-16), 3) := dk_167 255 240 (dk_at dksX3_smoothest_1 17 rfl rfl)
theorem dX3_smoothest_44 : decode cX3_smoothest 44 = .ok (.iconst 0, 1) := dk_3 (dk_at dksX3_smoothest_1 20 rfl rfl)
theorem dX3_smoothest_45 : decode cX3_smoothest 45 = .ok (.istore_n 1, 1) := dk_60 (dk_at dksX3_smoothest_1 21 rfl rfl)
theorem dX3_smoothest_46 : decode cX3_smoothest 46 = .ok (.aload_n 0, 1) := dk_42 (dk_at dksX3_smoothest_1 22 rfl rfl)
theorem dX3_smoothest_47 : decode cX3_smoothest 47 = .ok (.iconst 0, 1) := dk_3 (dk_at dksX3_smoothest_1 23 rfl rfl)
theorem dX3_smoothest_48 : decode cX3_smoothest 48 = .ok (.iload_n 1, 1) := dk_27 (dk_at dksX3_smoothest_2 0 rfl rfl)
theorem dX3_smoothest_49 : decode cX3_smoothest 49 = .ok (.invokevirtual 359, 3) := dk_182 1 103 (dk_at dksX3_smoothest_2 1 rfl rfl)
theorem dX3_smoothest_52 : decode cX3_smoothest 52 = .ok (.ifCond .ne 9, 3) := dk_154 0 9 (dk_at dksX3_smoothest_2 4 rfl rfl)
theorem dX3_smoothest_55 : decode cX3_smoothest 55 = .ok (.iinc 1 1, 3) := dk_132 1 1 (dk_at dksX3_smoothest_2 7 rfl rfl)
theorem dX3_smoothest_58 : decode cX3_smoothest 58 = .ok (.goto (-12), 3) := dk_167 255 244 (dk_at dksX3_smoothest_2 10 rfl rfl)
theorem dX3_smoothest_61 : decode cX3_smoothest 61 = .ok (.aload_n 0, 1) := dk_42 (dk_at dksX3_smoothest_2 13 rfl rfl)
theorem dX3_smoothest_62 : decode cX3_smoothest 62 = .ok (.invokevirtual 344, 3) := dk_182 1 88 (dk_at dksX3_smoothest_2 14 rfl rfl)
theorem dX3_smoothest_65 : decode cX3_smoothest 65 = .ok (.iload_n 1, 1) := dk_27 (dk_at dksX3_smoothest_2 17 rfl rfl)
theorem dX3_smoothest_66 : decode cX3_smoothest 66 = .ok (.ireturn, 1) := dk_172 (dk_at dksX3_smoothest_2 18 rfl rfl)
abbrev cX3_goSmooth : ByteArray := prog_9_method_90_code
def yX3_goSmooth : MethodName := ⟨RX3, "goSmooth", "(II)Z"⟩
def dkwX3_goSmooth_6 : List UInt8 := [132, 3, 1, 167, 255, 125, 3, 172]
abbrev dktX3_goSmooth_6 : List UInt8 := dkwX3_goSmooth_6 ++ []
def dkwX3_goSmooth_5 : List UInt8 := [182, 1, 103, 54, 5, 42, 180, 0, 58, 29, 92, 46, 4, 100, 79, 21, 5, 153, 0, 5, 4, 172]
abbrev dktX3_goSmooth_5 : List UInt8 := dkwX3_goSmooth_5 ++ dktX3_goSmooth_6
def dkwX3_goSmooth_4 : List UInt8 := [180, 0, 92, 27, 29, 79, 42, 180, 0, 58, 29, 92, 46, 4, 96, 79, 42, 27, 4, 96, 28, 21, 4, 100]
abbrev dktX3_goSmooth_4 : List UInt8 := dkwX3_goSmooth_4 ++ dktX3_goSmooth_5
def dkwX3_goSmooth_3 : List UInt8 := [180, 0, 92, 27, 4, 100, 46, 46, 100, 184, 1, 18, 54, 4, 21, 4, 28, 164, 0, 6, 167, 0, 50, 42]
abbrev dktX3_goSmooth_3 : List UInt8 := dkwX3_goSmooth_3 ++ dktX3_goSmooth_4
def dkwX3_goSmooth_2 : List UInt8 := [167, 0, 92, 27, 154, 0, 7, 3, 167, 0, 26, 42, 180, 0, 23, 29, 46, 42, 180, 0, 23, 42]
abbrev dktX3_goSmooth_2 : List UInt8 := dkwX3_goSmooth_2 ++ dktX3_goSmooth_3
def dkwX3_goSmooth_1 : List UInt8 := [29, 46, 27, 184, 1, 15, 153, 0, 110, 42, 180, 0, 58, 29, 46, 42, 180, 0, 20, 29, 46, 160, 0, 6]
abbrev dktX3_goSmooth_1 : List UInt8 := dkwX3_goSmooth_1 ++ dktX3_goSmooth_2
def dkwX3_goSmooth_0 : List UInt8 := [27, 42, 180, 0, 13, 160, 0, 5, 4, 172, 3, 62, 29, 42, 180, 0, 120, 162, 0, 129, 42, 180, 0, 67]
abbrev dktX3_goSmooth_0 : List UInt8 := dkwX3_goSmooth_0 ++ dktX3_goSmooth_1
theorem dksX3_goSmooth_0 : cX3_goSmooth.data.toList.drop 0 = dktX3_goSmooth_0 := by decide +kernel
theorem dksX3_goSmooth_1 : cX3_goSmooth.data.toList.drop 24 = dktX3_goSmooth_1 := dk_seg dksX3_goSmooth_0 24 rfl rfl
theorem dksX3_goSmooth_2 : cX3_goSmooth.data.toList.drop 48 = dktX3_goSmooth_2 := dk_seg dksX3_goSmooth_1 24 rfl rfl
theorem dksX3_goSmooth_3 : cX3_goSmooth.data.toList.drop 70 = dktX3_goSmooth_3 := dk_seg dksX3_goSmooth_2 22 rfl rfl
theorem dksX3_goSmooth_4 : cX3_goSmooth.data.toList.drop 94 = dktX3_goSmooth_4 := dk_seg dksX3_goSmooth_3 24 rfl rfl
theorem dksX3_goSmooth_5 : cX3_goSmooth.data.toList.drop 118 = dktX3_goSmooth_5 := dk_seg dksX3_goSmooth_4 24 rfl rfl
theorem dksX3_goSmooth_6 : cX3_goSmooth.data.toList.drop 140 = dktX3_goSmooth_6 := dk_seg dksX3_goSmooth_5 22 rfl rfl
theorem dX3_goSmooth_0 : decode cX3_goSmooth 0 = .ok (.iload_n 1, 1) := dk_27 (dk_at dksX3_goSmooth_0 0 rfl rfl)
theorem dX3_goSmooth_1 : decode cX3_goSmooth 1 = .ok (.aload_n 0, 1) := dk_42 (dk_at dksX3_goSmooth_0 1 rfl rfl)
theorem dX3_goSmooth_2 : decode cX3_goSmooth 2 = .ok (.getfield 13, 3) := dk_180 0 13 (dk_at dksX3_goSmooth_0 2 rfl rfl)
theorem dX3_goSmooth_5 : decode cX3_goSmooth 5 = .ok (.if_icmp .ne 5, 3) := dk_160 0 5 (dk_at dksX3_goSmooth_0 5 rfl rfl)
theorem dX3_goSmooth_8 : decode cX3_goSmooth 8 = .ok (.iconst 1, 1) := dk_4 (dk_at dksX3_goSmooth_0 8 rfl rfl)
theorem dX3_goSmooth_9 : decode cX3_goSmooth 9 = .ok (.ireturn, 1) := dk_172 (dk_at dksX3_goSmooth_0 9 rfl rfl)
theorem dX3_goSmooth_10 : decode cX3_goSmooth 10 = .ok (.iconst 0, 1) := dk_3 (dk_at dksX3_goSmooth_0 10 rfl rfl)
theorem dX3_goSmooth_11 : decode cX3_goSmooth 11 = .ok (.istore_n 3, 1) := dk_62 (dk_at dksX3_goSmooth_0 11 rfl rfl)
theorem dX3_goSmooth_12 : decode cX3_goSmooth 12 = .ok (.iload_n 3, 1) := dk_29 (dk_at dksX3_goSmooth_0 12 rfl rfl)
theorem dX3_goSmooth_13 : decode cX3_goSmooth 13 = .ok (.aload_n 0, 1) := dk_42 (dk_at dksX3_goSmooth_0 13 rfl rfl)
theorem dX3_goSmooth_14 : decode cX3_goSmooth 14 = .ok (.getfield 120, 3) := dk_180 0 120 (dk_at dksX3_goSmooth_0 14 rfl rfl)
theorem dX3_goSmooth_17 : decode cX3_goSmooth 17 = .ok (.if_icmp .ge 129, 3) := dk_162 0 129 (dk_at dksX3_goSmooth_0 17 rfl rfl)
theorem dX3_goSmooth_20 : decode cX3_goSmooth 20 = .ok (.aload_n 0, 1) := dk_42 (dk_at dksX3_goSmooth_0 20 rfl rfl)
theorem dX3_goSmooth_21 : decode cX3_goSmooth 21 = .ok (.getfield 67, 3) := dk_180 0 67 (dk_at dksX3_goSmooth_0 21 rfl rfl)
theorem dX3_goSmooth_24 : decode cX3_goSmooth 24 = .ok (.iload_n 3, 1) := dk_29 (dk_at dksX3_goSmooth_1 0 rfl rfl)
theorem dX3_goSmooth_25 : decode cX3_goSmooth 25 = .ok (.iaload, 1) := dk_46 (dk_at dksX3_goSmooth_1 1 rfl rfl)
theorem dX3_goSmooth_26 : decode cX3_goSmooth 26 = .ok (.iload_n 1, 1) := dk_27 (dk_at dksX3_goSmooth_1 2 rfl rfl)
theorem dX3_goSmooth_27 : decode cX3_goSmooth 27 = .ok (.invokestatic 271, 3) := dk_184 1 15 (dk_at dksX3_goSmooth_1 3 rfl rfl)
theorem dX3_goSmooth_30 : decode cX3_goSmooth 30 = .ok (.ifCond .eq 110, 3) := dk_153 0 110 (dk_at dksX3_goSmooth_1 6 rfl rfl)
theorem dX3_goSmooth_33 : decode cX3_goSmooth 33 = .ok (.aload_n 0, 1) := dk_42 (dk_at dksX3_goSmooth_1 9 rfl rfl)
theorem dX3_goSmooth_34 : decode cX3_goSmooth 34 = .ok (.getfield 58, 3) := dk_180 0 58 (dk_at dksX3_goSmooth_1 10 rfl rfl)
theorem dX3_goSmooth_37 : decode cX3_goSmooth 37 = .ok (.iload_n 3, 1) := dk_29 (dk_at dksX3_goSmooth_1 13 rfl rfl)
theorem dX3_goSmooth_38 : decode cX3_goSmooth 38 = .ok (.iaload, 1) := dk_46 (dk_at dksX3_goSmooth_1 14 rfl rfl)
theorem dX3_goSmooth_39 : decode cX3_goSmooth 39 = .ok (.aload_n 0, 1) := dk_42 (dk_at dksX3_goSmooth_1 15 rfl rfl)
theorem dX3_goSmooth_40 : decode cX3_goSmooth 40 = .ok (.getfield 20, 3) := dk_180 0 20 (dk_at dksX3_goSmooth_1 16 rfl rfl)
theorem dX3_goSmooth_43 : decode cX3_goSmooth 43 = .ok (.iload_n 3, 1) := dk_29 (dk_at dksX3_goSmooth_1 19 rfl rfl)
theorem dX3_goSmooth_44 : decode cX3_goSmooth 44 = .ok (.iaload, 1) := dk_46 (dk_at dksX3_goSmooth_1 20 rfl rfl)
theorem dX3_goSmooth_45 : decode cX3_goSmooth 45 = .ok (.if_icmp .ne 6, 3) := dk_160 0 6 (dk_at dksX3_goSmooth_1 21 rfl rfl)
theorem dX3_goSmooth_48 : decode cX3_goSmooth 48 = .ok (.goto 92, 3) := dk_167 0 92 (dk_at dksX3_goSmooth_2 0 rfl rfl)
theorem dX3_goSmooth_51 : decode cX3_goSmooth 51 = .ok (.iload_n 1, 1) := dk_27 (dk_at dksX3_goSmooth_2 3 rfl rfl)
theorem dX3_goSmooth_52 : decode cX3_goSmooth 52 = .ok (.ifCond .ne 7, 3) := dk_154 0 7 (dk_at dksX3_goSmooth_2 4 rfl rfl)
theorem dX3_goSmooth_55 : decode cX3_goSmooth 55 = .ok (.iconst 0, 1) := dk_3 (dk_at dksX3_goSmooth_2 7 rfl rfl)
theorem dX3_goSmooth_56 : decode cX3_goSmooth 56 = .ok (.goto 26, 3) := dk_167 0 26 (dk_at dksX3_goSmooth_2 8 rfl rfl)
theorem dX3_goSmooth_59 : decode cX3_goSmooth 59 = .ok (.aload_n 0, 1) := dk_42 (dk_at dksX3_goSmooth_2 11 rfl rfl)
theorem dX3_goSmooth_60 : decode cX3_goSmooth 60 = .ok (.getfield 23, 3) := dk_180 0 23 (dk_at dksX3_goSmooth_2 12 rfl rfl)
theorem dX3_goSmooth_63 : decode cX3_goSmooth 63 = .ok (.iload_n 3, 1) := dk_29 (dk_at dksX3_goSmooth_2 15 rfl rfl)
theorem dX3_goSmooth_64 : decode cX3_goSmooth 64 = .ok (.iaload, 1) := dk_46 (dk_at dksX3_goSmooth_2 16 rfl rfl)
theorem dX3_goSmooth_65 : decode cX3_goSmooth 65 = .ok (.aload_n 0, 1) := dk_42 (dk_at dksX3_goSmooth_2 17 rfl rfl)
theorem dX3_goSmooth_66 : decode cX3_goSmooth 66 = .ok (.getfield 23, 3) := dk_180 0 23 (dk_at dksX3_goSmooth_2 18 rfl rfl)
theorem dX3_goSmooth_69 : decode cX3_goSmooth 69 = .ok (.aload_n 0, 1) := dk_42 (dk_at dksX3_goSmooth_2 21 rfl rfl)
theorem dX3_goSmooth_70 : decode cX3_goSmooth 70 = .ok (.getfield 92, 3) := dk_180 0 92 (dk_at dksX3_goSmooth_3 0 rfl rfl)
theorem dX3_goSmooth_73 : decode cX3_goSmooth 73 = .ok (.iload_n 1, 1) := dk_27 (dk_at dksX3_goSmooth_3 3 rfl rfl)
theorem dX3_goSmooth_74 : decode cX3_goSmooth 74 = .ok (.iconst 1, 1) := dk_4 (dk_at dksX3_goSmooth_3 4 rfl rfl)
theorem dX3_goSmooth_75 : decode cX3_goSmooth 75 = .ok (.isub, 1) := dk_100 (dk_at dksX3_goSmooth_3 5 rfl rfl)
theorem dX3_goSmooth_76 : decode cX3_goSmooth 76 = .ok (.iaload, 1) := dk_46 (dk_at dksX3_goSmooth_3 6 rfl rfl)
theorem dX3_goSmooth_77 : decode cX3_goSmooth 77 = .ok (.iaload, 1) := dk_46 (dk_at dksX3_goSmooth_3 7 rfl rfl)
theorem dX3_goSmooth_78 : decode cX3_goSmooth 78 = .ok (.isub, 1) := dk_100 (dk_at dksX3_goSmooth_3 8 rfl rfl)
theorem dX3_goSmooth_79 : decode cX3_goSmooth 79 = .ok (.invokestatic 274, 3) := dk_184 1 18 (dk_at dksX3_goSmooth_3 9 rfl rfl)
theorem dX3_goSmooth_82 : decode cX3_goSmooth 82 = .ok (.istore 4, 2) := dk_54 4 (dk_at dksX3_goSmooth_3 12 rfl rfl)
theorem dX3_goSmooth_84 : decode cX3_goSmooth 84 = .ok (.iload 4, 2) := dk_21 4 (dk_at dksX3_goSmooth_3 14 rfl rfl)
theorem dX3_goSmooth_86 : decode cX3_goSmooth 86 = .ok (.iload_n 2, 1) := dk_28 (dk_at dksX3_goSmooth_3 16 rfl rfl)
theorem dX3_goSmooth_87 : decode cX3_goSmooth 87 = .ok (.if_icmp .le 6, 3) := dk_164 0 6 (dk_at dksX3_goSmooth_3 17 rfl rfl)
theorem dX3_goSmooth_90 : decode cX3_goSmooth 90 = .ok (.goto 50, 3) := dk_167 0 50 (dk_at dksX3_goSmooth_3 20 rfl rfl)
theorem dX3_goSmooth_93 : decode cX3_goSmooth 93 = .ok (.aload_n 0, 1) := dk_42 (dk_at dksX3_goSmooth_3 23 rfl rfl)
theorem dX3_goSmooth_94 : decode cX3_goSmooth 94 = .ok (.getfield 92, 3) := dk_180 0 92 (dk_at dksX3_goSmooth_4 0 rfl rfl)
theorem dX3_goSmooth_97 : decode cX3_goSmooth 97 = .ok (.iload_n 1, 1) := dk_27 (dk_at dksX3_goSmooth_4 3 rfl rfl)
theorem dX3_goSmooth_98 : decode cX3_goSmooth 98 = .ok (.iload_n 3, 1) := dk_29 (dk_at dksX3_goSmooth_4 4 rfl rfl)
theorem dX3_goSmooth_99 : decode cX3_goSmooth 99 = .ok (.iastore, 1) := dk_79 (dk_at dksX3_goSmooth_4 5 rfl rfl)
theorem dX3_goSmooth_100 : decode cX3_goSmooth 100 = .ok (.aload_n 0, 1) := dk_42 (dk_at dksX3_goSmooth_4 6 rfl rfl)
theorem dX3_goSmooth_101 : decode cX3_goSmooth 101 = .ok (.getfield 58, 3) := dk_180 0 58 (dk_at dksX3_goSmooth_4 7 rfl rfl)
theorem dX3_goSmooth_104 : decode cX3_goSmooth 104 = .ok (.iload_n 3, 1) := dk_29 (dk_at dksX3_goSmooth_4 10 rfl rfl)
theorem dX3_goSmooth_105 : decode cX3_goSmooth 105 = .ok (.dup2, 1) := dk_92 (dk_at dksX3_goSmooth_4 11 rfl rfl)
theorem dX3_goSmooth_106 : decode cX3_goSmooth 106 = .ok (.iaload, 1) := dk_46 (dk_at dksX3_goSmooth_4 12 rfl rfl)
theorem dX3_goSmooth_107 : decode cX3_goSmooth 107 = .ok (.iconst 1, 1) := dk_4 (dk_at dksX3_goSmooth_4 13 rfl rfl)
theorem dX3_goSmooth_108 : decode cX3_goSmooth 108 = .ok (.iadd, 1) := dk_96 (dk_at dksX3_goSmooth_4 14 rfl rfl)
theorem dX3_goSmooth_109 : decode cX3_goSmooth 109 = .ok (.iastore, 1) := dk_79 (dk_at dksX3_goSmooth_4 15 rfl rfl)
theorem dX3_goSmooth_110 : decode cX3_goSmooth 110 = .ok (.aload_n 0, 1) := dk_42 (dk_at dksX3_goSmooth_4 16 rfl rfl)
theorem dX3_goSmooth_111 : decode cX3_goSmooth 111 = .ok (.iload_n 1, 1) := dk_27 (dk_at dksX3_goSmooth_4 17 rfl rfl)
theorem dX3_goSmooth_112 : decode cX3_goSmooth 112 = .ok (.iconst 1, 1) := dk_4 (dk_at dksX3_goSmooth_4 18 rfl rfl)
theorem dX3_goSmooth_113 : decode cX3_goSmooth 113 = .ok (.iadd, 1) := dk_96 (dk_at dksX3_goSmooth_4 19 rfl rfl)
theorem dX3_goSmooth_114 : decode cX3_goSmooth 114 = .ok (.iload_n 2, 1) := dk_28 (dk_at dksX3_goSmooth_4 20 rfl rfl)
theorem dX3_goSmooth_115 : decode cX3_goSmooth 115 = .ok (.iload 4, 2) := dk_21 4 (dk_at dksX3_goSmooth_4 21 rfl rfl)
theorem dX3_goSmooth_117 : decode cX3_goSmooth 117 = .ok (.isub, 1) := dk_100 (dk_at dksX3_goSmooth_4 23 rfl rfl)
theorem dX3_goSmooth_118 : decode cX3_goSmooth 118 = .ok (.invokevirtual 359, 3) := dk_182 1 103 (dk_at dksX3_goSmooth_5 0 rfl rfl)
theorem dX3_goSmooth_121 : decode cX3_goSmooth 121 = .ok (.istore 5, 2) := dk_54 5 (dk_at dksX3_goSmooth_5 3 rfl rfl)
theorem dX3_goSmooth_123 : decode cX3_goSmooth 123 = .ok (.aload_n 0, 1) := dk_42 (dk_at dksX3_goSmooth_5 5 rfl rfl)
theorem dX3_goSmooth_124 : decode cX3_goSmooth 124 = .ok (.getfield 58, 3) := dk_180 0 58 (dk_at dksX3_goSmooth_5 6 rfl rfl)
theorem dX3_goSmooth_127 : decode cX3_goSmooth 127 = .ok (.iload_n 3, 1) := dk_29 (dk_at dksX3_goSmooth_5 9 rfl rfl)
theorem dX3_goSmooth_128 : decode cX3_goSmooth 128 = .ok (.dup2, 1) := dk_92 (dk_at dksX3_goSmooth_5 10 rfl rfl)
theorem dX3_goSmooth_129 : decode cX3_goSmooth 129 = .ok (.iaload, 1) := dk_46 (dk_at dksX3_goSmooth_5 11 rfl rfl)
theorem dX3_goSmooth_130 : decode cX3_goSmooth 130 = .ok (.iconst 1, 1) := dk_4 (dk_at dksX3_goSmooth_5 12 rfl rfl)
theorem dX3_goSmooth_131 : decode cX3_goSmooth 131 = .ok (.isub, 1) := dk_100 (dk_at dksX3_goSmooth_5 13 rfl rfl)
theorem dX3_goSmooth_132 : decode cX3_goSmooth 132 = .ok (.iastore, 1) := dk_79 (dk_at dksX3_goSmooth_5 14 rfl rfl)
theorem dX3_goSmooth_133 : decode cX3_goSmooth 133 = .ok (.iload 5, 2) := dk_21 5 (dk_at dksX3_goSmooth_5 15 rfl rfl)
theorem dX3_goSmooth_135 : decode cX3_goSmooth 135 = .ok (.ifCond .eq 5, 3) := dk_153 0 5 (dk_at dksX3_goSmooth_5 17 rfl rfl)
theorem dX3_goSmooth_138 : decode cX3_goSmooth 138 = .ok (.iconst 1, 1) := dk_4 (dk_at dksX3_goSmooth_5 20 rfl rfl)
theorem dX3_goSmooth_139 : decode cX3_goSmooth 139 = .ok (.ireturn, 1) := dk_172 (dk_at dksX3_goSmooth_5 21 rfl rfl)
theorem dX3_goSmooth_140 : decode cX3_goSmooth 140 = .ok (.iinc 3 1, 3) := dk_132 3 1 (dk_at dksX3_goSmooth_6 0 rfl rfl)
theorem dX3_goSmooth_143 : decode cX3_goSmooth 143 = .ok (.goto (-131), 3) := dk_167 255 125 (dk_at dksX3_goSmooth_6 3 rfl rfl)
theorem dX3_goSmooth_146 : decode cX3_goSmooth 146 = .ok (.iconst 0, 1) := dk_3 (dk_at dksX3_goSmooth_6 6 rfl rfl)
theorem dX3_goSmooth_147 : decode cX3_goSmooth 147 = .ok (.ireturn, 1) := dk_172 (dk_at dksX3_goSmooth_6 7 rfl rfl)
abbrev cX3_meets : ByteArray := prog_9_method_92_code
def yX3_meets : MethodName := ⟨RX3, "meets", "(III)I"⟩
def dkwX3_meets_5 : List UInt8 := [27, 46, 21, 4, 104, 27, 96, 29, 112, 133, 182, 1, 28, 42, 21, 5, 133, 182, 1, 28, 21, 4, 172]
abbrev dktX3_meets_5 : List UInt8 := dkwX3_meets_5 ++ []
def dkwX3_meets_4 : List UInt8 := [132, 6, 1, 167, 255, 196, 21, 5, 154, 0, 6, 16, 254, 172, 42, 3, 181, 0, 117, 42, 42, 180, 0, 23]
abbrev dktX3_meets_4 : List UInt8 := dkwX3_meets_4 ++ dktX3_meets_5
def dkwX3_meets_3 : List UInt8 := [159, 0, 6, 167, 0, 20, 21, 5, 154, 0, 8, 21, 6, 167, 0, 5, 21, 4, 54, 4, 132, 5, 1]
abbrev dktX3_meets_3 : List UInt8 := dkwX3_meets_3 ++ dktX3_meets_4
def dkwX3_meets_2 : List UInt8 := [27, 46, 21, 6, 104, 27, 96, 29, 112, 42, 180, 0, 23, 28, 46, 21, 6, 104, 28, 96, 29, 112]
abbrev dktX3_meets_2 : List UInt8 := dkwX3_meets_2 ++ dktX3_meets_3
def dkwX3_meets_1 : List UInt8 := [2, 172, 16, 254, 54, 4, 3, 54, 5, 4, 54, 6, 21, 6, 17, 3, 231, 163, 0, 58, 42, 180, 0, 23]
abbrev dktX3_meets_1 : List UInt8 := dkwX3_meets_1 ++ dktX3_meets_2
def dkwX3_meets_0 : List UInt8 := [42, 3, 181, 0, 114, 42, 27, 28, 182, 1, 41, 153, 0, 13, 29, 5, 16, 40, 184, 0, 123, 154, 0, 5]
abbrev dktX3_meets_0 : List UInt8 := dkwX3_meets_0 ++ dktX3_meets_1
theorem dksX3_meets_0 : cX3_meets.data.toList.drop 0 = dktX3_meets_0 := by decide +kernel
theorem dksX3_meets_1 : cX3_meets.data.toList.drop 24 = dktX3_meets_1 := dk_seg dksX3_meets_0 24 rfl rfl
theorem dksX3_meets_2 : cX3_meets.data.toList.drop 48 = dktX3_meets_2 := dk_seg dksX3_meets_1 24 rfl rfl
theorem dksX3_meets_3 : cX3_meets.data.toList.drop 70 = dktX3_meets_3 := dk_seg dksX3_meets_2 22 rfl rfl
theorem dksX3_meets_4 : cX3_meets.data.toList.drop 93 = dktX3_meets_4 := dk_seg dksX3_meets_3 23 rfl rfl
theorem dksX3_meets_5 : cX3_meets.data.toList.drop 117 = dktX3_meets_5 := dk_seg dksX3_meets_4 24 rfl rfl
theorem dX3_meets_0 : decode cX3_meets 0 = .ok (.aload_n 0, 1) := dk_42 (dk_at dksX3_meets_0 0 rfl rfl)
theorem dX3_meets_1 : decode cX3_meets 1 = .ok (.iconst 0, 1) := dk_3 (dk_at dksX3_meets_0 1 rfl rfl)
theorem dX3_meets_2 : decode cX3_meets 2 = .ok (.putfield 114, 3) := dk_181 0 114 (dk_at dksX3_meets_0 2 rfl rfl)
theorem dX3_meets_5 : decode cX3_meets 5 = .ok (.aload_n 0, 1) := dk_42 (dk_at dksX3_meets_0 5 rfl rfl)
theorem dX3_meets_6 : decode cX3_meets 6 = .ok (.iload_n 1, 1) := dk_27 (dk_at dksX3_meets_0 6 rfl rfl)
theorem dX3_meets_7 : decode cX3_meets 7 = .ok (.iload_n 2, 1) := dk_28 (dk_at dksX3_meets_0 7 rfl rfl)
theorem dX3_meets_8 : decode cX3_meets 8 = .ok (.invokevirtual 297, 3) := dk_182 1 41 (dk_at dksX3_meets_0 8 rfl rfl)
theorem dX3_meets_11 : decode cX3_meets 11 = .ok (.ifCond .eq 13, 3) := dk_153 0 13 (dk_at dksX3_meets_0 11 rfl rfl)
theorem dX3_meets_14 : decode cX3_meets 14 = .ok (.iload_n 3, 1) := dk_29 (dk_at dksX3_meets_0 14 rfl rfl)
theorem dX3_meets_15 : decode cX3_meets 15 = .ok (.iconst 2, 1) := dk_5 (dk_at dksX3_meets_0 15 rfl rfl)
theorem dX3_meets_16 : decode cX3_meets 16 = .ok (.bipush 40, 2) := dk_16 40 (dk_at dksX3_meets_0 16 rfl rfl)
theorem dX3_meets_18 : decode cX3_meets 18 = .ok (.invokestatic 123, 3) := dk_184 0 123 (dk_at dksX3_meets_0 18 rfl rfl)
theorem dX3_meets_21 : decode cX3_meets 21 = .ok (.ifCond .ne 5, 3) := dk_154 0 5 (dk_at dksX3_meets_0 21 rfl rfl)
theorem dX3_meets_24 : decode cX3_meets 24 = .ok (.iconst (-1), 1) := dk_2 (dk_at dksX3_meets_1 0 rfl rfl)
theorem dX3_meets_25 : decode cX3_meets 25 = .ok (.ireturn, 1) := dk_172 (dk_at dksX3_meets_1 1 rfl rfl)
theorem dX3_meets_26 : decode cX3_meets 26 = .ok (.bipush (-2), 2) := dk_16 254 (dk_at dksX3_meets_1 2 rfl rfl)
theorem dX3_meets_28 : decode cX3_meets 28 = .ok (.istore 4, 2) := dk_54 4 (dk_at dksX3_meets_1 4 rfl rfl)
theorem dX3_meets_30 : decode cX3_meets 30 = .ok (.iconst 0, 1) := dk_3 (dk_at dksX3_meets_1 6 rfl rfl)
theorem dX3_meets_31 : decode cX3_meets 31 = .ok (.istore 5, 2) := dk_54 5 (dk_at dksX3_meets_1 7 rfl rfl)
theorem dX3_meets_33 : decode cX3_meets 33 = .ok (.iconst 1, 1) := dk_4 (dk_at dksX3_meets_1 9 rfl rfl)
theorem dX3_meets_34 : decode cX3_meets 34 = .ok (.istore 6, 2) := dk_54 6 (dk_at dksX3_meets_1 10 rfl rfl)
theorem dX3_meets_36 : decode cX3_meets 36 = .ok (.iload 6, 2) := dk_21 6 (dk_at dksX3_meets_1 12 rfl rfl)
theorem dX3_meets_38 : decode cX3_meets 38 = .ok (.sipush 999, 3) := dk_17 3 231 (dk_at dksX3_meets_1 14 rfl rfl)
theorem dX3_meets_41 : decode cX3_meets 41 = .ok (.if_icmp .gt 58, 3) := dk_163 0 58 (dk_at dksX3_meets_1 17 rfl rfl)
theorem dX3_meets_44 : decode cX3_meets 44 = .ok (.aload_n 0, 1) := dk_42 (dk_at dksX3_meets_1 20 rfl rfl)
theorem dX3_meets_45 : decode cX3_meets 45 = .ok (.getfield 23, 3) := dk_180 0 23 (dk_at dksX3_meets_1 21 rfl rfl)
theorem dX3_meets_48 : decode cX3_meets 48 = .ok (.iload_n 1, 1) := dk_27 (dk_at dksX3_meets_2 0 rfl rfl)
theorem dX3_meets_49 : decode cX3_meets 49 = .ok (.iaload, 1) := dk_46 (dk_at dksX3_meets_2 1 rfl rfl)
theorem dX3_meets_50 : decode cX3_meets 50 = .ok (.iload 6, 2) := dk_21 6 (dk_at dksX3_meets_2 2 rfl rfl)
theorem dX3_meets_52 : decode cX3_meets 52 = .ok (.imul, 1) := dk_104 (dk_at dksX3_meets_2 4 rfl rfl)
theorem dX3_meets_53 : decode cX3_meets 53 = .ok (.iload_n 1, 1) := dk_27 (dk_at dksX3_meets_2 5 rfl rfl)
theorem dX3_meets_54 : decode cX3_meets 54 = .ok (.iadd, 1) := dk_96 (dk_at dksX3_meets_2 6 rfl rfl)
theorem dX3_meets_55 : decode cX3_meets 55 = .ok (.iload_n 3, 1) := dk_29 (dk_at dksX3_meets_2 7 rfl rfl)
theorem dX3_meets_56 : decode cX3_meets 56 = .ok (.irem, 1) := dk_112 (dk_at dksX3_meets_2 8 rfl rfl)
theorem dX3_meets_57 : decode cX3_meets 57 = .ok (.aload_n 0, 1) := dk_42 (dk_at dksX3_meets_2 9 rfl rfl)
theorem dX3_meets_58 : decode cX3_meets 58 = .ok (.getfield 23, 3) := dk_180 0 23 (dk_at dksX3_meets_2 10 rfl rfl)
theorem dX3_meets_61 : decode cX3_meets 61 = .ok (.iload_n 2, 1) := dk_28 (dk_at dksX3_meets_2 13 rfl rfl)
theorem dX3_meets_62 : decode cX3_meets 62 = .ok (.iaload, 1) := dk_46 (dk_at dksX3_meets_2 14 rfl rfl)
theorem dX3_meets_63 : decode cX3_meets 63 = .ok (.iload 6, 2) := dk_21 6 (dk_at dksX3_meets_2 15 rfl rfl)
theorem dX3_meets_65 : decode cX3_meets 65 = .ok (.imul, 1) := dk_104 (dk_at dksX3_meets_2 17 rfl rfl)
theorem dX3_meets_66 : decode cX3_meets 66 = .ok (.iload_n 2, 1) := dk_28 (dk_at dksX3_meets_2 18 rfl rfl)
theorem dX3_meets_67 : decode cX3_meets 67 = .ok (.iadd, 1) := dk_96 (dk_at dksX3_meets_2 19 rfl rfl)
theorem dX3_meets_68 : decode cX3_meets 68 = .ok (.iload_n 3, 1) := dk_29 (dk_at dksX3_meets_2 20 rfl rfl)
theorem dX3_meets_69 : decode cX3_meets 69 = .ok (.irem, 1) := dk_112 (dk_at dksX3_meets_2 21 rfl rfl)
theorem dX3_meets_70 : decode cX3_meets 70 = .ok (.if_icmp .eq 6, 3) := dk_159 0 6 (dk_at dksX3_meets_3 0 rfl rfl)
theorem dX3_meets_73 : decode cX3_meets 73 = .ok (.goto 20, 3) := dk_167 0 20 (dk_at dksX3_meets_3 3 rfl rfl)
theorem dX3_meets_76 : decode cX3_meets 76 = .ok (.iload 5, 2) := dk_21 5 (dk_at dksX3_meets_3 6 rfl rfl)
theorem dX3_meets_78 : decode cX3_meets 78 = .ok (.ifCond .ne 8, 3) := dk_154 0 8 (dk_at dksX3_meets_3 8 rfl rfl)
theorem dX3_meets_81 : decode cX3_meets 81 = .ok (.iload 6, 2) := dk_21 6 (dk_at dksX3_meets_3 11 rfl rfl)
theorem dX3_meets_83 : decode cX3_meets 83 = .ok (.goto 5, 3) := dk_167 0 5 (dk_at dksX3_meets_3 13 rfl rfl)
theorem dX3_meets_86 : decode cX3_meets 86 = .ok (.iload 4, 2) := dk_21 4 (dk_at dksX3_meets_3 16 rfl rfl)
theorem dX3_meets_88 : decode cX3_meets 88 = .ok (.istore 4, 2) := dk_54 4 (dk_at dksX3_meets_3 18 rfl rfl)
theorem dX3_meets_90 : decode cX3_meets 90 = .ok (.iinc 5 1, 3) := dk_132 5 1 (dk_at dksX3_meets_3 20 rfl rfl)
theorem dX3_meets_93 : decode cX3_meets 93 = .ok (.iinc 6 1, 3) := dk_132 6 1 (dk_at dksX3_meets_4 0 rfl rfl)
theorem dX3_meets_96 : decode cX3_meets 96 = .ok (.goto (-60), 3) := dk_167 255 196 (dk_at dksX3_meets_4 3 rfl rfl)
theorem dX3_meets_99 : decode cX3_meets 99 = .ok (.iload 5, 2) := dk_21 5 (dk_at dksX3_meets_4 6 rfl rfl)
theorem dX3_meets_101 : decode cX3_meets 101 = .ok (.ifCond .ne 6, 3) := dk_154 0 6 (dk_at dksX3_meets_4 8 rfl rfl)
theorem dX3_meets_104 : decode cX3_meets 104 = .ok (.bipush (-2), 2) := dk_16 254 (dk_at dksX3_meets_4 11 rfl rfl)
theorem dX3_meets_106 : decode cX3_meets 106 = .ok (.ireturn, 1) := dk_172 (dk_at dksX3_meets_4 13 rfl rfl)
theorem dX3_meets_107 : decode cX3_meets 107 = .ok (.aload_n 0, 1) := dk_42 (dk_at dksX3_meets_4 14 rfl rfl)
theorem dX3_meets_108 : decode cX3_meets 108 = .ok (.iconst 0, 1) := dk_3 (dk_at dksX3_meets_4 15 rfl rfl)
theorem dX3_meets_109 : decode cX3_meets 109 = .ok (.putfield 117, 3) := dk_181 0 117 (dk_at dksX3_meets_4 16 rfl rfl)
theorem dX3_meets_112 : decode cX3_meets 112 = .ok (.aload_n 0, 1) := dk_42 (dk_at dksX3_meets_4 19 rfl rfl)
theorem dX3_meets_113 : decode cX3_meets 113 = .ok (.aload_n 0, 1) := dk_42 (dk_at dksX3_meets_4 20 rfl rfl)
theorem dX3_meets_114 : decode cX3_meets 114 = .ok (.getfield 23, 3) := dk_180 0 23 (dk_at dksX3_meets_4 21 rfl rfl)
theorem dX3_meets_117 : decode cX3_meets 117 = .ok (.iload_n 1, 1) := dk_27 (dk_at dksX3_meets_5 0 rfl rfl)
theorem dX3_meets_118 : decode cX3_meets 118 = .ok (.iaload, 1) := dk_46 (dk_at dksX3_meets_5 1 rfl rfl)
theorem dX3_meets_119 : decode cX3_meets 119 = .ok (.iload 4, 2) := dk_21 4 (dk_at dksX3_meets_5 2 rfl rfl)
theorem dX3_meets_121 : decode cX3_meets 121 = .ok (.imul, 1) := dk_104 (dk_at dksX3_meets_5 4 rfl rfl)
theorem dX3_meets_122 : decode cX3_meets 122 = .ok (.iload_n 1, 1) := dk_27 (dk_at dksX3_meets_5 5 rfl rfl)
theorem dX3_meets_123 : decode cX3_meets 123 = .ok (.iadd, 1) := dk_96 (dk_at dksX3_meets_5 6 rfl rfl)
theorem dX3_meets_124 : decode cX3_meets 124 = .ok (.iload_n 3, 1) := dk_29 (dk_at dksX3_meets_5 7 rfl rfl)
theorem dX3_meets_125 : decode cX3_meets 125 = .ok (.irem, 1) := dk_112 (dk_at dksX3_meets_5 8 rfl rfl)
theorem dX3_meets_126 : decode cX3_meets 126 = .ok (.i2l, 1) := dk_133 (dk_at dksX3_meets_5 9 rfl rfl)
theorem dX3_meets_127 : decode cX3_meets 127 = .ok (.invokevirtual 284, 3) := dk_182 1 28 (dk_at dksX3_meets_5 10 rfl rfl)
theorem dX3_meets_130 : decode cX3_meets 130 = .ok (.aload_n 0, 1) := dk_42 (dk_at dksX3_meets_5 13 rfl rfl)
theorem dX3_meets_131 : decode cX3_meets 131 = .ok (.iload 5, 2) := dk_21 5 (dk_at dksX3_meets_5 14 rfl rfl)
theorem dX3_meets_133 : decode cX3_meets 133 = .ok (.i2l, 1) := dk_133 (dk_at dksX3_meets_5 16 rfl rfl)
theorem dX3_meets_134 : decode cX3_meets 134 = .ok (.invokevirtual 284, 3) := dk_182 1 28 (dk_at dksX3_meets_5 17 rfl rfl)
theorem dX3_meets_137 : decode cX3_meets 137 = .ok (.iload 4, 2) := dk_21 4 (dk_at dksX3_meets_5 20 rfl rfl)
theorem dX3_meets_139 : decode cX3_meets 139 = .ok (.ireturn, 1) := dk_172 (dk_at dksX3_meets_5 22 rfl rfl)
abbrev cX3_found : ByteArray := prog_9_method_93_code
def yX3_found : MethodName := ⟨RX3, "found", "(III)I"⟩
def dkwX3_found_4 : List UInt8 := [181, 1, 106, 42, 180, 1, 106, 172]
abbrev dktX3_found_4 : List UInt8 := dkwX3_found_4 ++ []
def dkwX3_found_3 : List UInt8 := [180, 1, 106, 120, 2, 130, 126, 29, 42, 180, 1, 106, 120, 128, 181, 1, 109, 42, 89, 180, 1, 106, 4, 96]
abbrev dktX3_found_3 : List UInt8 := dkwX3_found_3 ++ dktX3_found_4
def dkwX3_found_2 : List UInt8 := [180, 1, 106, 27, 79, 42, 180, 0, 102, 42, 180, 1, 106, 28, 79, 42, 42, 180, 1, 109, 4, 42]
abbrev dktX3_found_2 : List UInt8 := dkwX3_found_2 ++ dktX3_found_3
def dkwX3_found_1 : List UInt8 := [184, 0, 123, 153, 0, 12, 42, 180, 1, 106, 16, 12, 160, 0, 5, 2, 172, 42, 180, 0, 99, 42]
abbrev dktX3_found_1 : List UInt8 := dkwX3_found_1 ++ dktX3_found_2
def dkwX3_found_0 : List UInt8 := [42, 3, 181, 0, 114, 27, 184, 0, 242, 153, 0, 29, 42, 28, 182, 0, 127, 153, 0, 21, 29, 3, 4]
abbrev dktX3_found_0 : List UInt8 := dkwX3_found_0 ++ dktX3_found_1
theorem dksX3_found_0 : cX3_found.data.toList.drop 0 = dktX3_found_0 := by decide +kernel
theorem dksX3_found_1 : cX3_found.data.toList.drop 23 = dktX3_found_1 := dk_seg dksX3_found_0 23 rfl rfl
theorem dksX3_found_2 : cX3_found.data.toList.drop 45 = dktX3_found_2 := dk_seg dksX3_found_1 22 rfl rfl
theorem dksX3_found_3 : cX3_found.data.toList.drop 67 = dktX3_found_3 := dk_seg dksX3_found_2 22 rfl rfl
theorem dksX3_found_4 : cX3_found.data.toList.drop 91 = dktX3_found_4 := dk_seg dksX3_found_3 24 rfl rfl
theorem dX3_found_0 : decode cX3_found 0 = .ok (.aload_n 0, 1) := dk_42 (dk_at dksX3_found_0 0 rfl rfl)
theorem dX3_found_1 : decode cX3_found 1 = .ok (.iconst 0, 1) := dk_3 (dk_at dksX3_found_0 1 rfl rfl)
theorem dX3_found_2 : decode cX3_found 2 = .ok (.putfield 114, 3) := dk_181 0 114 (dk_at dksX3_found_0 2 rfl rfl)
theorem dX3_found_5 : decode cX3_found 5 = .ok (.iload_n 1, 1) := dk_27 (dk_at dksX3_found_0 5 rfl rfl)
theorem dX3_found_6 : decode cX3_found 6 = .ok (.invokestatic 242, 3) := dk_184 0 242 (dk_at dksX3_found_0 6 rfl rfl)
theorem dX3_found_9 : decode cX3_found 9 = .ok (.ifCond .eq 29, 3) := dk_153 0 29 (dk_at dksX3_found_0 9 rfl rfl)
theorem dX3_found_12 : decode cX3_found 12 = .ok (.aload_n 0, 1) := dk_42 (dk_at dksX3_found_0 12 rfl rfl)
theorem dX3_found_13 : decode cX3_found 13 = .ok (.iload_n 2, 1) := dk_28 (dk_at dksX3_found_0 13 rfl rfl)
theorem dX3_found_14 : decode cX3_found 14 = .ok (.invokevirtual 127, 3) := dk_182 0 127 (dk_at dksX3_found_0 14 rfl rfl)
theorem dX3_found_17 : decode cX3_found 17 = .ok (.ifCond .eq 21, 3) := dk_153 0 21 (dk_at dksX3_found_0 17 rfl rfl)
theorem dX3_found_20 : decode cX3_found 20 = .ok (.iload_n 3, 1) := dk_29 (dk_at dksX3_found_0 20 rfl rfl)
theorem dX3_found_21 : decode cX3_found 21 = .ok (.iconst 0, 1) := dk_3 (dk_at dksX3_found_0 21 rfl rfl)
theorem dX3_found_22 : decode cX3_found 22 = .ok (.iconst 1, 1) := dk_4 (dk_at dksX3_found_0 22 rfl rfl)
theorem dX3_found_23 : decode cX3_found 23 = .ok (.invokestatic 123, 3) := dk_184 0 123 (dk_at dksX3_found_1 0 rfl rfl)
theorem dX3_found_26 : decode cX3_found 26 = .ok (.ifCond .eq 12, 3) := dk_153 0 12 (dk_at dksX3_found_1 3 rfl rfl)
theorem dX3_found_29 : decode cX3_found 29 = .ok (.aload_n 0, 1) := dk_42 (dk_at dksX3_found_1 6 rfl rfl)
theorem dX3_found_30 : decode cX3_found 30 = .ok (.getfield 362, 3) := dk_180 1 106 (dk_at dksX3_found_1 7 rfl rfl)
theorem dX3_found_33 : decode cX3_found 33 = .ok (.bipush 12, 2) := dk_16 12 (dk_at dksX3_found_1 10 rfl rfl)
theorem dX3_found_35 : decode cX3_found 35 = .ok (.if_icmp .ne 5, 3) := dk_160 0 5 (dk_at dksX3_found_1 12 rfl rfl)
theorem dX3_found_38 : decode cX3_found 38 = .ok (.iconst (-1), 1) := dk_2 (dk_at dksX3_found_1 15 rfl rfl)
theorem dX3_found_39 : decode cX3_found 39 = .ok (.ireturn, 1) := dk_172 (dk_at dksX3_found_1 16 rfl rfl)
theorem dX3_found_40 : decode cX3_found 40 = .ok (.aload_n 0, 1) := dk_42 (dk_at dksX3_found_1 17 rfl rfl)
theorem dX3_found_41 : decode cX3_found 41 = .ok (.getfield 99, 3) := dk_180 0 99 (dk_at dksX3_found_1 18 rfl rfl)
theorem dX3_found_44 : decode cX3_found 44 = .ok (.aload_n 0, 1) := dk_42 (dk_at dksX3_found_1 21 rfl rfl)
theorem dX3_found_45 : decode cX3_found 45 = .ok (.getfield 362, 3) := dk_180 1 106 (dk_at dksX3_found_2 0 rfl rfl)
theorem dX3_found_48 : decode cX3_found 48 = .ok (.iload_n 1, 1) := dk_27 (dk_at dksX3_found_2 3 rfl rfl)
theorem dX3_found_49 : decode cX3_found 49 = .ok (.iastore, 1) := dk_79 (dk_at dksX3_found_2 4 rfl rfl)
theorem dX3_found_50 : decode cX3_found 50 = .ok (.aload_n 0, 1) := dk_42 (dk_at dksX3_found_2 5 rfl rfl)
theorem dX3_found_51 : decode cX3_found 51 = .ok (.getfield 102, 3) := dk_180 0 102 (dk_at dksX3_found_2 6 rfl rfl)
theorem dX3_found_54 : decode cX3_found 54 = .ok (.aload_n 0, 1) := dk_42 (dk_at dksX3_found_2 9 rfl rfl)
theorem dX3_found_55 : decode cX3_found 55 = .ok (.getfield 362, 3) := dk_180 1 106 (dk_at dksX3_found_2 10 rfl rfl)
theorem dX3_found_58 : decode cX3_found 58 = .ok (.iload_n 2, 1) := dk_28 (dk_at dksX3_found_2 13 rfl rfl)
theorem dX3_found_59 : decode cX3_found 59 = .ok (.iastore, 1) := dk_79 (dk_at dksX3_found_2 14 rfl rfl)
theorem dX3_found_60 : decode cX3_found 60 = .ok (.aload_n 0, 1) := dk_42 (dk_at dksX3_found_2 15 rfl rfl)
theorem dX3_found_61 : decode cX3_found 61 = .ok (.aload_n 0, 1) := dk_42 (dk_at dksX3_found_2 16 rfl rfl)
theorem dX3_found_62 : decode cX3_found 62 = .ok (.getfield 365, 3) := dk_180 1 109 (dk_at dksX3_found_2 17 rfl rfl)
theorem dX3_found_65 : decode cX3_found 65 = .ok (.iconst 1, 1) := dk_4 (dk_at dksX3_found_2 20 rfl rfl)
theorem dX3_found_66 : decode cX3_found 66 = .ok (.aload_n 0, 1) := dk_42 (dk_at dksX3_found_2 21 rfl rfl)
theorem dX3_found_67 : decode cX3_found 67 = .ok (.getfield 362, 3) := dk_180 1 106 (dk_at dksX3_found_3 0 rfl rfl)
theorem dX3_found_70 : decode cX3_found 70 = .ok (.ishl, 1) := dk_120 (dk_at dksX3_found_3 3 rfl rfl)
theorem dX3_found_71 : decode cX3_found 71 = .ok (.iconst (-1), 1) := dk_2 (dk_at dksX3_found_3 4 rfl rfl)
theorem dX3_found_72 : decode cX3_found 72 = .ok (.ixor, 1) := dk_130 (dk_at dksX3_found_3 5 rfl rfl)
theorem dX3_found_73 : decode cX3_found 73 = .ok (.iand, 1) := dk_126 (dk_at dksX3_found_3 6 rfl rfl)
theorem dX3_found_74 : decode cX3_found 74 = .ok (.iload_n 3, 1) := dk_29 (dk_at dksX3_found_3 7 rfl rfl)
theorem dX3_found_75 : decode cX3_found 75 = .ok (.aload_n 0, 1) := dk_42 (dk_at dksX3_found_3 8 rfl rfl)
theorem dX3_found_76 : decode cX3_found 76 = .ok (.getfield 362, 3) := dk_180 1 106 (dk_at dksX3_found_3 9 rfl rfl)
theorem dX3_found_79 : decode cX3_found 79 = .ok (.ishl, 1) := dk_120 (dk_at dksX3_found_3 12 rfl rfl)
theorem dX3_found_80 : decode cX3_found 80 = .ok (.ior, 1) := dk_128 (dk_at dksX3_found_3 13 rfl rfl)
theorem dX3_found_81 : decode cX3_found 81 = .ok (.putfield 365, 3) := dk_181 1 109 (dk_at dksX3_found_3 14 rfl rfl)
theorem dX3_found_84 : decode cX3_found 84 = .ok (.aload_n 0, 1) := dk_42 (dk_at dksX3_found_3 17 rfl rfl)
theorem dX3_found_85 : decode cX3_found 85 = .ok (.dup, 1) := dk_89 (dk_at dksX3_found_3 18 rfl rfl)
theorem dX3_found_86 : decode cX3_found 86 = .ok (.getfield 362, 3) := dk_180 1 106 (dk_at dksX3_found_3 19 rfl rfl)
theorem dX3_found_89 : decode cX3_found 89 = .ok (.iconst 1, 1) := dk_4 (dk_at dksX3_found_3 22 rfl rfl)
theorem dX3_found_90 : decode cX3_found 90 = .ok (.iadd, 1) := dk_96 (dk_at dksX3_found_3 23 rfl rfl)
theorem dX3_found_91 : decode cX3_found 91 = .ok (.putfield 362, 3) := dk_181 1 106 (dk_at dksX3_found_4 0 rfl rfl)
theorem dX3_found_94 : decode cX3_found 94 = .ok (.aload_n 0, 1) := dk_42 (dk_at dksX3_found_4 3 rfl rfl)
theorem dX3_found_95 : decode cX3_found 95 = .ok (.getfield 362, 3) := dk_180 1 106 (dk_at dksX3_found_4 4 rfl rfl)
theorem dX3_found_98 : decode cX3_found 98 = .ok (.ireturn, 1) := dk_172 (dk_at dksX3_found_4 7 rfl rfl)
abbrev cX3_forget : ByteArray := prog_9_method_94_code
def yX3_forget : MethodName := ⟨RX3, "forget", "()I"⟩
def dkwX3_forget_0 : List UInt8 := [42, 3, 181, 0, 114, 42, 180, 1, 106, 60, 42, 3, 181, 1, 106, 27, 172]
abbrev dktX3_forget_0 : List UInt8 := dkwX3_forget_0 ++ []
theorem dksX3_forget_0 : cX3_forget.data.toList.drop 0 = dktX3_forget_0 := by decide +kernel
theorem dX3_forget_0 : decode cX3_forget 0 = .ok (.aload_n 0, 1) := dk_42 (dk_at dksX3_forget_0 0 rfl rfl)
theorem dX3_forget_1 : decode cX3_forget 1 = .ok (.iconst 0, 1) := dk_3 (dk_at dksX3_forget_0 1 rfl rfl)
theorem dX3_forget_2 : decode cX3_forget 2 = .ok (.putfield 114, 3) := dk_181 0 114 (dk_at dksX3_forget_0 2 rfl rfl)
theorem dX3_forget_5 : decode cX3_forget 5 = .ok (.aload_n 0, 1) := dk_42 (dk_at dksX3_forget_0 5 rfl rfl)
theorem dX3_forget_6 : decode cX3_forget 6 = .ok (.getfield 362, 3) := dk_180 1 106 (dk_at dksX3_forget_0 6 rfl rfl)
theorem dX3_forget_9 : decode cX3_forget 9 = .ok (.istore_n 1, 1) := dk_60 (dk_at dksX3_forget_0 9 rfl rfl)
theorem dX3_forget_10 : decode cX3_forget 10 = .ok (.aload_n 0, 1) := dk_42 (dk_at dksX3_forget_0 10 rfl rfl)
theorem dX3_forget_11 : decode cX3_forget 11 = .ok (.iconst 0, 1) := dk_3 (dk_at dksX3_forget_0 11 rfl rfl)
theorem dX3_forget_12 : decode cX3_forget 12 = .ok (.putfield 362, 3) := dk_181 1 106 (dk_at dksX3_forget_0 12 rfl rfl)
theorem dX3_forget_15 : decode cX3_forget 15 = .ok (.iload_n 1, 1) := dk_27 (dk_at dksX3_forget_0 15 rfl rfl)
theorem dX3_forget_16 : decode cX3_forget 16 = .ok (.ireturn, 1) := dk_172 (dk_at dksX3_forget_0 16 rfl rfl)
abbrev cX3_fits : ByteArray := prog_9_method_97_code
def yX3_fits : MethodName := ⟨RX3, "fits", "()I"⟩
def dkwX3_fits_1 : List UInt8 := [167, 0, 7, 42, 182, 1, 97, 172]
abbrev dktX3_fits_1 : List UInt8 := dkwX3_fits_1 ++ []
def dkwX3_fits_0 : List UInt8 := [42, 3, 181, 0, 114, 42, 2, 2, 182, 1, 115, 60, 42, 3, 181, 0, 117, 27, 154, 0, 7, 3]
abbrev dktX3_fits_0 : List UInt8 := dkwX3_fits_0 ++ dktX3_fits_1
theorem dksX3_fits_0 : cX3_fits.data.toList.drop 0 = dktX3_fits_0 := by decide +kernel
theorem dksX3_fits_1 : cX3_fits.data.toList.drop 22 = dktX3_fits_1 := dk_seg dksX3_fits_0 22 rfl rfl
theorem dX3_fits_0 : decode cX3_fits 0 = .ok (.aload_n 0, 1) := dk_42 (dk_at dksX3_fits_0 0 rfl rfl)
theorem dX3_fits_1 : decode cX3_fits 1 = .ok (.iconst 0, 1) := dk_3 (dk_at dksX3_fits_0 1 rfl rfl)
theorem dX3_fits_2 : decode cX3_fits 2 = .ok (.putfield 114, 3) := dk_181 0 114 (dk_at dksX3_fits_0 2 rfl rfl)
theorem dX3_fits_5 : decode cX3_fits 5 = .ok (.aload_n 0, 1) := dk_42 (dk_at dksX3_fits_0 5 rfl rfl)
theorem dX3_fits_6 : decode cX3_fits 6 = .ok (.iconst (-1), 1) := dk_2 (dk_at dksX3_fits_0 6 rfl rfl)
theorem dX3_fits_7 : decode cX3_fits 7 = .ok (.iconst (-1), 1) := dk_2 (dk_at dksX3_fits_0 7 rfl rfl)
theorem dX3_fits_8 : decode cX3_fits 8 = .ok (.invokevirtual 371, 3) := dk_182 1 115 (dk_at dksX3_fits_0 8 rfl rfl)
theorem dX3_fits_11 : decode cX3_fits 11 = .ok (.istore_n 1, 1) := dk_60 (dk_at dksX3_fits_0 11 rfl rfl)
theorem dX3_fits_12 : decode cX3_fits 12 = .ok (.aload_n 0, 1) := dk_42 (dk_at dksX3_fits_0 12 rfl rfl)
theorem dX3_fits_13 : decode cX3_fits 13 = .ok (.iconst 0, 1) := dk_3 (dk_at dksX3_fits_0 13 rfl rfl)
theorem dX3_fits_14 : decode cX3_fits 14 = .ok (.putfield 117, 3) := dk_181 0 117 (dk_at dksX3_fits_0 14 rfl rfl)
theorem dX3_fits_17 : decode cX3_fits 17 = .ok (.iload_n 1, 1) := dk_27 (dk_at dksX3_fits_0 17 rfl rfl)
theorem dX3_fits_18 : decode cX3_fits 18 = .ok (.ifCond .ne 7, 3) := dk_154 0 7 (dk_at dksX3_fits_0 18 rfl rfl)
theorem dX3_fits_21 : decode cX3_fits 21 = .ok (.iconst 0, 1) := dk_3 (dk_at dksX3_fits_0 21 rfl rfl)
theorem dX3_fits_22 : decode cX3_fits 22 = .ok (.goto 7, 3) := dk_167 0 7 (dk_at dksX3_fits_1 0 rfl rfl)
theorem dX3_fits_25 : decode cX3_fits 25 = .ok (.aload_n 0, 1) := dk_42 (dk_at dksX3_fits_1 3 rfl rfl)
theorem dX3_fits_26 : decode cX3_fits 26 = .ok (.invokevirtual 353, 3) := dk_182 1 97 (dk_at dksX3_fits_1 4 rfl rfl)
theorem dX3_fits_29 : decode cX3_fits 29 = .ok (.ireturn, 1) := dk_172 (dk_at dksX3_fits_1 7 rfl rfl)
abbrev cX3_fitting : ByteArray := prog_9_method_96_code
def yX3_fitting : MethodName := ⟨RX3, "fitting", "(II)I"⟩
def dkwX3_fitting_1 : List UInt8 := [162, 0, 19, 42, 29, 182, 1, 70, 154, 0, 5, 3, 172, 132, 3, 1, 167, 255, 235, 42, 182, 1, 94, 172]
abbrev dktX3_fitting_1 : List UInt8 := dkwX3_fitting_1 ++ []
def dkwX3_fitting_0 : List UInt8 := [42, 182, 1, 112, 27, 2, 159, 0, 9, 42, 27, 28, 182, 1, 67, 3, 62, 29, 42, 180, 0, 120]
abbrev dktX3_fitting_0 : List UInt8 := dkwX3_fitting_0 ++ dktX3_fitting_1
theorem dksX3_fitting_0 : cX3_fitting.data.toList.drop 0 = dktX3_fitting_0 := by decide +kernel
theorem dksX3_fitting_1 : cX3_fitting.data.toList.drop 22 = dktX3_fitting_1 := dk_seg dksX3_fitting_0 22 rfl rfl
theorem dX3_fitting_0 : decode cX3_fitting 0 = .ok (.aload_n 0, 1) := dk_42 (dk_at dksX3_fitting_0 0 rfl rfl)
theorem dX3_fitting_1 : decode cX3_fitting 1 = .ok (.invokevirtual 368, 3) := dk_182 1 112 (dk_at dksX3_fitting_0 1 rfl rfl)
theorem dX3_fitting_4 : decode cX3_fitting 4 = .ok (.iload_n 1, 1) := dk_27 (dk_at dksX3_fitting_0 4 rfl rfl)
theorem dX3_fitting_5 : decode cX3_fitting 5 = .ok (.iconst (-1), 1) := dk_2 (dk_at dksX3_fitting_0 5 rfl rfl)
theorem dX3_fitting_6 : decode cX3_fitting 6 = .ok (.if_icmp .eq 9, 3) := dk_159 0 9 (dk_at dksX3_fitting_0 6 rfl rfl)
theorem dX3_fitting_9 : decode cX3_fitting 9 = .ok (.aload_n 0, 1) := dk_42 (dk_at dksX3_fitting_0 9 rfl rfl)
theorem dX3_fitting_10 : decode cX3_fitting 10 = .ok (.iload_n 1, 1) := dk_27 (dk_at dksX3_fitting_0 10 rfl rfl)
theorem dX3_fitting_11 : decode cX3_fitting 11 = .ok (.iload_n 2, 1) := dk_28 (dk_at dksX3_fitting_0 11 rfl rfl)
theorem dX3_fitting_12 : decode cX3_fitting 12 = .ok (.invokevirtual 323, 3) := dk_182 1 67 (dk_at dksX3_fitting_0 12 rfl rfl)
theorem dX3_fitting_15 : decode cX3_fitting 15 = .ok (.iconst 0, 1) := dk_3 (dk_at dksX3_fitting_0 15 rfl rfl)
theorem dX3_fitting_16 : decode cX3_fitting 16 = .ok (.istore_n 3, 1) := dk_62 (dk_at dksX3_fitting_0 16 rfl rfl)
theorem dX3_fitting_17 : decode cX3_fitting 17 = .ok (.iload_n 3, 1) := dk_29 (dk_at dksX3_fitting_0 17 rfl rfl)
theorem dX3_fitting_18 : decode cX3_fitting 18 = .ok (.aload_n 0, 1) := dk_42 (dk_at dksX3_fitting_0 18 rfl rfl)
theorem dX3_fitting_19 : decode cX3_fitting 19 = .ok (.getfield 120, 3) := dk_180 0 120 (dk_at dksX3_fitting_0 19 rfl rfl)
theorem dX3_fitting_22 : decode cX3_fitting 22 = .ok (.if_icmp .ge 19, 3) := dk_162 0 19 (dk_at dksX3_fitting_1 0 rfl rfl)
theorem dX3_fitting_25 : decode cX3_fitting 25 = .ok (.aload_n 0, 1) := dk_42 (dk_at dksX3_fitting_1 3 rfl rfl)
theorem dX3_fitting_26 : decode cX3_fitting 26 = .ok (.iload_n 3, 1) := dk_29 (dk_at dksX3_fitting_1 4 rfl rfl)
theorem dX3_fitting_27 : decode cX3_fitting 27 = .ok (.invokevirtual 326, 3) := dk_182 1 70 (dk_at dksX3_fitting_1 5 rfl rfl)
theorem dX3_fitting_30 : decode cX3_fitting 30 = .ok (.ifCond .ne 5, 3) := dk_154 0 5 (dk_at dksX3_fitting_1 8 rfl rfl)
theorem dX3_fitting_33 : decode cX3_fitting 33 = .ok (.iconst 0, 1) := dk_3 (dk_at dksX3_fitting_1 11 rfl rfl)
theorem dX3_fitting_34 : decode cX3_fitting 34 = .ok (.ireturn, 1) := dk_172 (dk_at dksX3_fitting_1 12 rfl rfl)
theorem dX3_fitting_35 : decode cX3_fitting 35 = .ok (.iinc 3 1, 3) := dk_132 3 1 (dk_at dksX3_fitting_1 13 rfl rfl)
theorem dX3_fitting_38 : decode cX3_fitting 38 = .ok (.goto (-21), 3) := dk_167 255 235 (dk_at dksX3_fitting_1 16 rfl rfl)
theorem dX3_fitting_41 : decode cX3_fitting 41 = .ok (.aload_n 0, 1) := dk_42 (dk_at dksX3_fitting_1 19 rfl rfl)
theorem dX3_fitting_42 : decode cX3_fitting 42 = .ok (.invokevirtual 350, 3) := dk_182 1 94 (dk_at dksX3_fitting_1 20 rfl rfl)
theorem dX3_fitting_45 : decode cX3_fitting 45 = .ok (.ireturn, 1) := dk_172 (dk_at dksX3_fitting_1 23 rfl rfl)
abbrev cX3_layFound : ByteArray := prog_9_method_95_code
def yX3_layFound : MethodName := ⟨RX3, "layFound", "()V"⟩
def dkwX3_layFound_4 : List UInt8 := [167, 255, 175, 177]
abbrev dktX3_layFound_4 : List UInt8 := dkwX3_layFound_4 ++ []
def dkwX3_layFound_3 : List UInt8 := [180, 0, 102, 27, 46, 92, 46, 4, 42, 180, 0, 99, 27, 46, 120, 2, 130, 126, 79, 132, 1, 1]
abbrev dktX3_layFound_3 : List UInt8 := dkwX3_layFound_3 ++ dktX3_layFound_4
def dkwX3_layFound_2 : List UInt8 := [180, 0, 99, 27, 46, 42, 180, 0, 102, 27, 46, 182, 1, 67, 167, 0, 27, 42, 180, 0, 67, 42]
abbrev dktX3_layFound_2 : List UInt8 := dkwX3_layFound_2 ++ dktX3_layFound_3
def dkwX3_layFound_1 : List UInt8 := [180, 0, 13, 161, 0, 6, 167, 0, 57, 42, 180, 1, 109, 27, 184, 1, 15, 153, 0, 22, 42, 42]
abbrev dktX3_layFound_1 : List UInt8 := dkwX3_layFound_1 ++ dktX3_layFound_2
def dkwX3_layFound_0 : List UInt8 := [42, 2, 182, 1, 79, 3, 60, 27, 42, 180, 1, 106, 162, 0, 79, 42, 180, 0, 99, 27, 46, 42]
abbrev dktX3_layFound_0 : List UInt8 := dkwX3_layFound_0 ++ dktX3_layFound_1
theorem dksX3_layFound_0 : cX3_layFound.data.toList.drop 0 = dktX3_layFound_0 := by decide +kernel
theorem dksX3_layFound_1 : cX3_layFound.data.toList.drop 22 = dktX3_layFound_1 := dk_seg dksX3_layFound_0 22 rfl rfl
theorem dksX3_layFound_2 : cX3_layFound.data.toList.drop 44 = dktX3_layFound_2 := dk_seg dksX3_layFound_1 22 rfl rfl
theorem dksX3_layFound_3 : cX3_layFound.data.toList.drop 66 = dktX3_layFound_3 := dk_seg dksX3_layFound_2 22 rfl rfl
theorem dksX3_layFound_4 : cX3_layFound.data.toList.drop 88 = dktX3_layFound_4 := dk_seg dksX3_layFound_3 22 rfl rfl
theorem dX3_layFound_0 : decode cX3_layFound 0 = .ok (.aload_n 0, 1) := dk_42 (dk_at dksX3_layFound_0 0 rfl rfl)
theorem dX3_layFound_1 : decode cX3_layFound 1 = .ok (.iconst (-1), 1) := dk_2 (dk_at dksX3_layFound_0 1 rfl rfl)
theorem dX3_layFound_2 : decode cX3_layFound 2 = .ok (.invokevirtual 335, 3) := dk_182 1 79 (dk_at dksX3_layFound_0 2 rfl rfl)
theorem dX3_layFound_5 : decode cX3_layFound 5 = .ok (.iconst 0, 1) := dk_3 (dk_at dksX3_layFound_0 5 rfl rfl)
theorem dX3_layFound_6 : decode cX3_layFound 6 = .ok (.istore_n 1, 1) := dk_60 (dk_at dksX3_layFound_0 6 rfl rfl)
theorem dX3_layFound_7 : decode cX3_layFound 7 = .ok (.iload_n 1, 1) := dk_27 (dk_at dksX3_layFound_0 7 rfl rfl)
theorem dX3_layFound_8 : decode cX3_layFound 8 = .ok (.aload_n 0, 1) := dk_42 (dk_at dksX3_layFound_0 8 rfl rfl)
theorem dX3_layFound_9 : decode cX3_layFound 9 = .ok (.getfield 362, 3) := dk_180 1 106 (dk_at dksX3_layFound_0 9 rfl rfl)
theorem dX3_layFound_12 : decode cX3_layFound 12 = .ok (.if_icmp .ge 79, 3) := dk_162 0 79 (dk_at dksX3_layFound_0 12 rfl rfl)
theorem dX3_layFound_15 : decode cX3_layFound 15 = .ok (.aload_n 0, 1) := dk_42 (dk_at dksX3_layFound_0 15 rfl rfl)
theorem dX3_layFound_16 : decode cX3_layFound 16 = .ok (.getfield 99, 3) := dk_180 0 99 (dk_at dksX3_layFound_0 16 rfl rfl)
theorem dX3_layFound_19 : decode cX3_layFound 19 = .ok (.iload_n 1, 1) := dk_27 (dk_at dksX3_layFound_0 19 rfl rfl)
theorem dX3_layFound_20 : decode cX3_layFound 20 = .ok (.iaload, 1) := dk_46 (dk_at dksX3_layFound_0 20 rfl rfl)
theorem dX3_layFound_21 : decode cX3_layFound 21 = .ok (.aload_n 0, 1) := dk_42 (dk_at dksX3_layFound_0 21 rfl rfl)
theorem dX3_layFound_22 : decode cX3_layFound 22 = .ok (.getfield 13, 3) := dk_180 0 13 (dk_at dksX3_layFound_1 0 rfl rfl)
theorem dX3_layFound_25 : decode cX3_layFound 25 = .ok (.if_icmp .lt 6, 3) := dk_161 0 6 (dk_at dksX3_layFound_1 3 rfl rfl)
theorem dX3_layFound_28 : decode cX3_layFound 28 = .ok (.goto 57, 3) := dk_167 0 57 (dk_at dksX3_layFound_1 6 rfl rfl)
theorem dX3_layFound_31 : decode cX3_layFound 31 = .ok (.aload_n 0, 1) := dk_42 (dk_at dksX3_layFound_1 9 rfl rfl)
theorem dX3_layFound_32 : decode cX3_layFound 32 = .ok (.getfield 365, 3) := dk_180 1 109 (dk_at dksX3_layFound_1 10 rfl rfl)
theorem dX3_layFound_35 : decode cX3_layFound 35 = .ok (.iload_n 1, 1) := dk_27 (dk_at dksX3_layFound_1 13 rfl rfl)
theorem dX3_layFound_36 : decode cX3_layFound 36 = .ok (.invokestatic 271, 3) := dk_184 1 15 (dk_at dksX3_layFound_1 14 rfl rfl)
theorem dX3_layFound_39 : decode cX3_layFound 39 = .ok (.ifCond .eq 22, 3) := dk_153 0 22 (dk_at dksX3_layFound_1 17 rfl rfl)
theorem dX3_layFound_42 : decode cX3_layFound 42 = .ok (.aload_n 0, 1) := dk_42 (dk_at dksX3_layFound_1 20 rfl rfl)
theorem dX3_layFound_43 : decode cX3_layFound 43 = .ok (.aload_n 0, 1) := dk_42 (dk_at dksX3_layFound_1 21 rfl rfl)
theorem dX3_layFound_44 : decode cX3_layFound 44 = .ok (.getfield 99, 3) := dk_180 0 99 (dk_at dksX3_layFound_2 0 rfl rfl)
theorem dX3_layFound_47 : decode cX3_layFound 47 = .ok (.iload_n 1, 1) := dk_27 (dk_at dksX3_layFound_2 3 rfl rfl)
theorem dX3_layFound_48 : decode cX3_layFound 48 = .ok (.iaload, 1) := dk_46 (dk_at dksX3_layFound_2 4 rfl rfl)
theorem dX3_layFound_49 : decode cX3_layFound 49 = .ok (.aload_n 0, 1) := dk_42 (dk_at dksX3_layFound_2 5 rfl rfl)
theorem dX3_layFound_50 : decode cX3_layFound 50 = .ok (.getfield 102, 3) := dk_180 0 102 (dk_at dksX3_layFound_2 6 rfl rfl)
theorem dX3_layFound_53 : decode cX3_layFound 53 = .ok (.iload_n 1, 1) := dk_27 (dk_at dksX3_layFound_2 9 rfl rfl)
theorem dX3_layFound_54 : decode cX3_layFound 54 = .ok (.iaload, 1) := dk_46 (dk_at dksX3_layFound_2 10 rfl rfl)
theorem dX3_layFound_55 : decode cX3_layFound 55 = .ok (.invokevirtual 323, 3) := dk_182 1 67 (dk_at dksX3_layFound_2 11 rfl rfl)
theorem dX3_layFound_58 : decode cX3_layFound 58 = .ok (.goto 27, 3) := dk_167 0 27 (dk_at dksX3_layFound_2 14 rfl rfl)
theorem dX3_layFound_61 : decode cX3_layFound 61 = .ok (.aload_n 0, 1) := dk_42 (dk_at dksX3_layFound_2 17 rfl rfl)
theorem dX3_layFound_62 : decode cX3_layFound 62 = .ok (.getfield 67, 3) := dk_180 0 67 (dk_at dksX3_layFound_2 18 rfl rfl)
theorem dX3_layFound_65 : decode cX3_layFound 65 = .ok (.aload_n 0, 1) := dk_42 (dk_at dksX3_layFound_2 21 rfl rfl)
theorem dX3_layFound_66 : decode cX3_layFound 66 = .ok (.getfield 102, 3) := dk_180 0 102 (dk_at dksX3_layFound_3 0 rfl rfl)
theorem dX3_layFound_69 : decode cX3_layFound 69 = .ok (.iload_n 1, 1) := dk_27 (dk_at dksX3_layFound_3 3 rfl rfl)
theorem dX3_layFound_70 : decode cX3_layFound 70 = .ok (.iaload, 1) := dk_46 (dk_at dksX3_layFound_3 4 rfl rfl)
theorem dX3_layFound_71 : decode cX3_layFound 71 = .ok (.dup2, 1) := dk_92 (dk_at dksX3_layFound_3 5 rfl rfl)
theorem dX3_layFound_72 : decode cX3_layFound 72 = .ok (.iaload, 1) := dk_46 (dk_at dksX3_layFound_3 6 rfl rfl)
theorem dX3_layFound_73 : decode cX3_layFound 73 = .ok (.iconst 1, 1) := dk_4 (dk_at dksX3_layFound_3 7 rfl rfl)
theorem dX3_layFound_74 : decode cX3_layFound 74 = .ok (.aload_n 0, 1) := dk_42 (dk_at dksX3_layFound_3 8 rfl rfl)
theorem dX3_layFound_75 : decode cX3_layFound 75 = .ok (.getfield 99, 3) := dk_180 0 99 (dk_at dksX3_layFound_3 9 rfl rfl)
theorem dX3_layFound_78 : decode cX3_layFound 78 = .ok (.iload_n 1, 1) := dk_27 (dk_at dksX3_layFound_3 12 rfl rfl)
theorem dX3_layFound_79 : decode cX3_layFound 79 = .ok (.iaload, 1) := dk_46 (dk_at dksX3_layFound_3 13 rfl rfl)
theorem dX3_layFound_80 : decode cX3_layFound 80 = .ok (.ishl, 1) := dk_120 (dk_at dksX3_layFound_3 14 rfl rfl)
theorem dX3_layFound_81 : decode cX3_layFound 81 = .ok (.iconst (-1), 1) := dk_2 (dk_at dksX3_layFound_3 15 rfl rfl)
theorem dX3_layFound_82 : decode cX3_layFound 82 = .ok (.ixor, 1) := dk_130 (dk_at dksX3_layFound_3 16 rfl rfl)
theorem dX3_layFound_83 : decode cX3_layFound 83 = .ok (.iand, 1) := dk_126 (dk_at dksX3_layFound_3 17 rfl rfl)
theorem dX3_layFound_84 : decode cX3_layFound 84 = .ok (.iastore, 1) := dk_79 (dk_at dksX3_layFound_3 18 rfl rfl)
theorem dX3_layFound_85 : decode cX3_layFound 85 = .ok (.iinc 1 1, 3) := dk_132 1 1 (dk_at dksX3_layFound_3 19 rfl rfl)
theorem dX3_layFound_88 : decode cX3_layFound 88 = .ok (.goto (-81), 3) := dk_167 255 175 (dk_at dksX3_layFound_4 0 rfl rfl)
theorem dX3_layFound_91 : decode cX3_layFound 91 = .ok (.return_, 1) := dk_177 (dk_at dksX3_layFound_4 3 rfl rfl)
abbrev cX3_sure : ByteArray := prog_9_method_100_code
def yX3_sure : MethodName := ⟨RX3, "sure", "(II)I"⟩
def dkwX3_sure_2 : List UInt8 := [182, 1, 115, 54, 4, 42, 21, 4, 133, 29, 133, 182, 1, 122, 21, 4, 172]
abbrev dktX3_sure_2 : List UInt8 := dkwX3_sure_2 ++ []
def dkwX3_sure_1 : List UInt8 := [154, 0, 5, 2, 172, 42, 2, 2, 182, 1, 115, 62, 29, 154, 0, 6, 16, 254, 172, 42, 27, 28]
abbrev dktX3_sure_1 : List UInt8 := dkwX3_sure_1 ++ dktX3_sure_2
def dkwX3_sure_0 : List UInt8 := [42, 3, 181, 0, 114, 27, 3, 42, 180, 0, 13, 4, 100, 184, 0, 123, 153, 0, 11, 42, 28, 182, 0, 127]
abbrev dktX3_sure_0 : List UInt8 := dkwX3_sure_0 ++ dktX3_sure_1
theorem dksX3_sure_0 : cX3_sure.data.toList.drop 0 = dktX3_sure_0 := by decide +kernel
theorem dksX3_sure_1 : cX3_sure.data.toList.drop 24 = dktX3_sure_1 := dk_seg dksX3_sure_0 24 rfl rfl
theorem dksX3_sure_2 : cX3_sure.data.toList.drop 46 = dktX3_sure_2 := dk_seg dksX3_sure_1 22 rfl rfl
theorem dX3_sure_0 : decode cX3_sure 0 = .ok (.aload_n 0, 1) := dk_42 (dk_at dksX3_sure_0 0 rfl rfl)
theorem dX3_sure_1 : decode cX3_sure 1 = .ok (.iconst 0, 1) := dk_3 (dk_at dksX3_sure_0 1 rfl rfl)
theorem dX3_sure_2 : decode cX3_sure 2 = .ok (.putfield 114, 3) := dk_181 0 114 (dk_at dksX3_sure_0 2 rfl rfl)
theorem dX3_sure_5 : decode cX3_sure 5 = .ok (.iload_n 1, 1) := dk_27 (dk_at dksX3_sure_0 5 rfl rfl)
theorem dX3_sure_6 : decode cX3_sure 6 = .ok (.iconst 0, 1) := dk_3 (dk_at dksX3_sure_0 6 rfl rfl)
theorem dX3_sure_7 : decode cX3_sure 7 = .ok (.aload_n 0, 1) := dk_42 (dk_at dksX3_sure_0 7 rfl rfl)
theorem dX3_sure_8 : decode cX3_sure 8 = .ok (.getfield 13, 3) := dk_180 0 13 (dk_at dksX3_sure_0 8 rfl rfl)
theorem dX3_sure_11 : decode cX3_sure 11 = .ok (.iconst 1, 1) := dk_4 (dk_at dksX3_sure_0 11 rfl rfl)
theorem dX3_sure_12 : decode cX3_sure 12 = .ok (.isub, 1) := dk_100 (dk_at dksX3_sure_0 12 rfl rfl)
theorem dX3_sure_13 : decode cX3_sure 13 = .ok (.invokestatic 123, 3) := dk_184 0 123 (dk_at dksX3_sure_0 13 rfl rfl)
theorem dX3_sure_16 : decode cX3_sure 16 = .ok (.ifCond .eq 11, 3) := dk_153 0 11 (dk_at dksX3_sure_0 16 rfl rfl)
theorem dX3_sure_19 : decode cX3_sure 19 = .ok (.aload_n 0, 1) := dk_42 (dk_at dksX3_sure_0 19 rfl rfl)
theorem dX3_sure_20 : decode cX3_sure 20 = .ok (.iload_n 2, 1) := dk_28 (dk_at dksX3_sure_0 20 rfl rfl)
theorem dX3_sure_21 : decode cX3_sure 21 = .ok (.invokevirtual 127, 3) := dk_182 0 127 (dk_at dksX3_sure_0 21 rfl rfl)
theorem dX3_sure_24 : decode cX3_sure 24 = .ok (.ifCond .ne 5, 3) := dk_154 0 5 (dk_at dksX3_sure_1 0 rfl rfl)
theorem dX3_sure_27 : decode cX3_sure 27 = .ok (.iconst (-1), 1) := dk_2 (dk_at dksX3_sure_1 3 rfl rfl)
theorem dX3_sure_28 : decode cX3_sure 28 = .ok (.ireturn, 1) := dk_172 (dk_at dksX3_sure_1 4 rfl rfl)
theorem dX3_sure_29 : decode cX3_sure 29 = .ok (.aload_n 0, 1) := dk_42 (dk_at dksX3_sure_1 5 rfl rfl)
theorem dX3_sure_30 : decode cX3_sure 30 = .ok (.iconst (-1), 1) := dk_2 (dk_at dksX3_sure_1 6 rfl rfl)
theorem dX3_sure_31 : decode cX3_sure 31 = .ok (.iconst (-1), 1) := dk_2 (dk_at dksX3_sure_1 7 rfl rfl)
theorem dX3_sure_32 : decode cX3_sure 32 = .ok (.invokevirtual 371, 3) := dk_182 1 115 (dk_at dksX3_sure_1 8 rfl rfl)
theorem dX3_sure_35 : decode cX3_sure 35 = .ok (.istore_n 3, 1) := dk_62 (dk_at dksX3_sure_1 11 rfl rfl)
theorem dX3_sure_36 : decode cX3_sure 36 = .ok (.iload_n 3, 1) := dk_29 (dk_at dksX3_sure_1 12 rfl rfl)
theorem dX3_sure_37 : decode cX3_sure 37 = .ok (.ifCond .ne 6, 3) := dk_154 0 6 (dk_at dksX3_sure_1 13 rfl rfl)
theorem dX3_sure_40 : decode cX3_sure 40 = .ok (.bipush (-2), 2) := dk_16 254 (dk_at dksX3_sure_1 16 rfl rfl)
theorem dX3_sure_42 : decode cX3_sure 42 = .ok (.ireturn, 1) := dk_172 (dk_at dksX3_sure_1 18 rfl rfl)
theorem dX3_sure_43 : decode cX3_sure 43 = .ok (.aload_n 0, 1) := dk_42 (dk_at dksX3_sure_1 19 rfl rfl)
theorem dX3_sure_44 : decode cX3_sure 44 = .ok (.iload_n 1, 1) := dk_27 (dk_at dksX3_sure_1 20 rfl rfl)
theorem dX3_sure_45 : decode cX3_sure 45 = .ok (.iload_n 2, 1) := dk_28 (dk_at dksX3_sure_1 21 rfl rfl)
theorem dX3_sure_46 : decode cX3_sure 46 = .ok (.invokevirtual 371, 3) := dk_182 1 115 (dk_at dksX3_sure_2 0 rfl rfl)
theorem dX3_sure_49 : decode cX3_sure 49 = .ok (.istore 4, 2) := dk_54 4 (dk_at dksX3_sure_2 3 rfl rfl)
theorem dX3_sure_51 : decode cX3_sure 51 = .ok (.aload_n 0, 1) := dk_42 (dk_at dksX3_sure_2 5 rfl rfl)
theorem dX3_sure_52 : decode cX3_sure 52 = .ok (.iload 4, 2) := dk_21 4 (dk_at dksX3_sure_2 6 rfl rfl)
theorem dX3_sure_54 : decode cX3_sure 54 = .ok (.i2l, 1) := dk_133 (dk_at dksX3_sure_2 8 rfl rfl)
theorem dX3_sure_55 : decode cX3_sure 55 = .ok (.iload_n 3, 1) := dk_29 (dk_at dksX3_sure_2 9 rfl rfl)
theorem dX3_sure_56 : decode cX3_sure 56 = .ok (.i2l, 1) := dk_133 (dk_at dksX3_sure_2 10 rfl rfl)
theorem dX3_sure_57 : decode cX3_sure 57 = .ok (.invokevirtual 378, 3) := dk_182 1 122 (dk_at dksX3_sure_2 11 rfl rfl)
theorem dX3_sure_60 : decode cX3_sure 60 = .ok (.iload 4, 2) := dk_21 4 (dk_at dksX3_sure_2 14 rfl rfl)
theorem dX3_sure_62 : decode cX3_sure 62 = .ok (.ireturn, 1) := dk_172 (dk_at dksX3_sure_2 16 rfl rfl)
abbrev cX3_tellPart : ByteArray := prog_9_method_99_code
def yX3_tellPart : MethodName := ⟨RX3, "tellPart", "(JJ)V"⟩
def dkwX3_tellPart_1 : List UInt8 := [109, 182, 1, 28, 177]
abbrev dktX3_tellPart_1 : List UInt8 := dkwX3_tellPart_1 ++ []
def dkwX3_tellPart_0 : List UInt8 := [31, 33, 184, 1, 118, 55, 5, 42, 3, 181, 0, 117, 42, 31, 22, 5, 109, 182, 1, 28, 42, 33, 22, 5]
abbrev dktX3_tellPart_0 : List UInt8 := dkwX3_tellPart_0 ++ dktX3_tellPart_1
theorem dksX3_tellPart_0 : cX3_tellPart.data.toList.drop 0 = dktX3_tellPart_0 := by decide +kernel
theorem dksX3_tellPart_1 : cX3_tellPart.data.toList.drop 24 = dktX3_tellPart_1 := dk_seg dksX3_tellPart_0 24 rfl rfl
theorem dX3_tellPart_0 : decode cX3_tellPart 0 = .ok (.lload_n 1, 1) := dk_31 (dk_at dksX3_tellPart_0 0 rfl rfl)
theorem dX3_tellPart_1 : decode cX3_tellPart 1 = .ok (.lload_n 3, 1) := dk_33 (dk_at dksX3_tellPart_0 1 rfl rfl)
theorem dX3_tellPart_2 : decode cX3_tellPart 2 = .ok (.invokestatic 374, 3) := dk_184 1 118 (dk_at dksX3_tellPart_0 2 rfl rfl)
theorem dX3_tellPart_5 : decode cX3_tellPart 5 = .ok (.lstore 5, 2) := dk_55 5 (dk_at dksX3_tellPart_0 5 rfl rfl)
theorem dX3_tellPart_7 : decode cX3_tellPart 7 = .ok (.aload_n 0, 1) := dk_42 (dk_at dksX3_tellPart_0 7 rfl rfl)
theorem dX3_tellPart_8 : decode cX3_tellPart 8 = .ok (.iconst 0, 1) := dk_3 (dk_at dksX3_tellPart_0 8 rfl rfl)
theorem dX3_tellPart_9 : decode cX3_tellPart 9 = .ok (.putfield 117, 3) := dk_181 0 117 (dk_at dksX3_tellPart_0 9 rfl rfl)
theorem dX3_tellPart_12 : decode cX3_tellPart 12 = .ok (.aload_n 0, 1) := dk_42 (dk_at dksX3_tellPart_0 12 rfl rfl)
theorem dX3_tellPart_13 : decode cX3_tellPart 13 = .ok (.lload_n 1, 1) := dk_31 (dk_at dksX3_tellPart_0 13 rfl rfl)
theorem dX3_tellPart_14 : decode cX3_tellPart 14 = .ok (.lload 5, 2) := dk_22 5 (dk_at dksX3_tellPart_0 14 rfl rfl)
theorem dX3_tellPart_16 : decode cX3_tellPart 16 = .ok (.ldiv, 1) := dk_109 (dk_at dksX3_tellPart_0 16 rfl rfl)
theorem dX3_tellPart_17 : decode cX3_tellPart 17 = .ok (.invokevirtual 284, 3) := dk_182 1 28 (dk_at dksX3_tellPart_0 17 rfl rfl)
theorem dX3_tellPart_20 : decode cX3_tellPart 20 = .ok (.aload_n 0, 1) := dk_42 (dk_at dksX3_tellPart_0 20 rfl rfl)
theorem dX3_tellPart_21 : decode cX3_tellPart 21 = .ok (.lload_n 3, 1) := dk_33 (dk_at dksX3_tellPart_0 21 rfl rfl)
theorem dX3_tellPart_22 : decode cX3_tellPart 22 = .ok (.lload 5, 2) := dk_22 5 (dk_at dksX3_tellPart_0 22 rfl rfl)
theorem dX3_tellPart_24 : decode cX3_tellPart 24 = .ok (.ldiv, 1) := dk_109 (dk_at dksX3_tellPart_1 0 rfl rfl)
theorem dX3_tellPart_25 : decode cX3_tellPart 25 = .ok (.invokevirtual 284, 3) := dk_182 1 28 (dk_at dksX3_tellPart_1 1 rfl rfl)
theorem dX3_tellPart_28 : decode cX3_tellPart 28 = .ok (.return_, 1) := dk_177 (dk_at dksX3_tellPart_1 4 rfl rfl)
abbrev cX3_common : ByteArray := prog_9_method_98_code
def yX3_common : MethodName := ⟨RX3, "common", "(JJ)J"⟩
def dkwX3_common_0 : List UInt8 := [32, 9, 148, 154, 0, 7, 30, 167, 0, 10, 32, 30, 32, 113, 184, 1, 118, 173]
abbrev dktX3_common_0 : List UInt8 := dkwX3_common_0 ++ []
theorem dksX3_common_0 : cX3_common.data.toList.drop 0 = dktX3_common_0 := by decide +kernel
theorem dX3_common_0 : decode cX3_common 0 = .ok (.lload_n 2, 1) := dk_32 (dk_at dksX3_common_0 0 rfl rfl)
theorem dX3_common_1 : decode cX3_common 1 = .ok (.lconst 0, 1) := dk_9 (dk_at dksX3_common_0 1 rfl rfl)
theorem dX3_common_2 : decode cX3_common 2 = .ok (.lcmp, 1) := dk_148 (dk_at dksX3_common_0 2 rfl rfl)
theorem dX3_common_3 : decode cX3_common 3 = .ok (.ifCond .ne 7, 3) := dk_154 0 7 (dk_at dksX3_common_0 3 rfl rfl)
theorem dX3_common_6 : decode cX3_common 6 = .ok (.lload_n 0, 1) := dk_30 (dk_at dksX3_common_0 6 rfl rfl)
theorem dX3_common_7 : decode cX3_common 7 = .ok (.goto 10, 3) := dk_167 0 10 (dk_at dksX3_common_0 7 rfl rfl)
theorem dX3_common_10 : decode cX3_common 10 = .ok (.lload_n 2, 1) := dk_32 (dk_at dksX3_common_0 10 rfl rfl)
theorem dX3_common_11 : decode cX3_common 11 = .ok (.lload_n 0, 1) := dk_30 (dk_at dksX3_common_0 11 rfl rfl)
theorem dX3_common_12 : decode cX3_common 12 = .ok (.lload_n 2, 1) := dk_32 (dk_at dksX3_common_0 12 rfl rfl)
theorem dX3_common_13 : decode cX3_common 13 = .ok (.lrem, 1) := dk_113 (dk_at dksX3_common_0 13 rfl rfl)
theorem dX3_common_14 : decode cX3_common 14 = .ok (.invokestatic 374, 3) := dk_184 1 118 (dk_at dksX3_common_0 14 rfl rfl)
theorem dX3_common_17 : decode cX3_common 17 = .ok (.lreturn, 1) := dk_173 (dk_at dksX3_common_0 17 rfl rfl)
abbrev cX3_ask : ByteArray := prog_9_method_101_code
def yX3_ask : MethodName := ⟨RX3, "ask", "()I"⟩
def dkwX3_ask_4 : List UInt8 := [133, 182, 1, 28, 27, 172]
abbrev dktX3_ask_4 : List UInt8 := dkwX3_ask_4 ++ []
def dkwX3_ask_3 : List UInt8 := [161, 0, 6, 167, 0, 8, 29, 60, 21, 4, 61, 132, 3, 1, 167, 255, 196, 42, 3, 181, 0, 117, 42, 28]
abbrev dktX3_ask_3 : List UInt8 := dkwX3_ask_3 ++ dktX3_ask_4
def dkwX3_ask_2 : List UInt8 := [21, 4, 42, 29, 21, 5, 182, 1, 115, 184, 0, 232, 54, 4, 132, 5, 1, 167, 255, 230, 21, 4, 28]
abbrev dktX3_ask_2 : List UInt8 := dkwX3_ask_2 ++ dktX3_ask_3
def dkwX3_ask_1 : List UInt8 := [29, 42, 180, 0, 13, 162, 0, 58, 3, 54, 4, 3, 54, 5, 21, 5, 42, 180, 0, 120, 162, 0, 23]
abbrev dktX3_ask_1 : List UInt8 := dkwX3_ask_1 ++ dktX3_ask_2
def dkwX3_ask_0 : List UInt8 := [42, 3, 181, 0, 114, 42, 2, 2, 182, 1, 115, 154, 0, 6, 16, 254, 172, 2, 60, 18, 88, 61, 3, 62]
abbrev dktX3_ask_0 : List UInt8 := dkwX3_ask_0 ++ dktX3_ask_1
theorem dksX3_ask_0 : cX3_ask.data.toList.drop 0 = dktX3_ask_0 := by decide +kernel
theorem dksX3_ask_1 : cX3_ask.data.toList.drop 24 = dktX3_ask_1 := dk_seg dksX3_ask_0 24 rfl rfl
theorem dksX3_ask_2 : cX3_ask.data.toList.drop 47 = dktX3_ask_2 := dk_seg dksX3_ask_1 23 rfl rfl
theorem dksX3_ask_3 : cX3_ask.data.toList.drop 70 = dktX3_ask_3 := dk_seg dksX3_ask_2 23 rfl rfl
theorem dksX3_ask_4 : cX3_ask.data.toList.drop 94 = dktX3_ask_4 := dk_seg dksX3_ask_3 24 rfl rfl
theorem dX3_ask_0 : decode cX3_ask 0 = .ok (.aload_n 0, 1) := dk_42 (dk_at dksX3_ask_0 0 rfl rfl)
theorem dX3_ask_1 : decode cX3_ask 1 = .ok (.iconst 0, 1) := dk_3 (dk_at dksX3_ask_0 1 rfl rfl)
theorem dX3_ask_2 : decode cX3_ask 2 = .ok (.putfield 114, 3) := dk_181 0 114 (dk_at dksX3_ask_0 2 rfl rfl)
theorem dX3_ask_5 : decode cX3_ask 5 = .ok (.aload_n 0, 1) := dk_42 (dk_at dksX3_ask_0 5 rfl rfl)
theorem dX3_ask_6 : decode cX3_ask 6 = .ok (.iconst (-1), 1) := dk_2 (dk_at dksX3_ask_0 6 rfl rfl)
theorem dX3_ask_7 : decode cX3_ask 7 = .ok (.iconst (-1), 1) := dk_2 (dk_at dksX3_ask_0 7 rfl rfl)
theorem dX3_ask_8 : decode cX3_ask 8 = .ok (.invokevirtual 371, 3) := dk_182 1 115 (dk_at dksX3_ask_0 8 rfl rfl)
theorem dX3_ask_11 : decode cX3_ask 11 = .ok (.ifCond .ne 6, 3) := dk_154 0 6 (dk_at dksX3_ask_0 11 rfl rfl)
theorem dX3_ask_14 : decode cX3_ask 14 = .ok (.bipush (-2), 2) := dk_16 254 (dk_at dksX3_ask_0 14 rfl rfl)
theorem dX3_ask_16 : decode cX3_ask 16 = .ok (.ireturn, 1) := dk_172 (dk_at dksX3_ask_0 16 rfl rfl)
theorem dX3_ask_17 : decode cX3_ask 17 = .ok (.iconst (-1), 1) := dk_2 (dk_at dksX3_ask_0 17 rfl rfl)
theorem dX3_ask_18 : decode cX3_ask 18 = .ok (.istore_n 1, 1) := dk_60 (dk_at dksX3_ask_0 18 rfl rfl)
theorem dX3_ask_19 : decode cX3_ask 19 = .ok (.ldc 88, 2) := dk_18 88 (dk_at dksX3_ask_0 19 rfl rfl)
theorem dX3_ask_21 : decode cX3_ask 21 = .ok (.istore_n 2, 1) := dk_61 (dk_at dksX3_ask_0 21 rfl rfl)
theorem dX3_ask_22 : decode cX3_ask 22 = .ok (.iconst 0, 1) := dk_3 (dk_at dksX3_ask_0 22 rfl rfl)
theorem dX3_ask_23 : decode cX3_ask 23 = .ok (.istore_n 3, 1) := dk_62 (dk_at dksX3_ask_0 23 rfl rfl)
theorem dX3_ask_24 : decode cX3_ask 24 = .ok (.iload_n 3, 1) := dk_29 (dk_at dksX3_ask_1 0 rfl rfl)
theorem dX3_ask_25 : decode cX3_ask 25 = .ok (.aload_n 0, 1) := dk_42 (dk_at dksX3_ask_1 1 rfl rfl)
theorem dX3_ask_26 : decode cX3_ask 26 = .ok (.getfield 13, 3) := dk_180 0 13 (dk_at dksX3_ask_1 2 rfl rfl)
theorem dX3_ask_29 : decode cX3_ask 29 = .ok (.if_icmp .ge 58, 3) := dk_162 0 58 (dk_at dksX3_ask_1 5 rfl rfl)
theorem dX3_ask_32 : decode cX3_ask 32 = .ok (.iconst 0, 1) := dk_3 (dk_at dksX3_ask_1 8 rfl rfl)
theorem dX3_ask_33 : decode cX3_ask 33 = .ok (.istore 4, 2) := dk_54 4 (dk_at dksX3_ask_1 9 rfl rfl)
theorem dX3_ask_35 : decode cX3_ask 35 = .ok (.iconst 0, 1) := dk_3 (dk_at dksX3_ask_1 11 rfl rfl)
theorem dX3_ask_36 : decode cX3_ask 36 = .ok (.istore 5, 2) := dk_54 5 (dk_at dksX3_ask_1 12 rfl rfl)
theorem dX3_ask_38 : decode cX3_ask 38 = .ok (.iload 5, 2) := dk_21 5 (dk_at dksX3_ask_1 14 rfl rfl)
theorem dX3_ask_40 : decode cX3_ask 40 = .ok (.aload_n 0, 1) := dk_42 (dk_at dksX3_ask_1 16 rfl rfl)
theorem dX3_ask_41 : decode cX3_ask 41 = .ok (.getfield 120, 3) := dk_180 0 120 (dk_at dksX3_ask_1 17 rfl rfl)
theorem dX3_ask_44 : decode cX3_ask 44 = .ok (.if_icmp .ge 23, 3) := dk_162 0 23 (dk_at dksX3_ask_1 20 rfl rfl)
theorem dX3_ask_47 : decode cX3_ask 47 = .ok (.iload 4, 2) := dk_21 4 (dk_at dksX3_ask_2 0 rfl rfl)
theorem dX3_ask_49 : decode cX3_ask 49 = .ok (.aload_n 0, 1) := dk_42 (dk_at dksX3_ask_2 2 rfl rfl)
theorem dX3_ask_50 : decode cX3_ask 50 = .ok (.iload_n 3, 1) := dk_29 (dk_at dksX3_ask_2 3 rfl rfl)
theorem dX3_ask_51 : decode cX3_ask 51 = .ok (.iload 5, 2) := dk_21 5 (dk_at dksX3_ask_2 4 rfl rfl)
theorem dX3_ask_53 : decode cX3_ask 53 = .ok (.invokevirtual 371, 3) := dk_182 1 115 (dk_at dksX3_ask_2 6 rfl rfl)
theorem dX3_ask_56 : decode cX3_ask 56 = .ok (.invokestatic 232, 3) := dk_184 0 232 (dk_at dksX3_ask_2 9 rfl rfl)
theorem dX3_ask_59 : decode cX3_ask 59 = .ok (.istore 4, 2) := dk_54 4 (dk_at dksX3_ask_2 12 rfl rfl)
theorem dX3_ask_61 : decode cX3_ask 61 = .ok (.iinc 5 1, 3) := dk_132 5 1 (dk_at dksX3_ask_2 14 rfl rfl)
theorem dX3_ask_64 : decode cX3_ask 64 = .ok (.goto (-26), 3) := dk_167 255 230 (dk_at dksX3_ask_2 17 rfl rfl)
theorem dX3_ask_67 : decode cX3_ask 67 = .ok (.iload 4, 2) := dk_21 4 (dk_at dksX3_ask_2 20 rfl rfl)
theorem dX3_ask_69 : decode cX3_ask 69 = .ok (.iload_n 2, 1) := dk_28 (dk_at dksX3_ask_2 22 rfl rfl)
theorem dX3_ask_70 : decode cX3_ask 70 = .ok (.if_icmp .lt 6, 3) := dk_161 0 6 (dk_at dksX3_ask_3 0 rfl rfl)
theorem dX3_ask_73 : decode cX3_ask 73 = .ok (.goto 8, 3) := dk_167 0 8 (dk_at dksX3_ask_3 3 rfl rfl)
theorem dX3_ask_76 : decode cX3_ask 76 = .ok (.iload_n 3, 1) := dk_29 (dk_at dksX3_ask_3 6 rfl rfl)
theorem dX3_ask_77 : decode cX3_ask 77 = .ok (.istore_n 1, 1) := dk_60 (dk_at dksX3_ask_3 7 rfl rfl)
theorem dX3_ask_78 : decode cX3_ask 78 = .ok (.iload 4, 2) := dk_21 4 (dk_at dksX3_ask_3 8 rfl rfl)
theorem dX3_ask_80 : decode cX3_ask 80 = .ok (.istore_n 2, 1) := dk_61 (dk_at dksX3_ask_3 10 rfl rfl)
theorem dX3_ask_81 : decode cX3_ask 81 = .ok (.iinc 3 1, 3) := dk_132 3 1 (dk_at dksX3_ask_3 11 rfl rfl)
theorem dX3_ask_84 : decode cX3_ask 84 = .ok (.goto (-60), 3) := dk_167 255 196 (dk_at dksX3_ask_3 14 rfl rfl)
theorem dX3_ask_87 : decode cX3_ask 87 = .ok (.aload_n 0, 1) := dk_42 (dk_at dksX3_ask_3 17 rfl rfl)
theorem dX3_ask_88 : decode cX3_ask 88 = .ok (.iconst 0, 1) := dk_3 (dk_at dksX3_ask_3 18 rfl rfl)
theorem dX3_ask_89 : decode cX3_ask 89 = .ok (.putfield 117, 3) := dk_181 0 117 (dk_at dksX3_ask_3 19 rfl rfl)
theorem dX3_ask_92 : decode cX3_ask 92 = .ok (.aload_n 0, 1) := dk_42 (dk_at dksX3_ask_3 22 rfl rfl)
theorem dX3_ask_93 : decode cX3_ask 93 = .ok (.iload_n 2, 1) := dk_28 (dk_at dksX3_ask_3 23 rfl rfl)
theorem dX3_ask_94 : decode cX3_ask 94 = .ok (.i2l, 1) := dk_133 (dk_at dksX3_ask_4 0 rfl rfl)
theorem dX3_ask_95 : decode cX3_ask 95 = .ok (.invokevirtual 284, 3) := dk_182 1 28 (dk_at dksX3_ask_4 1 rfl rfl)
theorem dX3_ask_98 : decode cX3_ask 98 = .ok (.iload_n 1, 1) := dk_27 (dk_at dksX3_ask_4 4 rfl rfl)
theorem dX3_ask_99 : decode cX3_ask 99 = .ok (.ireturn, 1) := dk_172 (dk_at dksX3_ask_4 5 rfl rfl)
abbrev cX3_held : ByteArray := prog_9_method_105_code
def yX3_held : MethodName := ⟨RX3, "held", "(I)I"⟩
def dkwX3_held_2 : List UInt8 := [172]
abbrev dktX3_held_2 : List UInt8 := dkwX3_held_2 ++ []
def dkwX3_held_1 : List UInt8 := [182, 1, 130, 27, 182, 1, 133, 20, 1, 137, 42, 182, 1, 130, 184, 0, 221, 184, 1, 126, 182, 1, 122, 3]
abbrev dktX3_held_1 : List UInt8 := dkwX3_held_1 ++ dktX3_held_2
def dkwX3_held_0 : List UInt8 := [42, 3, 181, 0, 114, 27, 3, 16, 10, 184, 0, 123, 154, 0, 5, 2, 172, 42, 182, 1, 91, 42, 42, 42]
abbrev dktX3_held_0 : List UInt8 := dkwX3_held_0 ++ dktX3_held_1
theorem dksX3_held_0 : cX3_held.data.toList.drop 0 = dktX3_held_0 := by decide +kernel
theorem dksX3_held_1 : cX3_held.data.toList.drop 24 = dktX3_held_1 := dk_seg dksX3_held_0 24 rfl rfl
theorem dksX3_held_2 : cX3_held.data.toList.drop 48 = dktX3_held_2 := dk_seg dksX3_held_1 24 rfl rfl
theorem dX3_held_0 : decode cX3_held 0 = .ok (.aload_n 0, 1) := dk_42 (dk_at dksX3_held_0 0 rfl rfl)
theorem dX3_held_1 : decode cX3_held 1 = .ok (.iconst 0, 1) := dk_3 (dk_at dksX3_held_0 1 rfl rfl)
theorem dX3_held_2 : decode cX3_held 2 = .ok (.putfield 114, 3) := dk_181 0 114 (dk_at dksX3_held_0 2 rfl rfl)
theorem dX3_held_5 : decode cX3_held 5 = .ok (.iload_n 1, 1) := dk_27 (dk_at dksX3_held_0 5 rfl rfl)
theorem dX3_held_6 : decode cX3_held 6 = .ok (.iconst 0, 1) := dk_3 (dk_at dksX3_held_0 6 rfl rfl)
theorem dX3_held_7 : decode cX3_held 7 = .ok (.bipush 10, 2) := dk_16 10 (dk_at dksX3_held_0 7 rfl rfl)
theorem dX3_held_9 : decode cX3_held 9 = .ok (.invokestatic 123, 3) := dk_184 0 123 (dk_at dksX3_held_0 9 rfl rfl)
theorem dX3_held_12 : decode cX3_held 12 = .ok (.ifCond .ne 5, 3) := dk_154 0 5 (dk_at dksX3_held_0 12 rfl rfl)
theorem dX3_held_15 : decode cX3_held 15 = .ok (.iconst (-1), 1) := dk_2 (dk_at dksX3_held_0 15 rfl rfl)
theorem dX3_held_16 : decode cX3_held 16 = .ok (.ireturn, 1) := dk_172 (dk_at dksX3_held_0 16 rfl rfl)
theorem dX3_held_17 : decode cX3_held 17 = .ok (.aload_n 0, 1) := dk_42 (dk_at dksX3_held_0 17 rfl rfl)
theorem dX3_held_18 : decode cX3_held 18 = .ok (.invokevirtual 347, 3) := dk_182 1 91 (dk_at dksX3_held_0 18 rfl rfl)
theorem dX3_held_21 : decode cX3_held 21 = .ok (.aload_n 0, 1) := dk_42 (dk_at dksX3_held_0 21 rfl rfl)
theorem dX3_held_22 : decode cX3_held 22 = .ok (.aload_n 0, 1) := dk_42 (dk_at dksX3_held_0 22 rfl rfl)
theorem dX3_held_23 : decode cX3_held 23 = .ok (.aload_n 0, 1) := dk_42 (dk_at dksX3_held_0 23 rfl rfl)
theorem dX3_held_24 : decode cX3_held 24 = .ok (.invokevirtual 386, 3) := dk_182 1 130 (dk_at dksX3_held_1 0 rfl rfl)
theorem dX3_held_27 : decode cX3_held 27 = .ok (.iload_n 1, 1) := dk_27 (dk_at dksX3_held_1 3 rfl rfl)
theorem dX3_held_28 : decode cX3_held 28 = .ok (.invokevirtual 389, 3) := dk_182 1 133 (dk_at dksX3_held_1 4 rfl rfl)
theorem dX3_held_31 : decode cX3_held 31 = .ok (.ldc2_w 393, 3) := dk_20 1 137 (dk_at dksX3_held_1 7 rfl rfl)
theorem dX3_held_34 : decode cX3_held 34 = .ok (.aload_n 0, 1) := dk_42 (dk_at dksX3_held_1 10 rfl rfl)
theorem dX3_held_35 : decode cX3_held 35 = .ok (.invokevirtual 386, 3) := dk_182 1 130 (dk_at dksX3_held_1 11 rfl rfl)
theorem dX3_held_38 : decode cX3_held 38 = .ok (.invokestatic 221, 3) := dk_184 0 221 (dk_at dksX3_held_1 14 rfl rfl)
theorem dX3_held_41 : decode cX3_held 41 = .ok (.invokestatic 382, 3) := dk_184 1 126 (dk_at dksX3_held_1 17 rfl rfl)
theorem dX3_held_44 : decode cX3_held 44 = .ok (.invokevirtual 378, 3) := dk_182 1 122 (dk_at dksX3_held_1 20 rfl rfl)
theorem dX3_held_47 : decode cX3_held 47 = .ok (.iconst 0, 1) := dk_3 (dk_at dksX3_held_1 23 rfl rfl)
theorem dX3_held_48 : decode cX3_held 48 = .ok (.ireturn, 1) := dk_172 (dk_at dksX3_held_2 0 rfl rfl)
abbrev cX3_well : ByteArray := prog_9_method_104_code
def yX3_well : MethodName := ⟨RX3, "well", "()I"⟩
def dkwX3_well_0 : List UInt8 := [4, 42, 180, 0, 120, 120, 4, 100, 42, 42, 180, 0, 9, 182, 1, 5, 2, 130, 126, 172]
abbrev dktX3_well_0 : List UInt8 := dkwX3_well_0 ++ []
theorem dksX3_well_0 : cX3_well.data.toList.drop 0 = dktX3_well_0 := by decide +kernel
theorem dX3_well_0 : decode cX3_well 0 = .ok (.iconst 1, 1) := dk_4 (dk_at dksX3_well_0 0 rfl rfl)
theorem dX3_well_1 : decode cX3_well 1 = .ok (.aload_n 0, 1) := dk_42 (dk_at dksX3_well_0 1 rfl rfl)
theorem dX3_well_2 : decode cX3_well 2 = .ok (.getfield 120, 3) := dk_180 0 120 (dk_at dksX3_well_0 2 rfl rfl)
theorem dX3_well_5 : decode cX3_well 5 = .ok (.ishl, 1) := dk_120 (dk_at dksX3_well_0 5 rfl rfl)
theorem dX3_well_6 : decode cX3_well 6 = .ok (.iconst 1, 1) := dk_4 (dk_at dksX3_well_0 6 rfl rfl)
theorem dX3_well_7 : decode cX3_well 7 = .ok (.isub, 1) := dk_100 (dk_at dksX3_well_0 7 rfl rfl)
theorem dX3_well_8 : decode cX3_well 8 = .ok (.aload_n 0, 1) := dk_42 (dk_at dksX3_well_0 8 rfl rfl)
theorem dX3_well_9 : decode cX3_well 9 = .ok (.aload_n 0, 1) := dk_42 (dk_at dksX3_well_0 9 rfl rfl)
theorem dX3_well_10 : decode cX3_well 10 = .ok (.getfield 9, 3) := dk_180 0 9 (dk_at dksX3_well_0 10 rfl rfl)
theorem dX3_well_13 : decode cX3_well 13 = .ok (.invokevirtual 261, 3) := dk_182 1 5 (dk_at dksX3_well_0 13 rfl rfl)
theorem dX3_well_16 : decode cX3_well 16 = .ok (.iconst (-1), 1) := dk_2 (dk_at dksX3_well_0 16 rfl rfl)
theorem dX3_well_17 : decode cX3_well 17 = .ok (.ixor, 1) := dk_130 (dk_at dksX3_well_0 17 rfl rfl)
theorem dX3_well_18 : decode cX3_well 18 = .ok (.iand, 1) := dk_126 (dk_at dksX3_well_0 18 rfl rfl)
theorem dX3_well_19 : decode cX3_well 19 = .ok (.ireturn, 1) := dk_172 (dk_at dksX3_well_0 19 rfl rfl)
abbrev cX3_heldParts : ByteArray := prog_9_method_103_code
def yX3_heldParts : MethodName := ⟨RX3, "heldParts", "(II)J"⟩
def dkwX3_heldParts_3 : List UInt8 := [132, 6, 1, 167, 255, 194, 33, 173]
abbrev dktX3_heldParts_3 : List UInt8 := dkwX3_heldParts_3 ++ []
def dkwX3_heldParts_2 : List UInt8 := [16, 10, 28, 100, 133, 21, 7, 184, 1, 126, 28, 133, 21, 5, 21, 7, 100, 184, 1, 126, 105, 97, 66]
abbrev dktX3_heldParts_2 : List UInt8 := dkwX3_heldParts_2 ++ dktX3_heldParts_3
def dkwX3_heldParts_1 : List UInt8 := [154, 0, 47, 42, 180, 0, 95, 21, 6, 51, 154, 0, 6, 167, 0, 34, 21, 6, 184, 0, 221, 54, 7, 33]
abbrev dktX3_heldParts_1 : List UInt8 := dkwX3_heldParts_1 ++ dktX3_heldParts_2
def dkwX3_heldParts_0 : List UInt8 := [9, 66, 27, 184, 0, 221, 54, 5, 3, 54, 6, 21, 6, 27, 163, 0, 62, 21, 6, 27, 2, 130, 126]
abbrev dktX3_heldParts_0 : List UInt8 := dkwX3_heldParts_0 ++ dktX3_heldParts_1
theorem dksX3_heldParts_0 : cX3_heldParts.data.toList.drop 0 = dktX3_heldParts_0 := by decide +kernel
theorem dksX3_heldParts_1 : cX3_heldParts.data.toList.drop 23 = dktX3_heldParts_1 := dk_seg dksX3_heldParts_0 23 rfl rfl
theorem dksX3_heldParts_2 : cX3_heldParts.data.toList.drop 47 = dktX3_heldParts_2 := dk_seg dksX3_heldParts_1 24 rfl rfl
theorem dksX3_heldParts_3 : cX3_heldParts.data.toList.drop 70 = dktX3_heldParts_3 := dk_seg dksX3_heldParts_2 23 rfl rfl
theorem dX3_heldParts_0 : decode cX3_heldParts 0 = .ok (.lconst 0, 1) := dk_9 (dk_at dksX3_heldParts_0 0 rfl rfl)
theorem dX3_heldParts_1 : decode cX3_heldParts 1 = .ok (.lstore_n 3, 1) := dk_66 (dk_at dksX3_heldParts_0 1 rfl rfl)
theorem dX3_heldParts_2 : decode cX3_heldParts 2 = .ok (.iload_n 1, 1) := dk_27 (dk_at dksX3_heldParts_0 2 rfl rfl)
theorem dX3_heldParts_3 : decode cX3_heldParts 3 = .ok (.invokestatic 221, 3) := dk_184 0 221 (dk_at dksX3_heldParts_0 3 rfl rfl)
theorem dX3_heldParts_6 : decode cX3_heldParts 6 = .ok (.istore 5, 2) := dk_54 5 (dk_at dksX3_heldParts_0 6 rfl rfl)
theorem dX3_heldParts_8 : decode cX3_heldParts 8 = .ok (.iconst 0, 1) := dk_3 (dk_at dksX3_heldParts_0 8 rfl rfl)
theorem dX3_heldParts_9 : decode cX3_heldParts 9 = .ok (.istore 6, 2) := dk_54 6 (dk_at dksX3_heldParts_0 9 rfl rfl)
theorem dX3_heldParts_11 : decode cX3_heldParts 11 = .ok (.iload 6, 2) := dk_21 6 (dk_at dksX3_heldParts_0 11 rfl rfl)
theorem dX3_heldParts_13 : decode cX3_heldParts 13 = .ok (.iload_n 1, 1) := dk_27 (dk_at dksX3_heldParts_0 13 rfl rfl)
theorem dX3_heldParts_14 : decode cX3_heldParts 14 = .ok (.if_icmp .gt 62, 3) := dk_163 0 62 (dk_at dksX3_heldParts_0 14 rfl rfl)
theorem dX3_heldParts_17 : decode cX3_heldParts 17 = .ok (.iload 6, 2) := dk_21 6 (dk_at dksX3_heldParts_0 17 rfl rfl)
theorem dX3_heldParts_19 : decode cX3_heldParts 19 = .ok (.iload_n 1, 1) := dk_27 (dk_at dksX3_heldParts_0 19 rfl rfl)
theorem dX3_heldParts_20 : decode cX3_heldParts 20 = .ok (.iconst (-1), 1) := dk_2 (dk_at dksX3_heldParts_0 20 rfl rfl)
theorem dX3_heldParts_21 : decode cX3_heldParts 21 = .ok (.ixor, 1) := dk_130 (dk_at dksX3_heldParts_0 21 rfl rfl)
theorem dX3_heldParts_22 : decode cX3_heldParts 22 = .ok (.iand, 1) := dk_126 (dk_at dksX3_heldParts_0 22 rfl rfl)
theorem dX3_heldParts_23 : decode cX3_heldParts 23 = .ok (.ifCond .ne 47, 3) := dk_154 0 47 (dk_at dksX3_heldParts_1 0 rfl rfl)
theorem dX3_heldParts_26 : decode cX3_heldParts 26 = .ok (.aload_n 0, 1) := dk_42 (dk_at dksX3_heldParts_1 3 rfl rfl)
theorem dX3_heldParts_27 : decode cX3_heldParts 27 = .ok (.getfield 95, 3) := dk_180 0 95 (dk_at dksX3_heldParts_1 4 rfl rfl)
theorem dX3_heldParts_30 : decode cX3_heldParts 30 = .ok (.iload 6, 2) := dk_21 6 (dk_at dksX3_heldParts_1 7 rfl rfl)
theorem dX3_heldParts_32 : decode cX3_heldParts 32 = .ok (.baload, 1) := dk_51 (dk_at dksX3_heldParts_1 9 rfl rfl)
theorem dX3_heldParts_33 : decode cX3_heldParts 33 = .ok (.ifCond .ne 6, 3) := dk_154 0 6 (dk_at dksX3_heldParts_1 10 rfl rfl)
theorem dX3_heldParts_36 : decode cX3_heldParts 36 = .ok (.goto 34, 3) := dk_167 0 34 (dk_at dksX3_heldParts_1 13 rfl rfl)
theorem dX3_heldParts_39 : decode cX3_heldParts 39 = .ok (.iload 6, 2) := dk_21 6 (dk_at dksX3_heldParts_1 16 rfl rfl)
theorem dX3_heldParts_41 : decode cX3_heldParts 41 = .ok (.invokestatic 221, 3) := dk_184 0 221 (dk_at dksX3_heldParts_1 18 rfl rfl)
theorem dX3_heldParts_44 : decode cX3_heldParts 44 = .ok (.istore 7, 2) := dk_54 7 (dk_at dksX3_heldParts_1 21 rfl rfl)
theorem dX3_heldParts_46 : decode cX3_heldParts 46 = .ok (.lload_n 3, 1) := dk_33 (dk_at dksX3_heldParts_1 23 rfl rfl)
theorem dX3_heldParts_47 : decode cX3_heldParts 47 = .ok (.bipush 10, 2) := dk_16 10 (dk_at dksX3_heldParts_2 0 rfl rfl)
theorem dX3_heldParts_49 : decode cX3_heldParts 49 = .ok (.iload_n 2, 1) := dk_28 (dk_at dksX3_heldParts_2 2 rfl rfl)
theorem dX3_heldParts_50 : decode cX3_heldParts 50 = .ok (.isub, 1) := dk_100 (dk_at dksX3_heldParts_2 3 rfl rfl)
theorem dX3_heldParts_51 : decode cX3_heldParts 51 = .ok (.i2l, 1) := dk_133 (dk_at dksX3_heldParts_2 4 rfl rfl)
theorem dX3_heldParts_52 : decode cX3_heldParts 52 = .ok (.iload 7, 2) := dk_21 7 (dk_at dksX3_heldParts_2 5 rfl rfl)
theorem dX3_heldParts_54 : decode cX3_heldParts 54 = .ok (.invokestatic 382, 3) := dk_184 1 126 (dk_at dksX3_heldParts_2 7 rfl rfl)
theorem dX3_heldParts_57 : decode cX3_heldParts 57 = .ok (.iload_n 2, 1) := dk_28 (dk_at dksX3_heldParts_2 10 rfl rfl)
theorem dX3_heldParts_58 : decode cX3_heldParts 58 = .ok (.i2l, 1) := dk_133 (dk_at dksX3_heldParts_2 11 rfl rfl)
theorem dX3_heldParts_59 : decode cX3_heldParts 59 = .ok (.iload 5, 2) := dk_21 5 (dk_at dksX3_heldParts_2 12 rfl rfl)
theorem dX3_heldParts_61 : decode cX3_heldParts 61 = .ok (.iload 7, 2) := dk_21 7 (dk_at dksX3_heldParts_2 14 rfl rfl)
theorem dX3_heldParts_63 : decode cX3_heldParts 63 = .ok (.isub, 1) := dk_100 (dk_at dksX3_heldParts_2 16 rfl rfl)
theorem dX3_heldParts_64 : decode cX3_heldParts 64 = .ok (.invokestatic 382, 3) := dk_184 1 126 (dk_at dksX3_heldParts_2 17 rfl rfl)
theorem dX3_heldParts_67 : decode cX3_heldParts 67 = .ok (.lmul, 1) := dk_105 (dk_at dksX3_heldParts_2 20 rfl rfl)
theorem dX3_heldParts_68 : decode cX3_heldParts 68 = .ok (.ladd, 1) := dk_97 (dk_at dksX3_heldParts_2 21 rfl rfl)
theorem dX3_heldParts_69 : decode cX3_heldParts 69 = .ok (.lstore_n 3, 1) := dk_66 (dk_at dksX3_heldParts_2 22 rfl rfl)
theorem dX3_heldParts_70 : decode cX3_heldParts 70 = .ok (.iinc 6 1, 3) := dk_132 6 1 (dk_at dksX3_heldParts_3 0 rfl rfl)
theorem dX3_heldParts_73 : decode cX3_heldParts 73 = .ok (.goto (-62), 3) := dk_167 255 194 (dk_at dksX3_heldParts_3 3 rfl rfl)
theorem dX3_heldParts_76 : decode cX3_heldParts 76 = .ok (.lload_n 3, 1) := dk_33 (dk_at dksX3_heldParts_3 6 rfl rfl)
theorem dX3_heldParts_77 : decode cX3_heldParts 77 = .ok (.lreturn, 1) := dk_173 (dk_at dksX3_heldParts_3 7 rfl rfl)
abbrev cX3_power : ByteArray := prog_9_method_102_code
def yX3_power : MethodName := ⟨RX3, "power", "(JI)J"⟩
def dkwX3_power_0 : List UInt8 := [10, 66, 3, 54, 5, 21, 5, 28, 162, 0, 13, 33, 30, 105, 66, 132, 5, 1, 167, 255, 243, 33, 173]
abbrev dktX3_power_0 : List UInt8 := dkwX3_power_0 ++ []
theorem dksX3_power_0 : cX3_power.data.toList.drop 0 = dktX3_power_0 := by decide +kernel
theorem dX3_power_0 : decode cX3_power 0 = .ok (.lconst 1, 1) := dk_10 (dk_at dksX3_power_0 0 rfl rfl)
theorem dX3_power_1 : decode cX3_power 1 = .ok (.lstore_n 3, 1) := dk_66 (dk_at dksX3_power_0 1 rfl rfl)
theorem dX3_power_2 : decode cX3_power 2 = .ok (.iconst 0, 1) := dk_3 (dk_at dksX3_power_0 2 rfl rfl)
theorem dX3_power_3 : decode cX3_power 3 = .ok (.istore 5, 2) := dk_54 5 (dk_at dksX3_power_0 3 rfl rfl)
theorem dX3_power_5 : decode cX3_power 5 = .ok (.iload 5, 2) := dk_21 5 (dk_at dksX3_power_0 5 rfl rfl)
theorem dX3_power_7 : decode cX3_power 7 = .ok (.iload_n 2, 1) := dk_28 (dk_at dksX3_power_0 7 rfl rfl)
theorem dX3_power_8 : decode cX3_power 8 = .ok (.if_icmp .ge 13, 3) := dk_162 0 13 (dk_at dksX3_power_0 8 rfl rfl)
theorem dX3_power_11 : decode cX3_power 11 = .ok (.lload_n 3, 1) := dk_33 (dk_at dksX3_power_0 11 rfl rfl)
theorem dX3_power_12 : decode cX3_power 12 = .ok (.lload_n 0, 1) := dk_30 (dk_at dksX3_power_0 12 rfl rfl)
theorem dX3_power_13 : decode cX3_power 13 = .ok (.lmul, 1) := dk_105 (dk_at dksX3_power_0 13 rfl rfl)
theorem dX3_power_14 : decode cX3_power 14 = .ok (.lstore_n 3, 1) := dk_66 (dk_at dksX3_power_0 14 rfl rfl)
theorem dX3_power_15 : decode cX3_power 15 = .ok (.iinc 5 1, 3) := dk_132 5 1 (dk_at dksX3_power_0 15 rfl rfl)
theorem dX3_power_18 : decode cX3_power 18 = .ok (.goto (-13), 3) := dk_167 255 243 (dk_at dksX3_power_0 18 rfl rfl)
theorem dX3_power_21 : decode cX3_power 21 = .ok (.lload_n 3, 1) := dk_33 (dk_at dksX3_power_0 21 rfl rfl)
theorem dX3_power_22 : decode cX3_power 22 = .ok (.lreturn, 1) := dk_173 (dk_at dksX3_power_0 22 rfl rfl)
abbrev cX3_keystone : ByteArray := prog_9_method_106_code
def yX3_keystone : MethodName := ⟨RX3, "keystone", "(I)I"⟩
def dkwX3_keystone_5 : List UInt8 := [184, 1, 126, 182, 1, 122, 29, 172]
abbrev dktX3_keystone_5 : List UInt8 := dkwX3_keystone_5 ++ []
def dkwX3_keystone_4 : List UInt8 := [62, 22, 7, 55, 4, 132, 6, 1, 167, 255, 194, 42, 22, 4, 20, 1, 137, 28, 184, 0, 221, 4, 100]
abbrev dktX3_keystone_4 : List UInt8 := dkwX3_keystone_4 ++ dktX3_keystone_5
def dkwX3_keystone_3 : List UInt8 := [27, 182, 1, 133, 55, 7, 29, 2, 159, 0, 14, 22, 7, 22, 4, 148, 155, 0, 6, 167, 0, 10, 21, 6]
abbrev dktX3_keystone_3 : List UInt8 := dkwX3_keystone_3 ++ dktX3_keystone_4
def dkwX3_keystone_2 : List UInt8 := [162, 0, 59, 28, 21, 6, 184, 1, 15, 154, 0, 6, 167, 0, 41, 42, 28, 4, 21, 6, 120, 2, 130, 126]
abbrev dktX3_keystone_2 : List UInt8 := dkwX3_keystone_2 ++ dktX3_keystone_3
def dkwX3_keystone_1 : List UInt8 := [154, 0, 6, 16, 254, 172, 42, 182, 1, 91, 2, 62, 9, 55, 4, 3, 54, 6, 21, 6, 42, 180, 0, 120]
abbrev dktX3_keystone_1 : List UInt8 := dkwX3_keystone_1 ++ dktX3_keystone_2
def dkwX3_keystone_0 : List UInt8 := [42, 3, 181, 0, 114, 27, 3, 16, 10, 184, 0, 123, 154, 0, 5, 2, 172, 42, 182, 1, 130, 61, 28]
abbrev dktX3_keystone_0 : List UInt8 := dkwX3_keystone_0 ++ dktX3_keystone_1
theorem dksX3_keystone_0 : cX3_keystone.data.toList.drop 0 = dktX3_keystone_0 := by decide +kernel
theorem dksX3_keystone_1 : cX3_keystone.data.toList.drop 23 = dktX3_keystone_1 := dk_seg dksX3_keystone_0 23 rfl rfl
theorem dksX3_keystone_2 : cX3_keystone.data.toList.drop 47 = dktX3_keystone_2 := dk_seg dksX3_keystone_1 24 rfl rfl
theorem dksX3_keystone_3 : cX3_keystone.data.toList.drop 71 = dktX3_keystone_3 := dk_seg dksX3_keystone_2 24 rfl rfl
theorem dksX3_keystone_4 : cX3_keystone.data.toList.drop 95 = dktX3_keystone_4 := dk_seg dksX3_keystone_3 24 rfl rfl
theorem dksX3_keystone_5 : cX3_keystone.data.toList.drop 118 = dktX3_keystone_5 := dk_seg dksX3_keystone_4 23 rfl rfl
theorem dX3_keystone_0 : decode cX3_keystone 0 = .ok (.aload_n 0, 1) := dk_42 (dk_at dksX3_keystone_0 0 rfl rfl)
theorem dX3_keystone_1 : decode cX3_keystone 1 = .ok (.iconst 0, 1) := dk_3 (dk_at dksX3_keystone_0 1 rfl rfl)
theorem dX3_keystone_2 : decode cX3_keystone 2 = .ok (.putfield 114, 3) := dk_181 0 114 (dk_at dksX3_keystone_0 2 rfl rfl)
theorem dX3_keystone_5 : decode cX3_keystone 5 = .ok (.iload_n 1, 1) := dk_27 (dk_at dksX3_keystone_0 5 rfl rfl)
theorem dX3_keystone_6 : decode cX3_keystone 6 = .ok (.iconst 0, 1) := dk_3 (dk_at dksX3_keystone_0 6 rfl rfl)
theorem dX3_keystone_7 : decode cX3_keystone 7 = .ok (.bipush 10, 2) := dk_16 10 (dk_at dksX3_keystone_0 7 rfl rfl)
theorem dX3_keystone_9 : decode cX3_keystone 9 = .ok (.invokestatic 123, 3) := dk_184 0 123 (dk_at dksX3_keystone_0 9 rfl rfl)
theorem dX3_keystone_12 : decode cX3_keystone 12 = .ok (.ifCond .ne 5, 3) := dk_154 0 5 (dk_at dksX3_keystone_0 12 rfl rfl)
theorem dX3_keystone_15 : decode cX3_keystone 15 = .ok (.iconst (-1), 1) := dk_2 (dk_at dksX3_keystone_0 15 rfl rfl)
theorem dX3_keystone_16 : decode cX3_keystone 16 = .ok (.ireturn, 1) := dk_172 (dk_at dksX3_keystone_0 16 rfl rfl)
theorem dX3_keystone_17 : decode cX3_keystone 17 = .ok (.aload_n 0, 1) := dk_42 (dk_at dksX3_keystone_0 17 rfl rfl)
theorem dX3_keystone_18 : decode cX3_keystone 18 = .ok (.invokevirtual 386, 3) := dk_182 1 130 (dk_at dksX3_keystone_0 18 rfl rfl)
theorem dX3_keystone_21 : decode cX3_keystone 21 = .ok (.istore_n 2, 1) := dk_61 (dk_at dksX3_keystone_0 21 rfl rfl)
theorem dX3_keystone_22 : decode cX3_keystone 22 = .ok (.iload_n 2, 1) := dk_28 (dk_at dksX3_keystone_0 22 rfl rfl)
theorem dX3_keystone_23 : decode cX3_keystone 23 = .ok (.ifCond .ne 6, 3) := dk_154 0 6 (dk_at dksX3_keystone_1 0 rfl rfl)
theorem dX3_keystone_26 : decode cX3_keystone 26 = .ok (.bipush (-2), 2) := dk_16 254 (dk_at dksX3_keystone_1 3 rfl rfl)
theorem dX3_keystone_28 : decode cX3_keystone 28 = .ok (.ireturn, 1) := dk_172 (dk_at dksX3_keystone_1 5 rfl rfl)
theorem dX3_keystone_29 : decode cX3_keystone 29 = .ok (.aload_n 0, 1) := dk_42 (dk_at dksX3_keystone_1 6 rfl rfl)
theorem dX3_keystone_30 : decode cX3_keystone 30 = .ok (.invokevirtual 347, 3) := dk_182 1 91 (dk_at dksX3_keystone_1 7 rfl rfl)
theorem dX3_keystone_33 : decode cX3_keystone 33 = .ok (.iconst (-1), 1) := dk_2 (dk_at dksX3_keystone_1 10 rfl rfl)
theorem dX3_keystone_34 : decode cX3_keystone 34 = .ok (.istore_n 3, 1) := dk_62 (dk_at dksX3_keystone_1 11 rfl rfl)
theorem dX3_keystone_35 : decode cX3_keystone 35 = .ok (.lconst 0, 1) := dk_9 (dk_at dksX3_keystone_1 12 rfl rfl)
theorem dX3_keystone_36 : decode cX3_keystone 36 = .ok (.lstore 4, 2) := dk_55 4 (dk_at dksX3_keystone_1 13 rfl rfl)
theorem dX3_keystone_38 : decode cX3_keystone 38 = .ok (.iconst 0, 1) := dk_3 (dk_at dksX3_keystone_1 15 rfl rfl)
theorem dX3_keystone_39 : decode cX3_keystone 39 = .ok (.istore 6, 2) := dk_54 6 (dk_at dksX3_keystone_1 16 rfl rfl)
theorem dX3_keystone_41 : decode cX3_keystone 41 = .ok (.iload 6, 2) := dk_21 6 (dk_at dksX3_keystone_1 18 rfl rfl)
theorem dX3_keystone_43 : decode cX3_keystone 43 = .ok (.aload_n 0, 1) := dk_42 (dk_at dksX3_keystone_1 20 rfl rfl)
theorem dX3_keystone_44 : decode cX3_keystone 44 = .ok (.getfield 120, 3) := dk_180 0 120 (dk_at dksX3_keystone_1 21 rfl rfl)
theorem dX3_keystone_47 : decode cX3_keystone 47 = .ok (.if_icmp .ge 59, 3) := dk_162 0 59 (dk_at dksX3_keystone_2 0 rfl rfl)
theorem dX3_keystone_50 : decode cX3_keystone 50 = .ok (.iload_n 2, 1) := dk_28 (dk_at dksX3_keystone_2 3 rfl rfl)
theorem dX3_keystone_51 : decode cX3_keystone 51 = .ok (.iload 6, 2) := dk_21 6 (dk_at dksX3_keystone_2 4 rfl rfl)
theorem dX3_keystone_53 : decode cX3_keystone 53 = .ok (.invokestatic 271, 3) := dk_184 1 15 (dk_at dksX3_keystone_2 6 rfl rfl)
theorem dX3_keystone_56 : decode cX3_keystone 56 = .ok (.ifCond .ne 6, 3) := dk_154 0 6 (dk_at dksX3_keystone_2 9 rfl rfl)
theorem dX3_keystone_59 : decode cX3_keystone 59 = .ok (.goto 41, 3) := dk_167 0 41 (dk_at dksX3_keystone_2 12 rfl rfl)
theorem dX3_keystone_62 : decode cX3_keystone 62 = .ok (.aload_n 0, 1) := dk_42 (dk_at dksX3_keystone_2 15 rfl rfl)
theorem dX3_keystone_63 : decode cX3_keystone 63 = .ok (.iload_n 2, 1) := dk_28 (dk_at dksX3_keystone_2 16 rfl rfl)
theorem dX3_keystone_64 : decode cX3_keystone 64 = .ok (.iconst 1, 1) := dk_4 (dk_at dksX3_keystone_2 17 rfl rfl)
theorem dX3_keystone_65 : decode cX3_keystone 65 = .ok (.iload 6, 2) := dk_21 6 (dk_at dksX3_keystone_2 18 rfl rfl)
theorem dX3_keystone_67 : decode cX3_keystone 67 = .ok (.ishl, 1) := dk_120 (dk_at dksX3_keystone_2 20 rfl rfl)
theorem dX3_keystone_68 : decode cX3_keystone 68 = .ok (.iconst (-1), 1) := dk_2 (dk_at dksX3_keystone_2 21 rfl rfl)
theorem dX3_keystone_69 : decode cX3_keystone 69 = .ok (.ixor, 1) := dk_130 (dk_at dksX3_keystone_2 22 rfl rfl)
theorem dX3_keystone_70 : decode cX3_keystone 70 = .ok (.iand, 1) := dk_126 (dk_at dksX3_keystone_2 23 rfl rfl)
theorem dX3_keystone_71 : decode cX3_keystone 71 = .ok (.iload_n 1, 1) := dk_27 (dk_at dksX3_keystone_3 0 rfl rfl)
theorem dX3_keystone_72 : decode cX3_keystone 72 = .ok (.invokevirtual 389, 3) := dk_182 1 133 (dk_at dksX3_keystone_3 1 rfl rfl)
theorem dX3_keystone_75 : decode cX3_keystone 75 = .ok (.lstore 7, 2) := dk_55 7 (dk_at dksX3_keystone_3 4 rfl rfl)
theorem dX3_keystone_77 : decode cX3_keystone 77 = .ok (.iload_n 3, 1) := dk_29 (dk_at dksX3_keystone_3 6 rfl rfl)
theorem dX3_keystone_78 : decode cX3_keystone 78 = .ok (.iconst (-1), 1) := dk_2 (dk_at dksX3_keystone_3 7 rfl rfl)
theorem dX3_keystone_79 : decode cX3_keystone 79 = .ok (.if_icmp .eq 14, 3) := dk_159 0 14 (dk_at dksX3_keystone_3 8 rfl rfl)
theorem dX3_keystone_82 : decode cX3_keystone 82 = .ok (.lload 7, 2) := dk_22 7 (dk_at dksX3_keystone_3 11 rfl rfl)
theorem dX3_keystone_84 : decode cX3_keystone 84 = .ok (.lload 4, 2) := dk_22 4 (dk_at dksX3_keystone_3 13 rfl rfl)
theorem dX3_keystone_86 : decode cX3_keystone 86 = .ok (.lcmp, 1) := dk_148 (dk_at dksX3_keystone_3 15 rfl rfl)
theorem dX3_keystone_87 : decode cX3_keystone 87 = .ok (.ifCond .lt 6, 3) := dk_155 0 6 (dk_at dksX3_keystone_3 16 rfl rfl)
theorem dX3_keystone_90 : decode cX3_keystone 90 = .ok (.goto 10, 3) := dk_167 0 10 (dk_at dksX3_keystone_3 19 rfl rfl)
theorem dX3_keystone_93 : decode cX3_keystone 93 = .ok (.iload 6, 2) := dk_21 6 (dk_at dksX3_keystone_3 22 rfl rfl)
theorem dX3_keystone_95 : decode cX3_keystone 95 = .ok (.istore_n 3, 1) := dk_62 (dk_at dksX3_keystone_4 0 rfl rfl)
theorem dX3_keystone_96 : decode cX3_keystone 96 = .ok (.lload 7, 2) := dk_22 7 (dk_at dksX3_keystone_4 1 rfl rfl)
theorem dX3_keystone_98 : decode cX3_keystone 98 = .ok (.lstore 4, 2) := dk_55 4 (dk_at dksX3_keystone_4 3 rfl rfl)
theorem dX3_keystone_100 : decode cX3_keystone 100 = .ok (.iinc 6 1, 3) := dk_132 6 1 (dk_at dksX3_keystone_4 5 rfl rfl)
theorem dX3_keystone_103 : decode cX3_keystone 103 = .ok (.goto (-62), 3) := dk_167 255 194 (dk_at dksX3_keystone_4 8 rfl rfl)
theorem dX3_keystone_106 : decode cX3_keystone 106 = .ok (.aload_n 0, 1) := dk_42 (dk_at dksX3_keystone_4 11 rfl rfl)
theorem dX3_keystone_107 : decode cX3_keystone 107 = .ok (.lload 4, 2) := dk_22 4 (dk_at dksX3_keystone_4 12 rfl rfl)
theorem dX3_keystone_109 : decode cX3_keystone 109 = .ok (.ldc2_w 393, 3) := dk_20 1 137 (dk_at dksX3_keystone_4 14 rfl rfl)
theorem dX3_keystone_112 : decode cX3_keystone 112 = .ok (.iload_n 2, 1) := dk_28 (dk_at dksX3_keystone_4 17 rfl rfl)
theorem dX3_keystone_113 : decode cX3_keystone 113 = .ok (.invokestatic 221, 3) := dk_184 0 221 (dk_at dksX3_keystone_4 18 rfl rfl)
theorem dX3_keystone_116 : decode cX3_keystone 116 = .ok (.iconst 1, 1) := dk_4 (dk_at dksX3_keystone_4 21 rfl rfl)
theorem dX3_keystone_117 : decode cX3_keystone 117 = .ok (.isub, 1) := dk_100 (dk_at dksX3_keystone_4 22 rfl rfl)
theorem dX3_keystone_118 : decode cX3_keystone 118 = .ok (.invokestatic 382, 3) := dk_184 1 126 (dk_at dksX3_keystone_5 0 rfl rfl)
theorem dX3_keystone_121 : decode cX3_keystone 121 = .ok (.invokevirtual 378, 3) := dk_182 1 122 (dk_at dksX3_keystone_5 3 rfl rfl)
theorem dX3_keystone_124 : decode cX3_keystone 124 = .ok (.iload_n 3, 1) := dk_29 (dk_at dksX3_keystone_5 6 rfl rfl)
theorem dX3_keystone_125 : decode cX3_keystone 125 = .ok (.ireturn, 1) := dk_172 (dk_at dksX3_keystone_5 7 rfl rfl)
abbrev cX3_rests : ByteArray := prog_9_method_110_code
def yX3_rests : MethodName := ⟨RX3, "rests", "(II)I"⟩
def dkwX3_rests_5 : List UInt8 := [167, 255, 193, 132, 5, 1, 167, 255, 177, 29, 158, 0, 10, 42, 21, 4, 133, 182, 1, 28, 29, 172]
abbrev dktX3_rests_5 : List UInt8 := dkwX3_rests_5 ++ []
def dkwX3_rests_4 : List UInt8 := [132, 3, 1, 21, 4, 21, 5, 21, 6, 161, 0, 7, 4, 167, 0, 4, 3, 96, 54, 4, 132, 6, 1]
abbrev dktX3_rests_4 : List UInt8 := dkwX3_rests_4 ++ dktX3_rests_5
def dkwX3_rests_3 : List UInt8 := [154, 0, 6, 167, 0, 41, 29, 154, 0, 17, 42, 21, 5, 133, 182, 1, 28, 42, 21, 6, 133, 182, 1, 28]
abbrev dktX3_rests_3 : List UInt8 := dkwX3_rests_3 ++ dktX3_rests_4
def dkwX3_rests_2 : List UInt8 := [163, 0, 78, 3, 54, 6, 21, 6, 16, 9, 163, 0, 62, 21, 5, 21, 6, 27, 28, 184, 1, 145]
abbrev dktX3_rests_2 : List UInt8 := dkwX3_rests_2 ++ dktX3_rests_3
def dkwX3_rests_1 : List UInt8 := [154, 0, 5, 2, 172, 3, 62, 3, 54, 4, 42, 3, 181, 0, 117, 3, 54, 5, 21, 5, 16, 9]
abbrev dktX3_rests_1 : List UInt8 := dkwX3_rests_1 ++ dktX3_rests_2
def dkwX3_rests_0 : List UInt8 := [42, 3, 181, 0, 114, 27, 3, 16, 9, 184, 0, 123, 153, 0, 13, 28, 3, 16, 9, 184, 0, 123]
abbrev dktX3_rests_0 : List UInt8 := dkwX3_rests_0 ++ dktX3_rests_1
theorem dksX3_rests_0 : cX3_rests.data.toList.drop 0 = dktX3_rests_0 := by decide +kernel
theorem dksX3_rests_1 : cX3_rests.data.toList.drop 22 = dktX3_rests_1 := dk_seg dksX3_rests_0 22 rfl rfl
theorem dksX3_rests_2 : cX3_rests.data.toList.drop 44 = dktX3_rests_2 := dk_seg dksX3_rests_1 22 rfl rfl
theorem dksX3_rests_3 : cX3_rests.data.toList.drop 66 = dktX3_rests_3 := dk_seg dksX3_rests_2 22 rfl rfl
theorem dksX3_rests_4 : cX3_rests.data.toList.drop 90 = dktX3_rests_4 := dk_seg dksX3_rests_3 24 rfl rfl
theorem dksX3_rests_5 : cX3_rests.data.toList.drop 113 = dktX3_rests_5 := dk_seg dksX3_rests_4 23 rfl rfl
theorem dX3_rests_0 : decode cX3_rests 0 = .ok (.aload_n 0, 1) := dk_42 (dk_at dksX3_rests_0 0 rfl rfl)
theorem dX3_rests_1 : decode cX3_rests 1 = .ok (.iconst 0, 1) := dk_3 (dk_at dksX3_rests_0 1 rfl rfl)
theorem dX3_rests_2 : decode cX3_rests 2 = .ok (.putfield 114, 3) := dk_181 0 114 (dk_at dksX3_rests_0 2 rfl rfl)
theorem dX3_rests_5 : decode cX3_rests 5 = .ok (.iload_n 1, 1) := dk_27 (dk_at dksX3_rests_0 5 rfl rfl)
theorem dX3_rests_6 : decode cX3_rests 6 = .ok (.iconst 0, 1) := dk_3 (dk_at dksX3_rests_0 6 rfl rfl)
theorem dX3_rests_7 : decode cX3_rests 7 = .ok (.bipush 9, 2) := dk_16 9 (dk_at dksX3_rests_0 7 rfl rfl)
theorem dX3_rests_9 : decode cX3_rests 9 = .ok (.invokestatic 123, 3) := dk_184 0 123 (dk_at dksX3_rests_0 9 rfl rfl)
theorem dX3_rests_12 : decode cX3_rests 12 = .ok (.ifCond .eq 13, 3) := dk_153 0 13 (dk_at dksX3_rests_0 12 rfl rfl)
theorem dX3_rests_15 : decode cX3_rests 15 = .ok (.iload_n 2, 1) := dk_28 (dk_at dksX3_rests_0 15 rfl rfl)
theorem dX3_rests_16 : decode cX3_rests 16 = .ok (.iconst 0, 1) := dk_3 (dk_at dksX3_rests_0 16 rfl rfl)
theorem dX3_rests_17 : decode cX3_rests 17 = .ok (.bipush 9, 2) := dk_16 9 (dk_at dksX3_rests_0 17 rfl rfl)
theorem dX3_rests_19 : decode cX3_rests 19 = .ok (.invokestatic 123, 3) := dk_184 0 123 (dk_at dksX3_rests_0 19 rfl rfl)
theorem dX3_rests_22 : decode cX3_rests 22 = .ok (.ifCond .ne 5, 3) := dk_154 0 5 (dk_at dksX3_rests_1 0 rfl rfl)
theorem dX3_rests_25 : decode cX3_rests 25 = .ok (.iconst (-1), 1) := dk_2 (dk_at dksX3_rests_1 3 rfl rfl)
theorem dX3_rests_26 : decode cX3_rests 26 = .ok (.ireturn, 1) := dk_172 (dk_at dksX3_rests_1 4 rfl rfl)
theorem dX3_rests_27 : decode cX3_rests 27 = .ok (.iconst 0, 1) := dk_3 (dk_at dksX3_rests_1 5 rfl rfl)
theorem dX3_rests_28 : decode cX3_rests 28 = .ok (.istore_n 3, 1) := dk_62 (dk_at dksX3_rests_1 6 rfl rfl)
theorem dX3_rests_29 : decode cX3_rests 29 = .ok (.iconst 0, 1) := dk_3 (dk_at dksX3_rests_1 7 rfl rfl)
theorem dX3_rests_30 : decode cX3_rests 30 = .ok (.istore 4, 2) := dk_54 4 (dk_at dksX3_rests_1 8 rfl rfl)
theorem dX3_rests_32 : decode cX3_rests 32 = .ok (.aload_n 0, 1) := dk_42 (dk_at dksX3_rests_1 10 rfl rfl)
theorem dX3_rests_33 : decode cX3_rests 33 = .ok (.iconst 0, 1) := dk_3 (dk_at dksX3_rests_1 11 rfl rfl)
theorem dX3_rests_34 : decode cX3_rests 34 = .ok (.putfield 117, 3) := dk_181 0 117 (dk_at dksX3_rests_1 12 rfl rfl)
theorem dX3_rests_37 : decode cX3_rests 37 = .ok (.iconst 0, 1) := dk_3 (dk_at dksX3_rests_1 15 rfl rfl)
theorem dX3_rests_38 : decode cX3_rests 38 = .ok (.istore 5, 2) := dk_54 5 (dk_at dksX3_rests_1 16 rfl rfl)
theorem dX3_rests_40 : decode cX3_rests 40 = .ok (.iload 5, 2) := dk_21 5 (dk_at dksX3_rests_1 18 rfl rfl)
theorem dX3_rests_42 : decode cX3_rests 42 = .ok (.bipush 9, 2) := dk_16 9 (dk_at dksX3_rests_1 20 rfl rfl)
theorem dX3_rests_44 : decode cX3_rests 44 = .ok (.if_icmp .gt 78, 3) := dk_163 0 78 (dk_at dksX3_rests_2 0 rfl rfl)
theorem dX3_rests_47 : decode cX3_rests 47 = .ok (.iconst 0, 1) := dk_3 (dk_at dksX3_rests_2 3 rfl rfl)
theorem dX3_rests_48 : decode cX3_rests 48 = .ok (.istore 6, 2) := dk_54 6 (dk_at dksX3_rests_2 4 rfl rfl)
theorem dX3_rests_50 : decode cX3_rests 50 = .ok (.iload 6, 2) := dk_21 6 (dk_at dksX3_rests_2 6 rfl rfl)
theorem dX3_rests_52 : decode cX3_rests 52 = .ok (.bipush 9, 2) := dk_16 9 (dk_at dksX3_rests_2 8 rfl rfl)
theorem dX3_rests_54 : decode cX3_rests 54 = .ok (.if_icmp .gt 62, 3) := dk_163 0 62 (dk_at dksX3_rests_2 10 rfl rfl)
theorem dX3_rests_57 : decode cX3_rests 57 = .ok (.iload 5, 2) := dk_21 5 (dk_at dksX3_rests_2 13 rfl rfl)
theorem dX3_rests_59 : decode cX3_rests 59 = .ok (.iload 6, 2) := dk_21 6 (dk_at dksX3_rests_2 15 rfl rfl)
theorem dX3_rests_61 : decode cX3_rests 61 = .ok (.iload_n 1, 1) := dk_27 (dk_at dksX3_rests_2 17 rfl rfl)
theorem dX3_rests_62 : decode cX3_rests 62 = .ok (.iload_n 2, 1) := dk_28 (dk_at dksX3_rests_2 18 rfl rfl)
theorem dX3_rests_63 : decode cX3_rests 63 = .ok (.invokestatic 401, 3) := dk_184 1 145 (dk_at dksX3_rests_2 19 rfl rfl)
theorem dX3_rests_66 : decode cX3_rests 66 = .ok (.ifCond .ne 6, 3) := dk_154 0 6 (dk_at dksX3_rests_3 0 rfl rfl)
theorem dX3_rests_69 : decode cX3_rests 69 = .ok (.goto 41, 3) := dk_167 0 41 (dk_at dksX3_rests_3 3 rfl rfl)
theorem dX3_rests_72 : decode cX3_rests 72 = .ok (.iload_n 3, 1) := dk_29 (dk_at dksX3_rests_3 6 rfl rfl)
theorem dX3_rests_73 : decode cX3_rests 73 = .ok (.ifCond .ne 17, 3) := dk_154 0 17 (dk_at dksX3_rests_3 7 rfl rfl)
theorem dX3_rests_76 : decode cX3_rests 76 = .ok (.aload_n 0, 1) := dk_42 (dk_at dksX3_rests_3 10 rfl rfl)
theorem dX3_rests_77 : decode cX3_rests 77 = .ok (.iload 5, 2) := dk_21 5 (dk_at dksX3_rests_3 11 rfl rfl)
theorem dX3_rests_79 : decode cX3_rests 79 = .ok (.i2l, 1) := dk_133 (dk_at dksX3_rests_3 13 rfl rfl)
theorem dX3_rests_80 : decode cX3_rests 80 = .ok (.invokevirtual 284, 3) := dk_182 1 28 (dk_at dksX3_rests_3 14 rfl rfl)
theorem dX3_rests_83 : decode cX3_rests 83 = .ok (.aload_n 0, 1) := dk_42 (dk_at dksX3_rests_3 17 rfl rfl)
theorem dX3_rests_84 : decode cX3_rests 84 = .ok (.iload 6, 2) := dk_21 6 (dk_at dksX3_rests_3 18 rfl rfl)
theorem dX3_rests_86 : decode cX3_rests 86 = .ok (.i2l, 1) := dk_133 (dk_at dksX3_rests_3 20 rfl rfl)
theorem dX3_rests_87 : decode cX3_rests 87 = .ok (.invokevirtual 284, 3) := dk_182 1 28 (dk_at dksX3_rests_3 21 rfl rfl)
theorem dX3_rests_90 : decode cX3_rests 90 = .ok (.iinc 3 1, 3) := dk_132 3 1 (dk_at dksX3_rests_4 0 rfl rfl)
theorem dX3_rests_93 : decode cX3_rests 93 = .ok (.iload 4, 2) := dk_21 4 (dk_at dksX3_rests_4 3 rfl rfl)
theorem dX3_rests_95 : decode cX3_rests 95 = .ok (.iload 5, 2) := dk_21 5 (dk_at dksX3_rests_4 5 rfl rfl)
theorem dX3_rests_97 : decode cX3_rests 97 = .ok (.iload 6, 2) := dk_21 6 (dk_at dksX3_rests_4 7 rfl rfl)
theorem dX3_rests_99 : decode cX3_rests 99 = .ok (.if_icmp .lt 7, 3) := dk_161 0 7 (dk_at dksX3_rests_4 9 rfl rfl)
theorem dX3_rests_102 : decode cX3_rests 102 = .ok (.iconst 1, 1) := dk_4 (dk_at dksX3_rests_4 12 rfl rfl)
theorem dX3_rests_103 : decode cX3_rests 103 = .ok (.goto 4, 3) := dk_167 0 4 (dk_at dksX3_rests_4 13 rfl rfl)
theorem dX3_rests_106 : decode cX3_rests 106 = .ok (.iconst 0, 1) := dk_3 (dk_at dksX3_rests_4 16 rfl rfl)
theorem dX3_rests_107 : decode cX3_rests 107 = .ok (.iadd, 1) := dk_96 (dk_at dksX3_rests_4 17 rfl rfl)
theorem dX3_rests_108 : decode cX3_rests 108 = .ok (.istore 4, 2) := dk_54 4 (dk_at dksX3_rests_4 18 rfl rfl)
theorem dX3_rests_110 : decode cX3_rests 110 = .ok (.iinc 6 1, 3) := dk_132 6 1 (dk_at dksX3_rests_4 20 rfl rfl)
theorem dX3_rests_113 : decode cX3_rests 113 = .ok (.goto (-63), 3) := dk_167 255 193 (dk_at dksX3_rests_5 0 rfl rfl)
theorem dX3_rests_116 : decode cX3_rests 116 = .ok (.iinc 5 1, 3) := dk_132 5 1 (dk_at dksX3_rests_5 3 rfl rfl)
theorem dX3_rests_119 : decode cX3_rests 119 = .ok (.goto (-79), 3) := dk_167 255 177 (dk_at dksX3_rests_5 6 rfl rfl)
theorem dX3_rests_122 : decode cX3_rests 122 = .ok (.iload_n 3, 1) := dk_29 (dk_at dksX3_rests_5 9 rfl rfl)
theorem dX3_rests_123 : decode cX3_rests 123 = .ok (.ifCond .le 10, 3) := dk_158 0 10 (dk_at dksX3_rests_5 10 rfl rfl)
theorem dX3_rests_126 : decode cX3_rests 126 = .ok (.aload_n 0, 1) := dk_42 (dk_at dksX3_rests_5 13 rfl rfl)
theorem dX3_rests_127 : decode cX3_rests 127 = .ok (.iload 4, 2) := dk_21 4 (dk_at dksX3_rests_5 14 rfl rfl)
theorem dX3_rests_129 : decode cX3_rests 129 = .ok (.i2l, 1) := dk_133 (dk_at dksX3_rests_5 16 rfl rfl)
theorem dX3_rests_130 : decode cX3_rests 130 = .ok (.invokevirtual 284, 3) := dk_182 1 28 (dk_at dksX3_rests_5 17 rfl rfl)
theorem dX3_rests_133 : decode cX3_rests 133 = .ok (.iload_n 3, 1) := dk_29 (dk_at dksX3_rests_5 20 rfl rfl)
theorem dX3_rests_134 : decode cX3_rests 134 = .ok (.ireturn, 1) := dk_172 (dk_at dksX3_rests_5 21 rfl rfl)
abbrev cX3_isRest : ByteArray := prog_9_method_109_code
def yX3_isRest : MethodName := ⟨RX3, "isRest", "(IIII)Z"⟩
def dkwX3_isRest_2 : List UInt8 := [167, 255, 212, 4, 172]
abbrev dktX3_isRest_2 : List UInt8 := dkwX3_isRest_2 ++ []
def dkwX3_isRest_1 : List UInt8 := [163, 0, 19, 26, 21, 4, 29, 184, 1, 142, 26, 27, 29, 184, 1, 142, 164, 0, 5, 3, 172, 132, 4, 1]
abbrev dktX3_isRest_1 : List UInt8 := dkwX3_isRest_1 ++ dktX3_isRest_2
def dkwX3_isRest_0 : List UInt8 := [3, 54, 4, 21, 4, 16, 9, 163, 0, 43, 21, 4, 27, 28, 184, 1, 139, 26, 27, 28, 184, 1, 139]
abbrev dktX3_isRest_0 : List UInt8 := dkwX3_isRest_0 ++ dktX3_isRest_1
theorem dksX3_isRest_0 : cX3_isRest.data.toList.drop 0 = dktX3_isRest_0 := by decide +kernel
theorem dksX3_isRest_1 : cX3_isRest.data.toList.drop 23 = dktX3_isRest_1 := dk_seg dksX3_isRest_0 23 rfl rfl
theorem dksX3_isRest_2 : cX3_isRest.data.toList.drop 47 = dktX3_isRest_2 := dk_seg dksX3_isRest_1 24 rfl rfl
theorem dX3_isRest_0 : decode cX3_isRest 0 = .ok (.iconst 0, 1) := dk_3 (dk_at dksX3_isRest_0 0 rfl rfl)
theorem dX3_isRest_1 : decode cX3_isRest 1 = .ok (.istore 4, 2) := dk_54 4 (dk_at dksX3_isRest_0 1 rfl rfl)
theorem dX3_isRest_3 : decode cX3_isRest 3 = .ok (.iload 4, 2) := dk_21 4 (dk_at dksX3_isRest_0 3 rfl rfl)
theorem dX3_isRest_5 : decode cX3_isRest 5 = .ok (.bipush 9, 2) := dk_16 9 (dk_at dksX3_isRest_0 5 rfl rfl)
theorem dX3_isRest_7 : decode cX3_isRest 7 = .ok (.if_icmp .gt 43, 3) := dk_163 0 43 (dk_at dksX3_isRest_0 7 rfl rfl)
theorem dX3_isRest_10 : decode cX3_isRest 10 = .ok (.iload 4, 2) := dk_21 4 (dk_at dksX3_isRest_0 10 rfl rfl)
theorem dX3_isRest_12 : decode cX3_isRest 12 = .ok (.iload_n 1, 1) := dk_27 (dk_at dksX3_isRest_0 12 rfl rfl)
theorem dX3_isRest_13 : decode cX3_isRest 13 = .ok (.iload_n 2, 1) := dk_28 (dk_at dksX3_isRest_0 13 rfl rfl)
theorem dX3_isRest_14 : decode cX3_isRest 14 = .ok (.invokestatic 395, 3) := dk_184 1 139 (dk_at dksX3_isRest_0 14 rfl rfl)
theorem dX3_isRest_17 : decode cX3_isRest 17 = .ok (.iload_n 0, 1) := dk_26 (dk_at dksX3_isRest_0 17 rfl rfl)
theorem dX3_isRest_18 : decode cX3_isRest 18 = .ok (.iload_n 1, 1) := dk_27 (dk_at dksX3_isRest_0 18 rfl rfl)
theorem dX3_isRest_19 : decode cX3_isRest 19 = .ok (.iload_n 2, 1) := dk_28 (dk_at dksX3_isRest_0 19 rfl rfl)
theorem dX3_isRest_20 : decode cX3_isRest 20 = .ok (.invokestatic 395, 3) := dk_184 1 139 (dk_at dksX3_isRest_0 20 rfl rfl)
theorem dX3_isRest_23 : decode cX3_isRest 23 = .ok (.if_icmp .gt 19, 3) := dk_163 0 19 (dk_at dksX3_isRest_1 0 rfl rfl)
theorem dX3_isRest_26 : decode cX3_isRest 26 = .ok (.iload_n 0, 1) := dk_26 (dk_at dksX3_isRest_1 3 rfl rfl)
theorem dX3_isRest_27 : decode cX3_isRest 27 = .ok (.iload 4, 2) := dk_21 4 (dk_at dksX3_isRest_1 4 rfl rfl)
theorem dX3_isRest_29 : decode cX3_isRest 29 = .ok (.iload_n 3, 1) := dk_29 (dk_at dksX3_isRest_1 6 rfl rfl)
theorem dX3_isRest_30 : decode cX3_isRest 30 = .ok (.invokestatic 398, 3) := dk_184 1 142 (dk_at dksX3_isRest_1 7 rfl rfl)
theorem dX3_isRest_33 : decode cX3_isRest 33 = .ok (.iload_n 0, 1) := dk_26 (dk_at dksX3_isRest_1 10 rfl rfl)
theorem dX3_isRest_34 : decode cX3_isRest 34 = .ok (.iload_n 1, 1) := dk_27 (dk_at dksX3_isRest_1 11 rfl rfl)
theorem dX3_isRest_35 : decode cX3_isRest 35 = .ok (.iload_n 3, 1) := dk_29 (dk_at dksX3_isRest_1 12 rfl rfl)
theorem dX3_isRest_36 : decode cX3_isRest 36 = .ok (.invokestatic 398, 3) := dk_184 1 142 (dk_at dksX3_isRest_1 13 rfl rfl)
theorem dX3_isRest_39 : decode cX3_isRest 39 = .ok (.if_icmp .le 5, 3) := dk_164 0 5 (dk_at dksX3_isRest_1 16 rfl rfl)
theorem dX3_isRest_42 : decode cX3_isRest 42 = .ok (.iconst 0, 1) := dk_3 (dk_at dksX3_isRest_1 19 rfl rfl)
theorem dX3_isRest_43 : decode cX3_isRest 43 = .ok (.ireturn, 1) := dk_172 (dk_at dksX3_isRest_1 20 rfl rfl)
theorem dX3_isRest_44 : decode cX3_isRest 44 = .ok (.iinc 4 1, 3) := dk_132 4 1 (dk_at dksX3_isRest_1 21 rfl rfl)
theorem dX3_isRest_47 : decode cX3_isRest 47 = .ok (.goto (-44), 3) := dk_167 255 212 (dk_at dksX3_isRest_2 0 rfl rfl)
theorem dX3_isRest_50 : decode cX3_isRest 50 = .ok (.iconst 1, 1) := dk_4 (dk_at dksX3_isRest_2 3 rfl rfl)
theorem dX3_isRest_51 : decode cX3_isRest 51 = .ok (.ireturn, 1) := dk_172 (dk_at dksX3_isRest_2 4 rfl rfl)
abbrev cX3_firstGets : ByteArray := prog_9_method_107_code
def yX3_firstGets : MethodName := ⟨RX3, "firstGets", "(III)I"⟩
def dkwX3_firstGets_0 : List UInt8 := [26, 27, 161, 0, 9, 28, 27, 100, 167, 0, 4, 3, 172]
abbrev dktX3_firstGets_0 : List UInt8 := dkwX3_firstGets_0 ++ []
theorem dksX3_firstGets_0 : cX3_firstGets.data.toList.drop 0 = dktX3_firstGets_0 := by decide +kernel
theorem dX3_firstGets_0 : decode cX3_firstGets 0 = .ok (.iload_n 0, 1) := dk_26 (dk_at dksX3_firstGets_0 0 rfl rfl)
theorem dX3_firstGets_1 : decode cX3_firstGets 1 = .ok (.iload_n 1, 1) := dk_27 (dk_at dksX3_firstGets_0 1 rfl rfl)
theorem dX3_firstGets_2 : decode cX3_firstGets 2 = .ok (.if_icmp .lt 9, 3) := dk_161 0 9 (dk_at dksX3_firstGets_0 2 rfl rfl)
theorem dX3_firstGets_5 : decode cX3_firstGets 5 = .ok (.iload_n 2, 1) := dk_28 (dk_at dksX3_firstGets_0 5 rfl rfl)
theorem dX3_firstGets_6 : decode cX3_firstGets 6 = .ok (.iload_n 1, 1) := dk_27 (dk_at dksX3_firstGets_0 6 rfl rfl)
theorem dX3_firstGets_7 : decode cX3_firstGets 7 = .ok (.isub, 1) := dk_100 (dk_at dksX3_firstGets_0 7 rfl rfl)
theorem dX3_firstGets_8 : decode cX3_firstGets 8 = .ok (.goto 4, 3) := dk_167 0 4 (dk_at dksX3_firstGets_0 8 rfl rfl)
theorem dX3_firstGets_11 : decode cX3_firstGets 11 = .ok (.iconst 0, 1) := dk_3 (dk_at dksX3_firstGets_0 11 rfl rfl)
theorem dX3_firstGets_12 : decode cX3_firstGets 12 = .ok (.ireturn, 1) := dk_172 (dk_at dksX3_firstGets_0 12 rfl rfl)
abbrev cX3_otherGets : ByteArray := prog_9_method_108_code
def yX3_otherGets : MethodName := ⟨RX3, "otherGets", "(III)I"⟩
def dkwX3_otherGets_0 : List UInt8 := [27, 26, 164, 0, 9, 28, 26, 100, 167, 0, 4, 3, 172]
abbrev dktX3_otherGets_0 : List UInt8 := dkwX3_otherGets_0 ++ []
theorem dksX3_otherGets_0 : cX3_otherGets.data.toList.drop 0 = dktX3_otherGets_0 := by decide +kernel
theorem dX3_otherGets_0 : decode cX3_otherGets 0 = .ok (.iload_n 1, 1) := dk_27 (dk_at dksX3_otherGets_0 0 rfl rfl)
theorem dX3_otherGets_1 : decode cX3_otherGets 1 = .ok (.iload_n 0, 1) := dk_26 (dk_at dksX3_otherGets_0 1 rfl rfl)
theorem dX3_otherGets_2 : decode cX3_otherGets 2 = .ok (.if_icmp .le 9, 3) := dk_164 0 9 (dk_at dksX3_otherGets_0 2 rfl rfl)
theorem dX3_otherGets_5 : decode cX3_otherGets 5 = .ok (.iload_n 2, 1) := dk_28 (dk_at dksX3_otherGets_0 5 rfl rfl)
theorem dX3_otherGets_6 : decode cX3_otherGets 6 = .ok (.iload_n 0, 1) := dk_26 (dk_at dksX3_otherGets_0 6 rfl rfl)
theorem dX3_otherGets_7 : decode cX3_otherGets 7 = .ok (.isub, 1) := dk_100 (dk_at dksX3_otherGets_0 7 rfl rfl)
theorem dX3_otherGets_8 : decode cX3_otherGets 8 = .ok (.goto 4, 3) := dk_167 0 4 (dk_at dksX3_otherGets_0 8 rfl rfl)
theorem dX3_otherGets_11 : decode cX3_otherGets 11 = .ok (.iconst 0, 1) := dk_3 (dk_at dksX3_otherGets_0 11 rfl rfl)
theorem dX3_otherGets_12 : decode cX3_otherGets 12 = .ok (.ireturn, 1) := dk_172 (dk_at dksX3_otherGets_0 12 rfl rfl)
abbrev cX3_law : ByteArray := prog_9_method_112_code
def yX3_law : MethodName := ⟨RX3, "law", "()I"⟩
def dkwX3_law_5 : List UInt8 := [21, 5, 28, 100, 172]
abbrev dktX3_law_5 : List UInt8 := dkwX3_law_5 ++ []
def dkwX3_law_4 : List UInt8 := [42, 21, 4, 181, 0, 218, 42, 3, 181, 0, 117, 42, 21, 5, 133, 182, 1, 28, 42, 28, 133, 182, 1, 28]
abbrev dktX3_law_4 : List UInt8 := dkwX3_law_4 ++ dktX3_law_5
def dkwX3_law_3 : List UInt8 := [180, 0, 29, 21, 5, 51, 84, 132, 5, 1, 167, 255, 233, 42, 182, 1, 149, 54, 5, 42, 45, 181, 0, 40]
abbrev dktX3_law_3 : List UInt8 := dkwX3_law_3 ++ dktX3_law_4
def dkwX3_law_2 : List UInt8 := [181, 0, 40, 42, 27, 181, 0, 218, 3, 54, 5, 21, 5, 27, 162, 0, 23, 42, 180, 0, 40, 21, 5, 42]
abbrev dktX3_law_2 : List UInt8 := dkwX3_law_2 ++ dktX3_law_3
def dkwX3_law_1 : List UInt8 := [100, 172, 42, 182, 1, 149, 61, 42, 180, 0, 40, 78, 42, 180, 0, 218, 54, 4, 42, 42, 180, 0, 43]
abbrev dktX3_law_1 : List UInt8 := dkwX3_law_1 ++ dktX3_law_2
def dkwX3_law_0 : List UInt8 := [42, 3, 181, 0, 114, 42, 180, 0, 131, 60, 42, 182, 0, 215, 154, 0, 12, 17, 216, 240, 42, 180, 0, 146]
abbrev dktX3_law_0 : List UInt8 := dkwX3_law_0 ++ dktX3_law_1
theorem dksX3_law_0 : cX3_law.data.toList.drop 0 = dktX3_law_0 := by decide +kernel
theorem dksX3_law_1 : cX3_law.data.toList.drop 24 = dktX3_law_1 := dk_seg dksX3_law_0 24 rfl rfl
theorem dksX3_law_2 : cX3_law.data.toList.drop 47 = dktX3_law_2 := dk_seg dksX3_law_1 23 rfl rfl
theorem dksX3_law_3 : cX3_law.data.toList.drop 71 = dktX3_law_3 := dk_seg dksX3_law_2 24 rfl rfl
theorem dksX3_law_4 : cX3_law.data.toList.drop 95 = dktX3_law_4 := dk_seg dksX3_law_3 24 rfl rfl
theorem dksX3_law_5 : cX3_law.data.toList.drop 119 = dktX3_law_5 := dk_seg dksX3_law_4 24 rfl rfl
theorem dX3_law_0 : decode cX3_law 0 = .ok (.aload_n 0, 1) := dk_42 (dk_at dksX3_law_0 0 rfl rfl)
theorem dX3_law_1 : decode cX3_law 1 = .ok (.iconst 0, 1) := dk_3 (dk_at dksX3_law_0 1 rfl rfl)
theorem dX3_law_2 : decode cX3_law 2 = .ok (.putfield 114, 3) := dk_181 0 114 (dk_at dksX3_law_0 2 rfl rfl)
theorem dX3_law_5 : decode cX3_law 5 = .ok (.aload_n 0, 1) := dk_42 (dk_at dksX3_law_0 5 rfl rfl)
theorem dX3_law_6 : decode cX3_law 6 = .ok (.getfield 131, 3) := dk_180 0 131 (dk_at dksX3_law_0 6 rfl rfl)
theorem dX3_law_9 : decode cX3_law 9 = .ok (.istore_n 1, 1) := dk_60 (dk_at dksX3_law_0 9 rfl rfl)
theorem dX3_law_10 : decode cX3_law 10 = .ok (.aload_n 0, 1) := dk_42 (dk_at dksX3_law_0 10 rfl rfl)
theorem dX3_law_11 : decode cX3_law 11 = .ok (.invokevirtual 215, 3) := dk_182 0 215 (dk_at dksX3_law_0 11 rfl rfl)
theorem dX3_law_14 : decode cX3_law 14 = .ok (.ifCond .ne 12, 3) := dk_154 0 12 (dk_at dksX3_law_0 14 rfl rfl)
theorem dX3_law_17 : decode cX3_law 17 = .ok (.sipush (-10000), 3) := dk_17 216 240 (dk_at dksX3_law_0 17 rfl rfl)
theorem dX3_law_20 : decode cX3_law 20 = .ok (.aload_n 0, 1) := dk_42 (dk_at dksX3_law_0 20 rfl rfl)
theorem dX3_law_21 : decode cX3_law 21 = .ok (.getfield 146, 3) := dk_180 0 146 (dk_at dksX3_law_0 21 rfl rfl)
theorem dX3_law_24 : decode cX3_law 24 = .ok (.isub, 1) := dk_100 (dk_at dksX3_law_1 0 rfl rfl)
theorem dX3_law_25 : decode cX3_law 25 = .ok (.ireturn, 1) := dk_172 (dk_at dksX3_law_1 1 rfl rfl)
theorem dX3_law_26 : decode cX3_law 26 = .ok (.aload_n 0, 1) := dk_42 (dk_at dksX3_law_1 2 rfl rfl)
theorem dX3_law_27 : decode cX3_law 27 = .ok (.invokevirtual 405, 3) := dk_182 1 149 (dk_at dksX3_law_1 3 rfl rfl)
theorem dX3_law_30 : decode cX3_law 30 = .ok (.istore_n 2, 1) := dk_61 (dk_at dksX3_law_1 6 rfl rfl)
theorem dX3_law_31 : decode cX3_law 31 = .ok (.aload_n 0, 1) := dk_42 (dk_at dksX3_law_1 7 rfl rfl)
theorem dX3_law_32 : decode cX3_law 32 = .ok (.getfield 40, 3) := dk_180 0 40 (dk_at dksX3_law_1 8 rfl rfl)
theorem dX3_law_35 : decode cX3_law 35 = .ok (.astore_n 3, 1) := dk_78 (dk_at dksX3_law_1 11 rfl rfl)
theorem dX3_law_36 : decode cX3_law 36 = .ok (.aload_n 0, 1) := dk_42 (dk_at dksX3_law_1 12 rfl rfl)
theorem dX3_law_37 : decode cX3_law 37 = .ok (.getfield 218, 3) := dk_180 0 218 (dk_at dksX3_law_1 13 rfl rfl)
theorem dX3_law_40 : decode cX3_law 40 = .ok (.istore 4, 2) := dk_54 4 (dk_at dksX3_law_1 16 rfl rfl)
theorem dX3_law_42 : decode cX3_law 42 = .ok (.aload_n 0, 1) := dk_42 (dk_at dksX3_law_1 18 rfl rfl)
theorem dX3_law_43 : decode cX3_law 43 = .ok (.aload_n 0, 1) := dk_42 (dk_at dksX3_law_1 19 rfl rfl)
theorem dX3_law_44 : decode cX3_law 44 = .ok (.getfield 43, 3) := dk_180 0 43 (dk_at dksX3_law_1 20 rfl rfl)
theorem dX3_law_47 : decode cX3_law 47 = .ok (.putfield 40, 3) := dk_181 0 40 (dk_at dksX3_law_2 0 rfl rfl)
theorem dX3_law_50 : decode cX3_law 50 = .ok (.aload_n 0, 1) := dk_42 (dk_at dksX3_law_2 3 rfl rfl)
theorem dX3_law_51 : decode cX3_law 51 = .ok (.iload_n 1, 1) := dk_27 (dk_at dksX3_law_2 4 rfl rfl)
theorem dX3_law_52 : decode cX3_law 52 = .ok (.putfield 218, 3) := dk_181 0 218 (dk_at dksX3_law_2 5 rfl rfl)
theorem dX3_law_55 : decode cX3_law 55 = .ok (.iconst 0, 1) := dk_3 (dk_at dksX3_law_2 8 rfl rfl)
theorem dX3_law_56 : decode cX3_law 56 = .ok (.istore 5, 2) := dk_54 5 (dk_at dksX3_law_2 9 rfl rfl)
theorem dX3_law_58 : decode cX3_law 58 = .ok (.iload 5, 2) := dk_21 5 (dk_at dksX3_law_2 11 rfl rfl)
theorem dX3_law_60 : decode cX3_law 60 = .ok (.iload_n 1, 1) := dk_27 (dk_at dksX3_law_2 13 rfl rfl)
theorem dX3_law_61 : decode cX3_law 61 = .ok (.if_icmp .ge 23, 3) := dk_162 0 23 (dk_at dksX3_law_2 14 rfl rfl)
theorem dX3_law_64 : decode cX3_law 64 = .ok (.aload_n 0, 1) := dk_42 (dk_at dksX3_law_2 17 rfl rfl)
theorem dX3_law_65 : decode cX3_law 65 = .ok (.getfield 40, 3) := dk_180 0 40 (dk_at dksX3_law_2 18 rfl rfl)
theorem dX3_law_68 : decode cX3_law 68 = .ok (.iload 5, 2) := dk_21 5 (dk_at dksX3_law_2 21 rfl rfl)
theorem dX3_law_70 : decode cX3_law 70 = .ok (.aload_n 0, 1) := dk_42 (dk_at dksX3_law_2 23 rfl rfl)
theorem dX3_law_71 : decode cX3_law 71 = .ok (.getfield 29, 3) := dk_180 0 29 (dk_at dksX3_law_3 0 rfl rfl)
theorem dX3_law_74 : decode cX3_law 74 = .ok (.iload 5, 2) := dk_21 5 (dk_at dksX3_law_3 3 rfl rfl)
theorem dX3_law_76 : decode cX3_law 76 = .ok (.baload, 1) := dk_51 (dk_at dksX3_law_3 5 rfl rfl)
theorem dX3_law_77 : decode cX3_law 77 = .ok (.bastore, 1) := dk_84 (dk_at dksX3_law_3 6 rfl rfl)
theorem dX3_law_78 : decode cX3_law 78 = .ok (.iinc 5 1, 3) := dk_132 5 1 (dk_at dksX3_law_3 7 rfl rfl)
theorem dX3_law_81 : decode cX3_law 81 = .ok (.goto (-23), 3) := dk_167 255 233 (dk_at dksX3_law_3 10 rfl rfl)
theorem dX3_law_84 : decode cX3_law 84 = .ok (.aload_n 0, 1) := dk_42 (dk_at dksX3_law_3 13 rfl rfl)
theorem dX3_law_85 : decode cX3_law 85 = .ok (.invokevirtual 405, 3) := dk_182 1 149 (dk_at dksX3_law_3 14 rfl rfl)
theorem dX3_law_88 : decode cX3_law 88 = .ok (.istore 5, 2) := dk_54 5 (dk_at dksX3_law_3 17 rfl rfl)
theorem dX3_law_90 : decode cX3_law 90 = .ok (.aload_n 0, 1) := dk_42 (dk_at dksX3_law_3 19 rfl rfl)
theorem dX3_law_91 : decode cX3_law 91 = .ok (.aload_n 3, 1) := dk_45 (dk_at dksX3_law_3 20 rfl rfl)
theorem dX3_law_92 : decode cX3_law 92 = .ok (.putfield 40, 3) := dk_181 0 40 (dk_at dksX3_law_3 21 rfl rfl)
theorem dX3_law_95 : decode cX3_law 95 = .ok (.aload_n 0, 1) := dk_42 (dk_at dksX3_law_4 0 rfl rfl)
theorem dX3_law_96 : decode cX3_law 96 = .ok (.iload 4, 2) := dk_21 4 (dk_at dksX3_law_4 1 rfl rfl)
theorem dX3_law_98 : decode cX3_law 98 = .ok (.putfield 218, 3) := dk_181 0 218 (dk_at dksX3_law_4 3 rfl rfl)
theorem dX3_law_101 : decode cX3_law 101 = .ok (.aload_n 0, 1) := dk_42 (dk_at dksX3_law_4 6 rfl rfl)
theorem dX3_law_102 : decode cX3_law 102 = .ok (.iconst 0, 1) := dk_3 (dk_at dksX3_law_4 7 rfl rfl)
theorem dX3_law_103 : decode cX3_law 103 = .ok (.putfield 117, 3) := dk_181 0 117 (dk_at dksX3_law_4 8 rfl rfl)
theorem dX3_law_106 : decode cX3_law 106 = .ok (.aload_n 0, 1) := dk_42 (dk_at dksX3_law_4 11 rfl rfl)
theorem dX3_law_107 : decode cX3_law 107 = .ok (.iload 5, 2) := dk_21 5 (dk_at dksX3_law_4 12 rfl rfl)
theorem dX3_law_109 : decode cX3_law 109 = .ok (.i2l, 1) := dk_133 (dk_at dksX3_law_4 14 rfl rfl)
theorem dX3_law_110 : decode cX3_law 110 = .ok (.invokevirtual 284, 3) := dk_182 1 28 (dk_at dksX3_law_4 15 rfl rfl)
theorem dX3_law_113 : decode cX3_law 113 = .ok (.aload_n 0, 1) := dk_42 (dk_at dksX3_law_4 18 rfl rfl)
theorem dX3_law_114 : decode cX3_law 114 = .ok (.iload_n 2, 1) := dk_28 (dk_at dksX3_law_4 19 rfl rfl)
theorem dX3_law_115 : decode cX3_law 115 = .ok (.i2l, 1) := dk_133 (dk_at dksX3_law_4 20 rfl rfl)
theorem dX3_law_116 : decode cX3_law 116 = .ok (.invokevirtual 284, 3) := dk_182 1 28 (dk_at dksX3_law_4 21 rfl rfl)
theorem dX3_law_119 : decode cX3_law 119 = .ok (.iload 5, 2) := dk_21 5 (dk_at dksX3_law_5 0 rfl rfl)
theorem dX3_law_121 : decode cX3_law 121 = .ok (.iload_n 2, 1) := dk_28 (dk_at dksX3_law_5 2 rfl rfl)
theorem dX3_law_122 : decode cX3_law 122 = .ok (.isub, 1) := dk_100 (dk_at dksX3_law_5 3 rfl rfl)
theorem dX3_law_123 : decode cX3_law 123 = .ok (.ireturn, 1) := dk_172 (dk_at dksX3_law_5 4 rfl rfl)
abbrev cX3_hardOfRota : ByteArray := prog_9_method_111_code
def yX3_hardOfRota : MethodName := ⟨RX3, "hardOfRota", "()I"⟩
def dkwX3_hardOfRota_2 : List UInt8 := [167, 255, 213, 27, 172]
abbrev dktX3_hardOfRota_2 : List UInt8 := dkwX3_hardOfRota_2 ++ []
def dkwX3_hardOfRota_1 : List UInt8 := [167, 0, 18, 42, 42, 180, 0, 9, 42, 180, 0, 9, 28, 46, 28, 182, 0, 245, 96, 60, 132, 2, 1]
abbrev dktX3_hardOfRota_1 : List UInt8 := dkwX3_hardOfRota_1 ++ dktX3_hardOfRota_2
def dkwX3_hardOfRota_0 : List UInt8 := [3, 60, 3, 61, 28, 42, 180, 0, 13, 162, 0, 41, 27, 42, 180, 0, 9, 28, 46, 2, 160, 0, 7, 3]
abbrev dktX3_hardOfRota_0 : List UInt8 := dkwX3_hardOfRota_0 ++ dktX3_hardOfRota_1
theorem dksX3_hardOfRota_0 : cX3_hardOfRota.data.toList.drop 0 = dktX3_hardOfRota_0 := by decide +kernel
theorem dksX3_hardOfRota_1 : cX3_hardOfRota.data.toList.drop 24 = dktX3_hardOfRota_1 := dk_seg dksX3_hardOfRota_0 24 rfl rfl
theorem dksX3_hardOfRota_2 : cX3_hardOfRota.data.toList.drop 47 = dktX3_hardOfRota_2 := dk_seg dksX3_hardOfRota_1 23 rfl rfl
theorem dX3_hardOfRota_0 : decode cX3_hardOfRota 0 = .ok (.iconst 0, 1) := dk_3 (dk_at dksX3_hardOfRota_0 0 rfl rfl)
theorem dX3_hardOfRota_1 : decode cX3_hardOfRota 1 = .ok (.istore_n 1, 1) := dk_60 (dk_at dksX3_hardOfRota_0 1 rfl rfl)
theorem dX3_hardOfRota_2 : decode cX3_hardOfRota 2 = .ok (.iconst 0, 1) := dk_3 (dk_at dksX3_hardOfRota_0 2 rfl rfl)
theorem dX3_hardOfRota_3 : decode cX3_hardOfRota 3 = .ok (.istore_n 2, 1) := dk_61 (dk_at dksX3_hardOfRota_0 3 rfl rfl)
theorem dX3_hardOfRota_4 : decode cX3_hardOfRota 4 = .ok (.iload_n 2, 1) := dk_28 (dk_at dksX3_hardOfRota_0 4 rfl rfl)
theorem dX3_hardOfRota_5 : decode cX3_hardOfRota 5 = .ok (.aload_n 0, 1) := dk_42 (dk_at dksX3_hardOfRota_0 5 rfl rfl)
theorem dX3_hardOfRota_6 : decode cX3_hardOfRota 6 = .ok (.getfield 13, 3) := dk_180 0 13 (dk_at dksX3_hardOfRota_0 6 rfl rfl)
theorem dX3_hardOfRota_9 : decode cX3_hardOfRota 9 = .ok (.if_icmp .ge 41, 3) := dk_162 0 41 (dk_at dksX3_hardOfRota_0 9 rfl rfl)
theorem dX3_hardOfRota_12 : decode cX3_hardOfRota 12 = .ok (.iload_n 1, 1) := dk_27 (dk_at dksX3_hardOfRota_0 12 rfl rfl)
theorem dX3_hardOfRota_13 : decode cX3_hardOfRota 13 = .ok (.aload_n 0, 1) := dk_42 (dk_at dksX3_hardOfRota_0 13 rfl rfl)
theorem dX3_hardOfRota_14 : decode cX3_hardOfRota 14 = .ok (.getfield 9, 3) := dk_180 0 9 (dk_at dksX3_hardOfRota_0 14 rfl rfl)
theorem dX3_hardOfRota_17 : decode cX3_hardOfRota 17 = .ok (.iload_n 2, 1) := dk_28 (dk_at dksX3_hardOfRota_0 17 rfl rfl)
theorem dX3_hardOfRota_18 : decode cX3_hardOfRota 18 = .ok (.iaload, 1) := dk_46 (dk_at dksX3_hardOfRota_0 18 rfl rfl)
theorem dX3_hardOfRota_19 : decode cX3_hardOfRota 19 = .ok (.iconst (-1), 1) := dk_2 (dk_at dksX3_hardOfRota_0 19 rfl rfl)
theorem dX3_hardOfRota_20 : decode cX3_hardOfRota 20 = .ok (.if_icmp .ne 7, 3) := dk_160 0 7 (dk_at dksX3_hardOfRota_0 20 rfl rfl)
theorem dX3_hardOfRota_23 : decode cX3_hardOfRota 23 = .ok (.iconst 0, 1) := dk_3 (dk_at dksX3_hardOfRota_0 23 rfl rfl)
theorem dX3_hardOfRota_24 : decode cX3_hardOfRota 24 = .ok (.goto 18, 3) := dk_167 0 18 (dk_at dksX3_hardOfRota_1 0 rfl rfl)
theorem dX3_hardOfRota_27 : decode cX3_hardOfRota 27 = .ok (.aload_n 0, 1) := dk_42 (dk_at dksX3_hardOfRota_1 3 rfl rfl)
theorem dX3_hardOfRota_28 : decode cX3_hardOfRota 28 = .ok (.aload_n 0, 1) := dk_42 (dk_at dksX3_hardOfRota_1 4 rfl rfl)
theorem dX3_hardOfRota_29 : decode cX3_hardOfRota 29 = .ok (.getfield 9, 3) := dk_180 0 9 (dk_at dksX3_hardOfRota_1 5 rfl rfl)
theorem dX3_hardOfRota_32 : decode cX3_hardOfRota 32 = .ok (.aload_n 0, 1) := dk_42 (dk_at dksX3_hardOfRota_1 8 rfl rfl)
theorem dX3_hardOfRota_33 : decode cX3_hardOfRota 33 = .ok (.getfield 9, 3) := dk_180 0 9 (dk_at dksX3_hardOfRota_1 9 rfl rfl)
theorem dX3_hardOfRota_36 : decode cX3_hardOfRota 36 = .ok (.iload_n 2, 1) := dk_28 (dk_at dksX3_hardOfRota_1 12 rfl rfl)
theorem dX3_hardOfRota_37 : decode cX3_hardOfRota 37 = .ok (.iaload, 1) := dk_46 (dk_at dksX3_hardOfRota_1 13 rfl rfl)
theorem dX3_hardOfRota_38 : decode cX3_hardOfRota 38 = .ok (.iload_n 2, 1) := dk_28 (dk_at dksX3_hardOfRota_1 14 rfl rfl)
theorem dX3_hardOfRota_39 : decode cX3_hardOfRota 39 = .ok (.invokevirtual 245, 3) := dk_182 0 245 (dk_at dksX3_hardOfRota_1 15 rfl rfl)
theorem dX3_hardOfRota_42 : decode cX3_hardOfRota 42 = .ok (.iadd, 1) := dk_96 (dk_at dksX3_hardOfRota_1 18 rfl rfl)
theorem dX3_hardOfRota_43 : decode cX3_hardOfRota 43 = .ok (.istore_n 1, 1) := dk_60 (dk_at dksX3_hardOfRota_1 19 rfl rfl)
theorem dX3_hardOfRota_44 : decode cX3_hardOfRota 44 = .ok (.iinc 2 1, 3) := dk_132 2 1 (dk_at dksX3_hardOfRota_1 20 rfl rfl)
theorem dX3_hardOfRota_47 : decode cX3_hardOfRota 47 = .ok (.goto (-43), 3) := dk_167 255 213 (dk_at dksX3_hardOfRota_2 0 rfl rfl)
theorem dX3_hardOfRota_50 : decode cX3_hardOfRota 50 = .ok (.iload_n 1, 1) := dk_27 (dk_at dksX3_hardOfRota_2 3 rfl rfl)
theorem dX3_hardOfRota_51 : decode cX3_hardOfRota 51 = .ok (.ireturn, 1) := dk_172 (dk_at dksX3_hardOfRota_2 4 rfl rfl)
abbrev cX3_years : ByteArray := prog_9_method_114_code
def yX3_years : MethodName := ⟨RX3, "years", "(II)I"⟩
def dkwX3_years_8 : List UInt8 := [42, 180, 0, 55, 16, 25, 46, 42, 180, 0, 9, 16, 25, 46, 100, 172]
abbrev dktX3_years_8 : List UInt8 := dkwX3_years_8 ++ []
def dkwX3_years_7 : List UInt8 := [180, 0, 9, 16, 26, 46, 100, 133, 182, 1, 28, 42, 42, 42, 180, 0, 55, 182, 1, 32, 133, 182, 1, 28]
abbrev dktX3_years_7 : List UInt8 := dkwX3_years_7 ++ dktX3_years_8
def dkwX3_years_6 : List UInt8 := [182, 1, 156, 79, 132, 3, 1, 167, 255, 147, 42, 3, 181, 0, 117, 42, 42, 180, 0, 55, 16, 26, 46, 42]
abbrev dktX3_years_6 : List UInt8 := dkwX3_years_6 ++ dktX3_years_7
def dkwX3_years_5 : List UInt8 := [167, 0, 26, 42, 16, 8, 182, 1, 156, 54, 5, 42, 180, 0, 55, 21, 5, 42, 42, 180, 0, 120]
abbrev dktX3_years_5 : List UInt8 := dkwX3_years_5 ++ dktX3_years_6
def dkwX3_years_4 : List UInt8 := [54, 5, 42, 180, 0, 55, 16, 16, 21, 5, 96, 4, 42, 180, 0, 55, 16, 16, 21, 5, 96, 46, 100, 79]
abbrev dktX3_years_4 : List UInt8 := dkwX3_years_4 ++ dktX3_years_5
def dkwX3_years_3 : List UInt8 := [180, 0, 120, 154, 0, 6, 167, 0, 67, 21, 4, 5, 160, 0, 38, 42, 42, 180, 0, 120, 182, 1, 156]
abbrev dktX3_years_3 : List UInt8 := dkwX3_years_3 ++ dktX3_years_4
def dkwX3_years_2 : List UInt8 := [54, 4, 21, 4, 5, 162, 0, 11, 42, 42, 180, 0, 55, 182, 1, 21, 21, 4, 5, 161, 0, 77, 42]
abbrev dktX3_years_2 : List UInt8 := dkwX3_years_2 ++ dktX3_years_3
def dkwX3_years_1 : List UInt8 := [180, 0, 9, 42, 180, 0, 55, 3, 184, 0, 249, 3, 62, 29, 28, 162, 0, 110, 42, 7, 182, 1, 156]
abbrev dktX3_years_1 : List UInt8 := dkwX3_years_1 ++ dktX3_years_2
def dkwX3_years_0 : List UInt8 := [42, 3, 181, 0, 114, 28, 4, 16, 60, 184, 0, 123, 154, 0, 5, 2, 172, 42, 27, 181, 1, 152, 42]
abbrev dktX3_years_0 : List UInt8 := dkwX3_years_0 ++ dktX3_years_1
theorem dksX3_years_0 : cX3_years.data.toList.drop 0 = dktX3_years_0 := by decide +kernel
theorem dksX3_years_1 : cX3_years.data.toList.drop 23 = dktX3_years_1 := dk_seg dksX3_years_0 23 rfl rfl
theorem dksX3_years_2 : cX3_years.data.toList.drop 46 = dktX3_years_2 := dk_seg dksX3_years_1 23 rfl rfl
theorem dksX3_years_3 : cX3_years.data.toList.drop 69 = dktX3_years_3 := dk_seg dksX3_years_2 23 rfl rfl
theorem dksX3_years_4 : cX3_years.data.toList.drop 92 = dktX3_years_4 := dk_seg dksX3_years_3 23 rfl rfl
theorem dksX3_years_5 : cX3_years.data.toList.drop 116 = dktX3_years_5 := dk_seg dksX3_years_4 24 rfl rfl
theorem dksX3_years_6 : cX3_years.data.toList.drop 138 = dktX3_years_6 := dk_seg dksX3_years_5 22 rfl rfl
theorem dksX3_years_7 : cX3_years.data.toList.drop 162 = dktX3_years_7 := dk_seg dksX3_years_6 24 rfl rfl
theorem dksX3_years_8 : cX3_years.data.toList.drop 186 = dktX3_years_8 := dk_seg dksX3_years_7 24 rfl rfl
theorem dX3_years_0 : decode cX3_years 0 = .ok (.aload_n 0, 1) := dk_42 (dk_at dksX3_years_0 0 rfl rfl)
theorem dX3_years_1 : decode cX3_years 1 = .ok (.iconst 0, 1) := dk_3 (dk_at dksX3_years_0 1 rfl rfl)
theorem dX3_years_2 : decode cX3_years 2 = .ok (.putfield 114, 3) := dk_181 0 114 (dk_at dksX3_years_0 2 rfl rfl)
theorem dX3_years_5 : decode cX3_years 5 = .ok (.iload_n 2, 1) := dk_28 (dk_at dksX3_years_0 5 rfl rfl)
theorem dX3_years_6 : decode cX3_years 6 = .ok (.iconst 1, 1) := dk_4 (dk_at dksX3_years_0 6 rfl rfl)
theorem dX3_years_7 : decode cX3_years 7 = .ok (.bipush 60, 2) := dk_16 60 (dk_at dksX3_years_0 7 rfl rfl)
theorem dX3_years_9 : decode cX3_years 9 = .ok (.invokestatic 123, 3) := dk_184 0 123 (dk_at dksX3_years_0 9 rfl rfl)
theorem dX3_years_12 : decode cX3_years 12 = .ok (.ifCond .ne 5, 3) := dk_154 0 5 (dk_at dksX3_years_0 12 rfl rfl)
theorem dX3_years_15 : decode cX3_years 15 = .ok (.iconst (-1), 1) := dk_2 (dk_at dksX3_years_0 15 rfl rfl)
theorem dX3_years_16 : decode cX3_years 16 = .ok (.ireturn, 1) := dk_172 (dk_at dksX3_years_0 16 rfl rfl)
theorem dX3_years_17 : decode cX3_years 17 = .ok (.aload_n 0, 1) := dk_42 (dk_at dksX3_years_0 17 rfl rfl)
theorem dX3_years_18 : decode cX3_years 18 = .ok (.iload_n 1, 1) := dk_27 (dk_at dksX3_years_0 18 rfl rfl)
theorem dX3_years_19 : decode cX3_years 19 = .ok (.putfield 408, 3) := dk_181 1 152 (dk_at dksX3_years_0 19 rfl rfl)
theorem dX3_years_22 : decode cX3_years 22 = .ok (.aload_n 0, 1) := dk_42 (dk_at dksX3_years_0 22 rfl rfl)
theorem dX3_years_23 : decode cX3_years 23 = .ok (.getfield 9, 3) := dk_180 0 9 (dk_at dksX3_years_1 0 rfl rfl)
theorem dX3_years_26 : decode cX3_years 26 = .ok (.aload_n 0, 1) := dk_42 (dk_at dksX3_years_1 3 rfl rfl)
theorem dX3_years_27 : decode cX3_years 27 = .ok (.getfield 55, 3) := dk_180 0 55 (dk_at dksX3_years_1 4 rfl rfl)
theorem dX3_years_30 : decode cX3_years 30 = .ok (.iconst 0, 1) := dk_3 (dk_at dksX3_years_1 7 rfl rfl)
theorem dX3_years_31 : decode cX3_years 31 = .ok (.invokestatic 249, 3) := dk_184 0 249 (dk_at dksX3_years_1 8 rfl rfl)
theorem dX3_years_34 : decode cX3_years 34 = .ok (.iconst 0, 1) := dk_3 (dk_at dksX3_years_1 11 rfl rfl)
theorem dX3_years_35 : decode cX3_years 35 = .ok (.istore_n 3, 1) := dk_62 (dk_at dksX3_years_1 12 rfl rfl)
theorem dX3_years_36 : decode cX3_years 36 = .ok (.iload_n 3, 1) := dk_29 (dk_at dksX3_years_1 13 rfl rfl)
theorem dX3_years_37 : decode cX3_years 37 = .ok (.iload_n 2, 1) := dk_28 (dk_at dksX3_years_1 14 rfl rfl)
theorem dX3_years_38 : decode cX3_years 38 = .ok (.if_icmp .ge 110, 3) := dk_162 0 110 (dk_at dksX3_years_1 15 rfl rfl)
theorem dX3_years_41 : decode cX3_years 41 = .ok (.aload_n 0, 1) := dk_42 (dk_at dksX3_years_1 18 rfl rfl)
theorem dX3_years_42 : decode cX3_years 42 = .ok (.iconst 4, 1) := dk_7 (dk_at dksX3_years_1 19 rfl rfl)
theorem dX3_years_43 : decode cX3_years 43 = .ok (.invokevirtual 412, 3) := dk_182 1 156 (dk_at dksX3_years_1 20 rfl rfl)
theorem dX3_years_46 : decode cX3_years 46 = .ok (.istore 4, 2) := dk_54 4 (dk_at dksX3_years_2 0 rfl rfl)
theorem dX3_years_48 : decode cX3_years 48 = .ok (.iload 4, 2) := dk_21 4 (dk_at dksX3_years_2 2 rfl rfl)
theorem dX3_years_50 : decode cX3_years 50 = .ok (.iconst 2, 1) := dk_5 (dk_at dksX3_years_2 4 rfl rfl)
theorem dX3_years_51 : decode cX3_years 51 = .ok (.if_icmp .ge 11, 3) := dk_162 0 11 (dk_at dksX3_years_2 5 rfl rfl)
theorem dX3_years_54 : decode cX3_years 54 = .ok (.aload_n 0, 1) := dk_42 (dk_at dksX3_years_2 8 rfl rfl)
theorem dX3_years_55 : decode cX3_years 55 = .ok (.aload_n 0, 1) := dk_42 (dk_at dksX3_years_2 9 rfl rfl)
theorem dX3_years_56 : decode cX3_years 56 = .ok (.getfield 55, 3) := dk_180 0 55 (dk_at dksX3_years_2 10 rfl rfl)
theorem dX3_years_59 : decode cX3_years 59 = .ok (.invokevirtual 277, 3) := dk_182 1 21 (dk_at dksX3_years_2 13 rfl rfl)
theorem dX3_years_62 : decode cX3_years 62 = .ok (.iload 4, 2) := dk_21 4 (dk_at dksX3_years_2 16 rfl rfl)
theorem dX3_years_64 : decode cX3_years 64 = .ok (.iconst 2, 1) := dk_5 (dk_at dksX3_years_2 18 rfl rfl)
theorem dX3_years_65 : decode cX3_years 65 = .ok (.if_icmp .lt 77, 3) := dk_161 0 77 (dk_at dksX3_years_2 19 rfl rfl)
theorem dX3_years_68 : decode cX3_years 68 = .ok (.aload_n 0, 1) := dk_42 (dk_at dksX3_years_2 22 rfl rfl)
theorem dX3_years_69 : decode cX3_years 69 = .ok (.getfield 120, 3) := dk_180 0 120 (dk_at dksX3_years_3 0 rfl rfl)
theorem dX3_years_72 : decode cX3_years 72 = .ok (.ifCond .ne 6, 3) := dk_154 0 6 (dk_at dksX3_years_3 3 rfl rfl)
theorem dX3_years_75 : decode cX3_years 75 = .ok (.goto 67, 3) := dk_167 0 67 (dk_at dksX3_years_3 6 rfl rfl)
theorem dX3_years_78 : decode cX3_years 78 = .ok (.iload 4, 2) := dk_21 4 (dk_at dksX3_years_3 9 rfl rfl)
theorem dX3_years_80 : decode cX3_years 80 = .ok (.iconst 2, 1) := dk_5 (dk_at dksX3_years_3 11 rfl rfl)
theorem dX3_years_81 : decode cX3_years 81 = .ok (.if_icmp .ne 38, 3) := dk_160 0 38 (dk_at dksX3_years_3 12 rfl rfl)
theorem dX3_years_84 : decode cX3_years 84 = .ok (.aload_n 0, 1) := dk_42 (dk_at dksX3_years_3 15 rfl rfl)
theorem dX3_years_85 : decode cX3_years 85 = .ok (.aload_n 0, 1) := dk_42 (dk_at dksX3_years_3 16 rfl rfl)
theorem dX3_years_86 : decode cX3_years 86 = .ok (.getfield 120, 3) := dk_180 0 120 (dk_at dksX3_years_3 17 rfl rfl)
theorem dX3_years_89 : decode cX3_years 89 = .ok (.invokevirtual 412, 3) := dk_182 1 156 (dk_at dksX3_years_3 20 rfl rfl)
theorem dX3_years_92 : decode cX3_years 92 = .ok (.istore 5, 2) := dk_54 5 (dk_at dksX3_years_4 0 rfl rfl)
theorem dX3_years_94 : decode cX3_years 94 = .ok (.aload_n 0, 1) := dk_42 (dk_at dksX3_years_4 2 rfl rfl)
theorem dX3_years_95 : decode cX3_years 95 = .ok (.getfield 55, 3) := dk_180 0 55 (dk_at dksX3_years_4 3 rfl rfl)
theorem dX3_years_98 : decode cX3_years 98 = .ok (.bipush 16, 2) := dk_16 16 (dk_at dksX3_years_4 6 rfl rfl)
theorem dX3_years_100 : decode cX3_years 100 = .ok (.iload 5, 2) := dk_21 5 (dk_at dksX3_years_4 8 rfl rfl)
theorem dX3_years_102 : decode cX3_years 102 = .ok (.iadd, 1) := dk_96 (dk_at dksX3_years_4 10 rfl rfl)
theorem dX3_years_103 : decode cX3_years 103 = .ok (.iconst 1, 1) := dk_4 (dk_at dksX3_years_4 11 rfl rfl)
theorem dX3_years_104 : decode cX3_years 104 = .ok (.aload_n 0, 1) := dk_42 (dk_at dksX3_years_4 12 rfl rfl)
theorem dX3_years_105 : decode cX3_years 105 = .ok (.getfield 55, 3) := dk_180 0 55 (dk_at dksX3_years_4 13 rfl rfl)
theorem dX3_years_108 : decode cX3_years 108 = .ok (.bipush 16, 2) := dk_16 16 (dk_at dksX3_years_4 16 rfl rfl)
theorem dX3_years_110 : decode cX3_years 110 = .ok (.iload 5, 2) := dk_21 5 (dk_at dksX3_years_4 18 rfl rfl)
theorem dX3_years_112 : decode cX3_years 112 = .ok (.iadd, 1) := dk_96 (dk_at dksX3_years_4 20 rfl rfl)
theorem dX3_years_113 : decode cX3_years 113 = .ok (.iaload, 1) := dk_46 (dk_at dksX3_years_4 21 rfl rfl)
theorem dX3_years_114 : decode cX3_years 114 = .ok (.isub, 1) := dk_100 (dk_at dksX3_years_4 22 rfl rfl)
theorem dX3_years_115 : decode cX3_years 115 = .ok (.iastore, 1) := dk_79 (dk_at dksX3_years_4 23 rfl rfl)
theorem dX3_years_116 : decode cX3_years 116 = .ok (.goto 26, 3) := dk_167 0 26 (dk_at dksX3_years_5 0 rfl rfl)
theorem dX3_years_119 : decode cX3_years 119 = .ok (.aload_n 0, 1) := dk_42 (dk_at dksX3_years_5 3 rfl rfl)
theorem dX3_years_120 : decode cX3_years 120 = .ok (.bipush 8, 2) := dk_16 8 (dk_at dksX3_years_5 4 rfl rfl)
theorem dX3_years_122 : decode cX3_years 122 = .ok (.invokevirtual 412, 3) := dk_182 1 156 (dk_at dksX3_years_5 6 rfl rfl)
theorem dX3_years_125 : decode cX3_years 125 = .ok (.istore 5, 2) := dk_54 5 (dk_at dksX3_years_5 9 rfl rfl)
theorem dX3_years_127 : decode cX3_years 127 = .ok (.aload_n 0, 1) := dk_42 (dk_at dksX3_years_5 11 rfl rfl)
theorem dX3_years_128 : decode cX3_years 128 = .ok (.getfield 55, 3) := dk_180 0 55 (dk_at dksX3_years_5 12 rfl rfl)
theorem dX3_years_131 : decode cX3_years 131 = .ok (.iload 5, 2) := dk_21 5 (dk_at dksX3_years_5 15 rfl rfl)
theorem dX3_years_133 : decode cX3_years 133 = .ok (.aload_n 0, 1) := dk_42 (dk_at dksX3_years_5 17 rfl rfl)
theorem dX3_years_134 : decode cX3_years 134 = .ok (.aload_n 0, 1) := dk_42 (dk_at dksX3_years_5 18 rfl rfl)
theorem dX3_years_135 : decode cX3_years 135 = .ok (.getfield 120, 3) := dk_180 0 120 (dk_at dksX3_years_5 19 rfl rfl)
theorem dX3_years_138 : decode cX3_years 138 = .ok (.invokevirtual 412, 3) := dk_182 1 156 (dk_at dksX3_years_6 0 rfl rfl)
theorem dX3_years_141 : decode cX3_years 141 = .ok (.iastore, 1) := dk_79 (dk_at dksX3_years_6 3 rfl rfl)
theorem dX3_years_142 : decode cX3_years 142 = .ok (.iinc 3 1, 3) := dk_132 3 1 (dk_at dksX3_years_6 4 rfl rfl)
theorem dX3_years_145 : decode cX3_years 145 = .ok (.goto (-109), 3) := dk_167 255 147 (dk_at dksX3_years_6 7 rfl rfl)
theorem dX3_years_148 : decode cX3_years 148 = .ok (.aload_n 0, 1) := dk_42 (dk_at dksX3_years_6 10 rfl rfl)
theorem dX3_years_149 : decode cX3_years 149 = .ok (.iconst 0, 1) := dk_3 (dk_at dksX3_years_6 11 rfl rfl)
theorem dX3_years_150 : decode cX3_years 150 = .ok (.putfield 117, 3) := dk_181 0 117 (dk_at dksX3_years_6 12 rfl rfl)
theorem dX3_years_153 : decode cX3_years 153 = .ok (.aload_n 0, 1) := dk_42 (dk_at dksX3_years_6 15 rfl rfl)
theorem dX3_years_154 : decode cX3_years 154 = .ok (.aload_n 0, 1) := dk_42 (dk_at dksX3_years_6 16 rfl rfl)
theorem dX3_years_155 : decode cX3_years 155 = .ok (.getfield 55, 3) := dk_180 0 55 (dk_at dksX3_years_6 17 rfl rfl)
theorem dX3_years_158 : decode cX3_years 158 = .ok (.bipush 26, 2) := dk_16 26 (dk_at dksX3_years_6 20 rfl rfl)
theorem dX3_years_160 : decode cX3_years 160 = .ok (.iaload, 1) := dk_46 (dk_at dksX3_years_6 22 rfl rfl)
theorem dX3_years_161 : decode cX3_years 161 = .ok (.aload_n 0, 1) := dk_42 (dk_at dksX3_years_6 23 rfl rfl)
theorem dX3_years_162 : decode cX3_years 162 = .ok (.getfield 9, 3) := dk_180 0 9 (dk_at dksX3_years_7 0 rfl rfl)
theorem dX3_years_165 : decode cX3_years 165 = .ok (.bipush 26, 2) := dk_16 26 (dk_at dksX3_years_7 3 rfl rfl)
theorem dX3_years_167 : decode cX3_years 167 = .ok (.iaload, 1) := dk_46 (dk_at dksX3_years_7 5 rfl rfl)
theorem dX3_years_168 : decode cX3_years 168 = .ok (.isub, 1) := dk_100 (dk_at dksX3_years_7 6 rfl rfl)
theorem dX3_years_169 : decode cX3_years 169 = .ok (.i2l, 1) := dk_133 (dk_at dksX3_years_7 7 rfl rfl)
theorem dX3_years_170 : decode cX3_years 170 = .ok (.invokevirtual 284, 3) := dk_182 1 28 (dk_at dksX3_years_7 8 rfl rfl)
theorem dX3_years_173 : decode cX3_years 173 = .ok (.aload_n 0, 1) := dk_42 (dk_at dksX3_years_7 11 rfl rfl)
theorem dX3_years_174 : decode cX3_years 174 = .ok (.aload_n 0, 1) := dk_42 (dk_at dksX3_years_7 12 rfl rfl)
theorem dX3_years_175 : decode cX3_years 175 = .ok (.aload_n 0, 1) := dk_42 (dk_at dksX3_years_7 13 rfl rfl)
theorem dX3_years_176 : decode cX3_years 176 = .ok (.getfield 55, 3) := dk_180 0 55 (dk_at dksX3_years_7 14 rfl rfl)
theorem dX3_years_179 : decode cX3_years 179 = .ok (.invokevirtual 288, 3) := dk_182 1 32 (dk_at dksX3_years_7 17 rfl rfl)
theorem dX3_years_182 : decode cX3_years 182 = .ok (.i2l, 1) := dk_133 (dk_at dksX3_years_7 20 rfl rfl)
theorem dX3_years_183 : decode cX3_years 183 = .ok (.invokevirtual 284, 3) := dk_182 1 28 (dk_at dksX3_years_7 21 rfl rfl)
theorem dX3_years_186 : decode cX3_years 186 = .ok (.aload_n 0, 1) := dk_42 (dk_at dksX3_years_8 0 rfl rfl)
theorem dX3_years_187 : decode cX3_years 187 = .ok (.getfield 55, 3) := dk_180 0 55 (dk_at dksX3_years_8 1 rfl rfl)
theorem dX3_years_190 : decode cX3_years 190 = .ok (.bipush 25, 2) := dk_16 25 (dk_at dksX3_years_8 4 rfl rfl)
theorem dX3_years_192 : decode cX3_years 192 = .ok (.iaload, 1) := dk_46 (dk_at dksX3_years_8 6 rfl rfl)
theorem dX3_years_193 : decode cX3_years 193 = .ok (.aload_n 0, 1) := dk_42 (dk_at dksX3_years_8 7 rfl rfl)
theorem dX3_years_194 : decode cX3_years 194 = .ok (.getfield 9, 3) := dk_180 0 9 (dk_at dksX3_years_8 8 rfl rfl)
theorem dX3_years_197 : decode cX3_years 197 = .ok (.bipush 25, 2) := dk_16 25 (dk_at dksX3_years_8 11 rfl rfl)
theorem dX3_years_199 : decode cX3_years 199 = .ok (.iaload, 1) := dk_46 (dk_at dksX3_years_8 13 rfl rfl)
theorem dX3_years_200 : decode cX3_years 200 = .ok (.isub, 1) := dk_100 (dk_at dksX3_years_8 14 rfl rfl)
theorem dX3_years_201 : decode cX3_years 201 = .ok (.ireturn, 1) := dk_172 (dk_at dksX3_years_8 15 rfl rfl)
abbrev cX3_draw : ByteArray := prog_9_method_113_code
def yX3_draw : MethodName := ⟨RX3, "draw", "(I)I"⟩
def dkwX3_draw_1 : List UInt8 := [112, 172]
abbrev dktX3_draw_1 : List UInt8 := dkwX3_draw_1 ++ []
def dkwX3_draw_0 : List UInt8 := [42, 42, 180, 1, 152, 19, 1, 155, 104, 17, 48, 57, 96, 181, 1, 152, 42, 180, 1, 152, 16, 16, 124, 27]
abbrev dktX3_draw_0 : List UInt8 := dkwX3_draw_0 ++ dktX3_draw_1
theorem dksX3_draw_0 : cX3_draw.data.toList.drop 0 = dktX3_draw_0 := by decide +kernel
theorem dksX3_draw_1 : cX3_draw.data.toList.drop 24 = dktX3_draw_1 := dk_seg dksX3_draw_0 24 rfl rfl
theorem dX3_draw_0 : decode cX3_draw 0 = .ok (.aload_n 0, 1) := dk_42 (dk_at dksX3_draw_0 0 rfl rfl)
theorem dX3_draw_1 : decode cX3_draw 1 = .ok (.aload_n 0, 1) := dk_42 (dk_at dksX3_draw_0 1 rfl rfl)
theorem dX3_draw_2 : decode cX3_draw 2 = .ok (.getfield 408, 3) := dk_180 1 152 (dk_at dksX3_draw_0 2 rfl rfl)
theorem dX3_draw_5 : decode cX3_draw 5 = .ok (.ldc_w 411, 3) := dk_19 1 155 (dk_at dksX3_draw_0 5 rfl rfl)
theorem dX3_draw_8 : decode cX3_draw 8 = .ok (.imul, 1) := dk_104 (dk_at dksX3_draw_0 8 rfl rfl)
theorem dX3_draw_9 : decode cX3_draw 9 = .ok (.sipush 12345, 3) := dk_17 48 57 (dk_at dksX3_draw_0 9 rfl rfl)
theorem dX3_draw_12 : decode cX3_draw 12 = .ok (.iadd, 1) := dk_96 (dk_at dksX3_draw_0 12 rfl rfl)
theorem dX3_draw_13 : decode cX3_draw 13 = .ok (.putfield 408, 3) := dk_181 1 152 (dk_at dksX3_draw_0 13 rfl rfl)
theorem dX3_draw_16 : decode cX3_draw 16 = .ok (.aload_n 0, 1) := dk_42 (dk_at dksX3_draw_0 16 rfl rfl)
theorem dX3_draw_17 : decode cX3_draw 17 = .ok (.getfield 408, 3) := dk_180 1 152 (dk_at dksX3_draw_0 17 rfl rfl)
theorem dX3_draw_20 : decode cX3_draw 20 = .ok (.bipush 16, 2) := dk_16 16 (dk_at dksX3_draw_0 20 rfl rfl)
theorem dX3_draw_22 : decode cX3_draw 22 = .ok (.iushr, 1) := dk_124 (dk_at dksX3_draw_0 22 rfl rfl)
theorem dX3_draw_23 : decode cX3_draw 23 = .ok (.iload_n 1, 1) := dk_27 (dk_at dksX3_draw_0 23 rfl rfl)
theorem dX3_draw_24 : decode cX3_draw 24 = .ok (.irem, 1) := dk_112 (dk_at dksX3_draw_1 0 rfl rfl)
theorem dX3_draw_25 : decode cX3_draw 25 = .ok (.ireturn, 1) := dk_172 (dk_at dksX3_draw_1 1 rfl rfl)
abbrev cX3_keep : ByteArray := prog_9_method_115_code
def yX3_keep : MethodName := ⟨RX3, "keep", "(I)Z"⟩
def dkwX3_keep_2 : List UInt8 := [4, 172]
abbrev dktX3_keep_2 : List UInt8 := dkwX3_keep_2 ++ []
def dkwX3_keep_1 : List UInt8 := [180, 0, 111, 27, 42, 180, 0, 185, 79, 42, 180, 0, 9, 42, 180, 0, 105, 16, 27, 27, 104, 184, 0, 249]
abbrev dktX3_keep_1 : List UInt8 := dkwX3_keep_1 ++ dktX3_keep_2
def dkwX3_keep_0 : List UInt8 := [42, 3, 181, 0, 114, 27, 3, 4, 184, 0, 123, 154, 0, 5, 3, 172, 42, 180, 0, 108, 27, 4, 84, 42]
abbrev dktX3_keep_0 : List UInt8 := dkwX3_keep_0 ++ dktX3_keep_1
theorem dksX3_keep_0 : cX3_keep.data.toList.drop 0 = dktX3_keep_0 := by decide +kernel
theorem dksX3_keep_1 : cX3_keep.data.toList.drop 24 = dktX3_keep_1 := dk_seg dksX3_keep_0 24 rfl rfl
theorem dksX3_keep_2 : cX3_keep.data.toList.drop 48 = dktX3_keep_2 := dk_seg dksX3_keep_1 24 rfl rfl
theorem dX3_keep_0 : decode cX3_keep 0 = .ok (.aload_n 0, 1) := dk_42 (dk_at dksX3_keep_0 0 rfl rfl)
theorem dX3_keep_1 : decode cX3_keep 1 = .ok (.iconst 0, 1) := dk_3 (dk_at dksX3_keep_0 1 rfl rfl)
theorem dX3_keep_2 : decode cX3_keep 2 = .ok (.putfield 114, 3) := dk_181 0 114 (dk_at dksX3_keep_0 2 rfl rfl)
theorem dX3_keep_5 : decode cX3_keep 5 = .ok (.iload_n 1, 1) := dk_27 (dk_at dksX3_keep_0 5 rfl rfl)
theorem dX3_keep_6 : decode cX3_keep 6 = .ok (.iconst 0, 1) := dk_3 (dk_at dksX3_keep_0 6 rfl rfl)
theorem dX3_keep_7 : decode cX3_keep 7 = .ok (.iconst 1, 1) := dk_4 (dk_at dksX3_keep_0 7 rfl rfl)
theorem dX3_keep_8 : decode cX3_keep 8 = .ok (.invokestatic 123, 3) := dk_184 0 123 (dk_at dksX3_keep_0 8 rfl rfl)
theorem dX3_keep_11 : decode cX3_keep 11 = .ok (.ifCond .ne 5, 3) := dk_154 0 5 (dk_at dksX3_keep_0 11 rfl rfl)
theorem dX3_keep_14 : decode cX3_keep 14 = .ok (.iconst 0, 1) := dk_3 (dk_at dksX3_keep_0 14 rfl rfl)
theorem dX3_keep_15 : decode cX3_keep 15 = .ok (.ireturn, 1) := dk_172 (dk_at dksX3_keep_0 15 rfl rfl)
theorem dX3_keep_16 : decode cX3_keep 16 = .ok (.aload_n 0, 1) := dk_42 (dk_at dksX3_keep_0 16 rfl rfl)
theorem dX3_keep_17 : decode cX3_keep 17 = .ok (.getfield 108, 3) := dk_180 0 108 (dk_at dksX3_keep_0 17 rfl rfl)
theorem dX3_keep_20 : decode cX3_keep 20 = .ok (.iload_n 1, 1) := dk_27 (dk_at dksX3_keep_0 20 rfl rfl)
theorem dX3_keep_21 : decode cX3_keep 21 = .ok (.iconst 1, 1) := dk_4 (dk_at dksX3_keep_0 21 rfl rfl)
theorem dX3_keep_22 : decode cX3_keep 22 = .ok (.bastore, 1) := dk_84 (dk_at dksX3_keep_0 22 rfl rfl)
theorem dX3_keep_23 : decode cX3_keep 23 = .ok (.aload_n 0, 1) := dk_42 (dk_at dksX3_keep_0 23 rfl rfl)
theorem dX3_keep_24 : decode cX3_keep 24 = .ok (.getfield 111, 3) := dk_180 0 111 (dk_at dksX3_keep_1 0 rfl rfl)
theorem dX3_keep_27 : decode cX3_keep 27 = .ok (.iload_n 1, 1) := dk_27 (dk_at dksX3_keep_1 3 rfl rfl)
theorem dX3_keep_28 : decode cX3_keep 28 = .ok (.aload_n 0, 1) := dk_42 (dk_at dksX3_keep_1 4 rfl rfl)
theorem dX3_keep_29 : decode cX3_keep 29 = .ok (.getfield 185, 3) := dk_180 0 185 (dk_at dksX3_keep_1 5 rfl rfl)
theorem dX3_keep_32 : decode cX3_keep 32 = .ok (.iastore, 1) := dk_79 (dk_at dksX3_keep_1 8 rfl rfl)
theorem dX3_keep_33 : decode cX3_keep 33 = .ok (.aload_n 0, 1) := dk_42 (dk_at dksX3_keep_1 9 rfl rfl)
theorem dX3_keep_34 : decode cX3_keep 34 = .ok (.getfield 9, 3) := dk_180 0 9 (dk_at dksX3_keep_1 10 rfl rfl)
theorem dX3_keep_37 : decode cX3_keep 37 = .ok (.aload_n 0, 1) := dk_42 (dk_at dksX3_keep_1 13 rfl rfl)
theorem dX3_keep_38 : decode cX3_keep 38 = .ok (.getfield 105, 3) := dk_180 0 105 (dk_at dksX3_keep_1 14 rfl rfl)
theorem dX3_keep_41 : decode cX3_keep 41 = .ok (.bipush 27, 2) := dk_16 27 (dk_at dksX3_keep_1 17 rfl rfl)
theorem dX3_keep_43 : decode cX3_keep 43 = .ok (.iload_n 1, 1) := dk_27 (dk_at dksX3_keep_1 19 rfl rfl)
theorem dX3_keep_44 : decode cX3_keep 44 = .ok (.imul, 1) := dk_104 (dk_at dksX3_keep_1 20 rfl rfl)
theorem dX3_keep_45 : decode cX3_keep 45 = .ok (.invokestatic 249, 3) := dk_184 0 249 (dk_at dksX3_keep_1 21 rfl rfl)
theorem dX3_keep_48 : decode cX3_keep 48 = .ok (.iconst 1, 1) := dk_4 (dk_at dksX3_keep_2 0 rfl rfl)
theorem dX3_keep_49 : decode cX3_keep 49 = .ok (.ireturn, 1) := dk_172 (dk_at dksX3_keep_2 1 rfl rfl)
abbrev cX3_again : ByteArray := prog_9_method_116_code
def yX3_again : MethodName := ⟨RX3, "again", "(I)Z"⟩
def dkwX3_again_3 : List UInt8 := [181, 0, 182, 4, 172]
abbrev dktX3_again_3 : List UInt8 := dkwX3_again_3 ++ []
def dkwX3_again_2 : List UInt8 := [180, 0, 9, 28, 42, 180, 0, 105, 16, 27, 27, 104, 28, 96, 46, 79, 132, 2, 1, 167, 255, 230, 42, 3]
abbrev dktX3_again_2 : List UInt8 := dkwX3_again_2 ++ dktX3_again_3
def dkwX3_again_1 : List UInt8 := [180, 0, 111, 27, 46, 42, 180, 0, 185, 159, 0, 5, 3, 172, 3, 61, 28, 16, 27, 162, 0, 26, 42]
abbrev dktX3_again_1 : List UInt8 := dkwX3_again_1 ++ dktX3_again_2
def dkwX3_again_0 : List UInt8 := [42, 3, 181, 0, 114, 27, 3, 4, 184, 0, 123, 153, 0, 25, 42, 180, 0, 108, 27, 51, 153, 0, 16, 42]
abbrev dktX3_again_0 : List UInt8 := dkwX3_again_0 ++ dktX3_again_1
theorem dksX3_again_0 : cX3_again.data.toList.drop 0 = dktX3_again_0 := by decide +kernel
theorem dksX3_again_1 : cX3_again.data.toList.drop 24 = dktX3_again_1 := dk_seg dksX3_again_0 24 rfl rfl
theorem dksX3_again_2 : cX3_again.data.toList.drop 47 = dktX3_again_2 := dk_seg dksX3_again_1 23 rfl rfl
theorem dksX3_again_3 : cX3_again.data.toList.drop 71 = dktX3_again_3 := dk_seg dksX3_again_2 24 rfl rfl
theorem dX3_again_0 : decode cX3_again 0 = .ok (.aload_n 0, 1) := dk_42 (dk_at dksX3_again_0 0 rfl rfl)
theorem dX3_again_1 : decode cX3_again 1 = .ok (.iconst 0, 1) := dk_3 (dk_at dksX3_again_0 1 rfl rfl)
theorem dX3_again_2 : decode cX3_again 2 = .ok (.putfield 114, 3) := dk_181 0 114 (dk_at dksX3_again_0 2 rfl rfl)
theorem dX3_again_5 : decode cX3_again 5 = .ok (.iload_n 1, 1) := dk_27 (dk_at dksX3_again_0 5 rfl rfl)
theorem dX3_again_6 : decode cX3_again 6 = .ok (.iconst 0, 1) := dk_3 (dk_at dksX3_again_0 6 rfl rfl)
theorem dX3_again_7 : decode cX3_again 7 = .ok (.iconst 1, 1) := dk_4 (dk_at dksX3_again_0 7 rfl rfl)
theorem dX3_again_8 : decode cX3_again 8 = .ok (.invokestatic 123, 3) := dk_184 0 123 (dk_at dksX3_again_0 8 rfl rfl)
theorem dX3_again_11 : decode cX3_again 11 = .ok (.ifCond .eq 25, 3) := dk_153 0 25 (dk_at dksX3_again_0 11 rfl rfl)
theorem dX3_again_14 : decode cX3_again 14 = .ok (.aload_n 0, 1) := dk_42 (dk_at dksX3_again_0 14 rfl rfl)
theorem dX3_again_15 : decode cX3_again 15 = .ok (.getfield 108, 3) := dk_180 0 108 (dk_at dksX3_again_0 15 rfl rfl)
theorem dX3_again_18 : decode cX3_again 18 = .ok (.iload_n 1, 1) := dk_27 (dk_at dksX3_again_0 18 rfl rfl)
theorem dX3_again_19 : decode cX3_again 19 = .ok (.baload, 1) := dk_51 (dk_at dksX3_again_0 19 rfl rfl)
theorem dX3_again_20 : decode cX3_again 20 = .ok (.ifCond .eq 16, 3) := dk_153 0 16 (dk_at dksX3_again_0 20 rfl rfl)
theorem dX3_again_23 : decode cX3_again 23 = .ok (.aload_n 0, 1) := dk_42 (dk_at dksX3_again_0 23 rfl rfl)
theorem dX3_again_24 : decode cX3_again 24 = .ok (.getfield 111, 3) := dk_180 0 111 (dk_at dksX3_again_1 0 rfl rfl)
theorem dX3_again_27 : decode cX3_again 27 = .ok (.iload_n 1, 1) := dk_27 (dk_at dksX3_again_1 3 rfl rfl)
theorem dX3_again_28 : decode cX3_again 28 = .ok (.iaload, 1) := dk_46 (dk_at dksX3_again_1 4 rfl rfl)
theorem dX3_again_29 : decode cX3_again 29 = .ok (.aload_n 0, 1) := dk_42 (dk_at dksX3_again_1 5 rfl rfl)
theorem dX3_again_30 : decode cX3_again 30 = .ok (.getfield 185, 3) := dk_180 0 185 (dk_at dksX3_again_1 6 rfl rfl)
theorem dX3_again_33 : decode cX3_again 33 = .ok (.if_icmp .eq 5, 3) := dk_159 0 5 (dk_at dksX3_again_1 9 rfl rfl)
theorem dX3_again_36 : decode cX3_again 36 = .ok (.iconst 0, 1) := dk_3 (dk_at dksX3_again_1 12 rfl rfl)
theorem dX3_again_37 : decode cX3_again 37 = .ok (.ireturn, 1) := dk_172 (dk_at dksX3_again_1 13 rfl rfl)
theorem dX3_again_38 : decode cX3_again 38 = .ok (.iconst 0, 1) := dk_3 (dk_at dksX3_again_1 14 rfl rfl)
theorem dX3_again_39 : decode cX3_again 39 = .ok (.istore_n 2, 1) := dk_61 (dk_at dksX3_again_1 15 rfl rfl)
theorem dX3_again_40 : decode cX3_again 40 = .ok (.iload_n 2, 1) := dk_28 (dk_at dksX3_again_1 16 rfl rfl)
theorem dX3_again_41 : decode cX3_again 41 = .ok (.bipush 27, 2) := dk_16 27 (dk_at dksX3_again_1 17 rfl rfl)
theorem dX3_again_43 : decode cX3_again 43 = .ok (.if_icmp .ge 26, 3) := dk_162 0 26 (dk_at dksX3_again_1 19 rfl rfl)
theorem dX3_again_46 : decode cX3_again 46 = .ok (.aload_n 0, 1) := dk_42 (dk_at dksX3_again_1 22 rfl rfl)
theorem dX3_again_47 : decode cX3_again 47 = .ok (.getfield 9, 3) := dk_180 0 9 (dk_at dksX3_again_2 0 rfl rfl)
theorem dX3_again_50 : decode cX3_again 50 = .ok (.iload_n 2, 1) := dk_28 (dk_at dksX3_again_2 3 rfl rfl)
theorem dX3_again_51 : decode cX3_again 51 = .ok (.aload_n 0, 1) := dk_42 (dk_at dksX3_again_2 4 rfl rfl)
theorem dX3_again_52 : decode cX3_again 52 = .ok (.getfield 105, 3) := dk_180 0 105 (dk_at dksX3_again_2 5 rfl rfl)
theorem dX3_again_55 : decode cX3_again 55 = .ok (.bipush 27, 2) := dk_16 27 (dk_at dksX3_again_2 8 rfl rfl)
theorem dX3_again_57 : decode cX3_again 57 = .ok (.iload_n 1, 1) := dk_27 (dk_at dksX3_again_2 10 rfl rfl)
theorem dX3_again_58 : decode cX3_again 58 = .ok (.imul, 1) := dk_104 (dk_at dksX3_again_2 11 rfl rfl)
theorem dX3_again_59 : decode cX3_again 59 = .ok (.iload_n 2, 1) := dk_28 (dk_at dksX3_again_2 12 rfl rfl)
theorem dX3_again_60 : decode cX3_again 60 = .ok (.iadd, 1) := dk_96 (dk_at dksX3_again_2 13 rfl rfl)
theorem dX3_again_61 : decode cX3_again 61 = .ok (.iaload, 1) := dk_46 (dk_at dksX3_again_2 14 rfl rfl)
theorem dX3_again_62 : decode cX3_again 62 = .ok (.iastore, 1) := dk_79 (dk_at dksX3_again_2 15 rfl rfl)
theorem dX3_again_63 : decode cX3_again 63 = .ok (.iinc 2 1, 3) := dk_132 2 1 (dk_at dksX3_again_2 16 rfl rfl)
theorem dX3_again_66 : decode cX3_again 66 = .ok (.goto (-26), 3) := dk_167 255 230 (dk_at dksX3_again_2 19 rfl rfl)
theorem dX3_again_69 : decode cX3_again 69 = .ok (.aload_n 0, 1) := dk_42 (dk_at dksX3_again_2 22 rfl rfl)
theorem dX3_again_70 : decode cX3_again 70 = .ok (.iconst 0, 1) := dk_3 (dk_at dksX3_again_2 23 rfl rfl)
theorem dX3_again_71 : decode cX3_again 71 = .ok (.putfield 182, 3) := dk_181 0 182 (dk_at dksX3_again_3 0 rfl rfl)
theorem dX3_again_74 : decode cX3_again 74 = .ok (.iconst 1, 1) := dk_4 (dk_at dksX3_again_3 3 rfl rfl)
theorem dX3_again_75 : decode cX3_again 75 = .ok (.ireturn, 1) := dk_172 (dk_at dksX3_again_3 4 rfl rfl)
abbrev cX3_count : ByteArray := prog_9_method_117_code
def yX3_count : MethodName := ⟨RX3, "count", "(I)I"⟩
def dkwX3_count_6 : List UInt8 := [42, 180, 0, 131, 172, 16, 156, 172]
abbrev dktX3_count_6 : List UInt8 := dkwX3_count_6 ++ []
def dkwX3_count_5 : List UInt8 := [42, 42, 180, 0, 9, 182, 1, 32, 172, 42, 180, 1, 106, 172, 42, 180, 0, 182, 172, 42, 180, 0, 117, 172]
abbrev dktX3_count_5 : List UInt8 := dkwX3_count_5 ++ dktX3_count_6
def dkwX3_count_4 : List UInt8 := [42, 180, 0, 9, 16, 24, 46, 172, 42, 180, 0, 9, 16, 25, 46, 172, 42, 180, 0, 9, 16, 26, 46, 172]
abbrev dktX3_count_4 : List UInt8 := dkwX3_count_4 ++ dktX3_count_5
def dkwX3_count_3 : List UInt8 := [42, 180, 0, 13, 172, 42, 180, 0, 17, 172, 42, 180, 0, 120, 172, 42, 42, 180, 0, 9, 182, 1, 5, 172]
abbrev dktX3_count_3 : List UInt8 := dkwX3_count_3 ++ dktX3_count_4
def dkwX3_count_2 : List UInt8 := [170, 0, 0, 0, 138, 0, 0, 0, 0, 0, 0, 0, 11, 0, 0, 0, 61, 0, 0, 0, 66, 0, 0, 0, 71, 0, 0, 0, 76, 0, 0, 0, 85, 0, 0, 0, 93, 0, 0, 0, 101, 0, 0, 0, 109, 0, 0, 0, 118, 0, 0, 0, 123, 0, 0, 0, 128, 0, 0, 0, 133]
abbrev dktX3_count_2 : List UInt8 := dkwX3_count_2 ++ dktX3_count_3
def dkwX3_count_1 : List UInt8 := [46, 172, 27]
abbrev dktX3_count_1 : List UInt8 := dkwX3_count_1 ++ dktX3_count_2
def dkwX3_count_0 : List UInt8 := [42, 3, 181, 0, 114, 27, 16, 20, 16, 27, 184, 0, 123, 153, 0, 13, 42, 180, 0, 9, 27, 16, 20, 100]
abbrev dktX3_count_0 : List UInt8 := dkwX3_count_0 ++ dktX3_count_1
theorem dksX3_count_0 : cX3_count.data.toList.drop 0 = dktX3_count_0 := by decide +kernel
theorem dksX3_count_1 : cX3_count.data.toList.drop 24 = dktX3_count_1 := dk_seg dksX3_count_0 24 rfl rfl
theorem dksX3_count_2 : cX3_count.data.toList.drop 27 = dktX3_count_2 := dk_seg dksX3_count_1 3 rfl rfl
theorem dksX3_count_3 : cX3_count.data.toList.drop 88 = dktX3_count_3 := dk_seg dksX3_count_2 61 rfl rfl
theorem dksX3_count_4 : cX3_count.data.toList.drop 112 = dktX3_count_4 := dk_seg dksX3_count_3 24 rfl rfl
theorem dksX3_count_5 : cX3_count.data.toList.drop 136 = dktX3_count_5 := dk_seg dksX3_count_4 24 rfl rfl
theorem dksX3_count_6 : cX3_count.data.toList.drop 160 = dktX3_count_6 := dk_seg dksX3_count_5 24 rfl rfl
theorem dX3_count_0 : decode cX3_count 0 = .ok (.aload_n 0, 1) := dk_42 (dk_at dksX3_count_0 0 rfl rfl)
theorem dX3_count_1 : decode cX3_count 1 = .ok (.iconst 0, 1) := dk_3 (dk_at dksX3_count_0 1 rfl rfl)
theorem dX3_count_2 : decode cX3_count 2 = .ok (.putfield 114, 3) := dk_181 0 114 (dk_at dksX3_count_0 2 rfl rfl)
theorem dX3_count_5 : decode cX3_count 5 = .ok (.iload_n 1, 1) := dk_27 (dk_at dksX3_count_0 5 rfl rfl)
theorem dX3_count_6 : decode cX3_count 6 = .ok (.bipush 20, 2) := dk_16 20 (dk_at dksX3_count_0 6 rfl rfl)
theorem dX3_count_8 : decode cX3_count 8 = .ok (.bipush 27, 2) := dk_16 27 (dk_at dksX3_count_0 8 rfl rfl)
theorem dX3_count_10 : decode cX3_count 10 = .ok (.invokestatic 123, 3) := dk_184 0 123 (dk_at dksX3_count_0 10 rfl rfl)
theorem dX3_count_13 : decode cX3_count 13 = .ok (.ifCond .eq 13, 3) := dk_153 0 13 (dk_at dksX3_count_0 13 rfl rfl)
theorem dX3_count_16 : decode cX3_count 16 = .ok (.aload_n 0, 1) := dk_42 (dk_at dksX3_count_0 16 rfl rfl)
theorem dX3_count_17 : decode cX3_count 17 = .ok (.getfield 9, 3) := dk_180 0 9 (dk_at dksX3_count_0 17 rfl rfl)
theorem dX3_count_20 : decode cX3_count 20 = .ok (.iload_n 1, 1) := dk_27 (dk_at dksX3_count_0 20 rfl rfl)
theorem dX3_count_21 : decode cX3_count 21 = .ok (.bipush 20, 2) := dk_16 20 (dk_at dksX3_count_0 21 rfl rfl)
theorem dX3_count_23 : decode cX3_count 23 = .ok (.isub, 1) := dk_100 (dk_at dksX3_count_0 23 rfl rfl)
theorem dX3_count_24 : decode cX3_count 24 = .ok (.iaload, 1) := dk_46 (dk_at dksX3_count_1 0 rfl rfl)
theorem dX3_count_25 : decode cX3_count 25 = .ok (.ireturn, 1) := dk_172 (dk_at dksX3_count_1 1 rfl rfl)
theorem dX3_count_26 : decode cX3_count 26 = .ok (.iload_n 1, 1) := dk_27 (dk_at dksX3_count_1 2 rfl rfl)
theorem dX3_count_27 : decode cX3_count 27 = .ok (.tableswitch 138 0 11 #[61, 66, 71, 76, 85, 93, 101, 109, 118, 123, 128, 133], 61) := by decide +kernel
theorem dX3_count_88 : decode cX3_count 88 = .ok (.aload_n 0, 1) := dk_42 (dk_at dksX3_count_3 0 rfl rfl)
theorem dX3_count_89 : decode cX3_count 89 = .ok (.getfield 13, 3) := dk_180 0 13 (dk_at dksX3_count_3 1 rfl rfl)
theorem dX3_count_92 : decode cX3_count 92 = .ok (.ireturn, 1) := dk_172 (dk_at dksX3_count_3 4 rfl rfl)
theorem dX3_count_93 : decode cX3_count 93 = .ok (.aload_n 0, 1) := dk_42 (dk_at dksX3_count_3 5 rfl rfl)
theorem dX3_count_94 : decode cX3_count 94 = .ok (.getfield 17, 3) := dk_180 0 17 (dk_at dksX3_count_3 6 rfl rfl)
theorem dX3_count_97 : decode cX3_count 97 = .ok (.ireturn, 1) := dk_172 (dk_at dksX3_count_3 9 rfl rfl)
theorem dX3_count_98 : decode cX3_count 98 = .ok (.aload_n 0, 1) := dk_42 (dk_at dksX3_count_3 10 rfl rfl)
theorem dX3_count_99 : decode cX3_count 99 = .ok (.getfield 120, 3) := dk_180 0 120 (dk_at dksX3_count_3 11 rfl rfl)
theorem dX3_count_102 : decode cX3_count 102 = .ok (.ireturn, 1) := dk_172 (dk_at dksX3_count_3 14 rfl rfl)
theorem dX3_count_103 : decode cX3_count 103 = .ok (.aload_n 0, 1) := dk_42 (dk_at dksX3_count_3 15 rfl rfl)
theorem dX3_count_104 : decode cX3_count 104 = .ok (.aload_n 0, 1) := dk_42 (dk_at dksX3_count_3 16 rfl rfl)
theorem dX3_count_105 : decode cX3_count 105 = .ok (.getfield 9, 3) := dk_180 0 9 (dk_at dksX3_count_3 17 rfl rfl)
theorem dX3_count_108 : decode cX3_count 108 = .ok (.invokevirtual 261, 3) := dk_182 1 5 (dk_at dksX3_count_3 20 rfl rfl)
theorem dX3_count_111 : decode cX3_count 111 = .ok (.ireturn, 1) := dk_172 (dk_at dksX3_count_3 23 rfl rfl)
theorem dX3_count_112 : decode cX3_count 112 = .ok (.aload_n 0, 1) := dk_42 (dk_at dksX3_count_4 0 rfl rfl)
theorem dX3_count_113 : decode cX3_count 113 = .ok (.getfield 9, 3) := dk_180 0 9 (dk_at dksX3_count_4 1 rfl rfl)
theorem dX3_count_116 : decode cX3_count 116 = .ok (.bipush 24, 2) := dk_16 24 (dk_at dksX3_count_4 4 rfl rfl)
theorem dX3_count_118 : decode cX3_count 118 = .ok (.iaload, 1) := dk_46 (dk_at dksX3_count_4 6 rfl rfl)
theorem dX3_count_119 : decode cX3_count 119 = .ok (.ireturn, 1) := dk_172 (dk_at dksX3_count_4 7 rfl rfl)
theorem dX3_count_120 : decode cX3_count 120 = .ok (.aload_n 0, 1) := dk_42 (dk_at dksX3_count_4 8 rfl rfl)
theorem dX3_count_121 : decode cX3_count 121 = .ok (.getfield 9, 3) := dk_180 0 9 (dk_at dksX3_count_4 9 rfl rfl)
theorem dX3_count_124 : decode cX3_count 124 = .ok (.bipush 25, 2) := dk_16 25 (dk_at dksX3_count_4 12 rfl rfl)
theorem dX3_count_126 : decode cX3_count 126 = .ok (.iaload, 1) := dk_46 (dk_at dksX3_count_4 14 rfl rfl)
theorem dX3_count_127 : decode cX3_count 127 = .ok (.ireturn, 1) := dk_172 (dk_at dksX3_count_4 15 rfl rfl)
theorem dX3_count_128 : decode cX3_count 128 = .ok (.aload_n 0, 1) := dk_42 (dk_at dksX3_count_4 16 rfl rfl)
theorem dX3_count_129 : decode cX3_count 129 = .ok (.getfield 9, 3) := dk_180 0 9 (dk_at dksX3_count_4 17 rfl rfl)
theorem dX3_count_132 : decode cX3_count 132 = .ok (.bipush 26, 2) := dk_16 26 (dk_at dksX3_count_4 20 rfl rfl)
theorem dX3_count_134 : decode cX3_count 134 = .ok (.iaload, 1) := dk_46 (dk_at dksX3_count_4 22 rfl rfl)
theorem dX3_count_135 : decode cX3_count 135 = .ok (.ireturn, 1) := dk_172 (dk_at dksX3_count_4 23 rfl rfl)
theorem dX3_count_136 : decode cX3_count 136 = .ok (.aload_n 0, 1) := dk_42 (dk_at dksX3_count_5 0 rfl rfl)
theorem dX3_count_137 : decode cX3_count 137 = .ok (.aload_n 0, 1) := dk_42 (dk_at dksX3_count_5 1 rfl rfl)
theorem dX3_count_138 : decode cX3_count 138 = .ok (.getfield 9, 3) := dk_180 0 9 (dk_at dksX3_count_5 2 rfl rfl)
theorem dX3_count_141 : decode cX3_count 141 = .ok (.invokevirtual 288, 3) := dk_182 1 32 (dk_at dksX3_count_5 5 rfl rfl)
theorem dX3_count_144 : decode cX3_count 144 = .ok (.ireturn, 1) := dk_172 (dk_at dksX3_count_5 8 rfl rfl)
theorem dX3_count_145 : decode cX3_count 145 = .ok (.aload_n 0, 1) := dk_42 (dk_at dksX3_count_5 9 rfl rfl)
theorem dX3_count_146 : decode cX3_count 146 = .ok (.getfield 362, 3) := dk_180 1 106 (dk_at dksX3_count_5 10 rfl rfl)
theorem dX3_count_149 : decode cX3_count 149 = .ok (.ireturn, 1) := dk_172 (dk_at dksX3_count_5 13 rfl rfl)
theorem dX3_count_150 : decode cX3_count 150 = .ok (.aload_n 0, 1) := dk_42 (dk_at dksX3_count_5 14 rfl rfl)
theorem dX3_count_151 : decode cX3_count 151 = .ok (.getfield 182, 3) := dk_180 0 182 (dk_at dksX3_count_5 15 rfl rfl)
theorem dX3_count_154 : decode cX3_count 154 = .ok (.ireturn, 1) := dk_172 (dk_at dksX3_count_5 18 rfl rfl)
theorem dX3_count_155 : decode cX3_count 155 = .ok (.aload_n 0, 1) := dk_42 (dk_at dksX3_count_5 19 rfl rfl)
theorem dX3_count_156 : decode cX3_count 156 = .ok (.getfield 117, 3) := dk_180 0 117 (dk_at dksX3_count_5 20 rfl rfl)
theorem dX3_count_159 : decode cX3_count 159 = .ok (.ireturn, 1) := dk_172 (dk_at dksX3_count_5 23 rfl rfl)
theorem dX3_count_160 : decode cX3_count 160 = .ok (.aload_n 0, 1) := dk_42 (dk_at dksX3_count_6 0 rfl rfl)
theorem dX3_count_161 : decode cX3_count 161 = .ok (.getfield 131, 3) := dk_180 0 131 (dk_at dksX3_count_6 1 rfl rfl)
theorem dX3_count_164 : decode cX3_count 164 = .ok (.ireturn, 1) := dk_172 (dk_at dksX3_count_6 4 rfl rfl)
theorem dX3_count_165 : decode cX3_count 165 = .ok (.bipush (-100), 2) := dk_16 156 (dk_at dksX3_count_6 5 rfl rfl)
theorem dX3_count_167 : decode cX3_count 167 = .ok (.ireturn, 1) := dk_172 (dk_at dksX3_count_6 7 rfl rfl)
abbrev cX3_row : ByteArray := prog_9_method_118_code
def yX3_row : MethodName := ⟨RX3, "row", "(I)J"⟩
def dkwX3_row_1 : List UInt8 := [47, 167, 0, 8, 42, 182, 0, 235, 133, 173]
abbrev dktX3_row_1 : List UInt8 := dkwX3_row_1 ++ []
def dkwX3_row_0 : List UInt8 := [42, 3, 181, 0, 114, 27, 3, 42, 180, 0, 117, 4, 100, 184, 0, 123, 153, 0, 12, 42, 180, 0, 33, 27]
abbrev dktX3_row_0 : List UInt8 := dkwX3_row_0 ++ dktX3_row_1
theorem dksX3_row_0 : cX3_row.data.toList.drop 0 = dktX3_row_0 := by decide +kernel
theorem dksX3_row_1 : cX3_row.data.toList.drop 24 = dktX3_row_1 := dk_seg dksX3_row_0 24 rfl rfl
theorem dX3_row_0 : decode cX3_row 0 = .ok (.aload_n 0, 1) := dk_42 (dk_at dksX3_row_0 0 rfl rfl)
theorem dX3_row_1 : decode cX3_row 1 = .ok (.iconst 0, 1) := dk_3 (dk_at dksX3_row_0 1 rfl rfl)
theorem dX3_row_2 : decode cX3_row 2 = .ok (.putfield 114, 3) := dk_181 0 114 (dk_at dksX3_row_0 2 rfl rfl)
theorem dX3_row_5 : decode cX3_row 5 = .ok (.iload_n 1, 1) := dk_27 (dk_at dksX3_row_0 5 rfl rfl)
theorem dX3_row_6 : decode cX3_row 6 = .ok (.iconst 0, 1) := dk_3 (dk_at dksX3_row_0 6 rfl rfl)
theorem dX3_row_7 : decode cX3_row 7 = .ok (.aload_n 0, 1) := dk_42 (dk_at dksX3_row_0 7 rfl rfl)
theorem dX3_row_8 : decode cX3_row 8 = .ok (.getfield 117, 3) := dk_180 0 117 (dk_at dksX3_row_0 8 rfl rfl)
theorem dX3_row_11 : decode cX3_row 11 = .ok (.iconst 1, 1) := dk_4 (dk_at dksX3_row_0 11 rfl rfl)
theorem dX3_row_12 : decode cX3_row 12 = .ok (.isub, 1) := dk_100 (dk_at dksX3_row_0 12 rfl rfl)
theorem dX3_row_13 : decode cX3_row 13 = .ok (.invokestatic 123, 3) := dk_184 0 123 (dk_at dksX3_row_0 13 rfl rfl)
theorem dX3_row_16 : decode cX3_row 16 = .ok (.ifCond .eq 12, 3) := dk_153 0 12 (dk_at dksX3_row_0 16 rfl rfl)
theorem dX3_row_19 : decode cX3_row 19 = .ok (.aload_n 0, 1) := dk_42 (dk_at dksX3_row_0 19 rfl rfl)
theorem dX3_row_20 : decode cX3_row 20 = .ok (.getfield 33, 3) := dk_180 0 33 (dk_at dksX3_row_0 20 rfl rfl)
theorem dX3_row_23 : decode cX3_row 23 = .ok (.iload_n 1, 1) := dk_27 (dk_at dksX3_row_0 23 rfl rfl)
theorem dX3_row_24 : decode cX3_row 24 = .ok (.laload, 1) := dk_47 (dk_at dksX3_row_1 0 rfl rfl)
theorem dX3_row_25 : decode cX3_row 25 = .ok (.goto 8, 3) := dk_167 0 8 (dk_at dksX3_row_1 1 rfl rfl)
theorem dX3_row_28 : decode cX3_row 28 = .ok (.aload_n 0, 1) := dk_42 (dk_at dksX3_row_1 4 rfl rfl)
theorem dX3_row_29 : decode cX3_row 29 = .ok (.invokevirtual 235, 3) := dk_182 0 235 (dk_at dksX3_row_1 5 rfl rfl)
theorem dX3_row_32 : decode cX3_row 32 = .ok (.i2l, 1) := dk_133 (dk_at dksX3_row_1 8 rfl rfl)
theorem dX3_row_33 : decode cX3_row 33 = .ok (.lreturn, 1) := dk_173 (dk_at dksX3_row_1 9 rfl rfl)
theorem q109 : (Jvm.Cond.initialized "RockingHorseModel") ∈ lw_all := lw_g (lw_at lw_m1 3 rfl) rfl
theorem q1050 : (Jvm.Cond.instantiable "RockingHorseModel" (51 : Nat)) ∈ lw_all := lw_g (lw_at lw_m4 224 rfl) rfl
theorem q1052 : (Jvm.Cond.instanceMethod ({ cls := "RockingHorseModel", name := "<init>", desc := "()V" } : Jvm.MethodName)) ∈ lw_all := lw_g (lw_at lw_m4 226 rfl) rfl
theorem q1053 : (Jvm.Cond.code ({ cls := "RockingHorseModel", name := "<init>", desc := "()V" } : Jvm.MethodName) prog_9_method_1_code (2 : Nat) (Option.none : Option Jvm.ClassFile.FieldType)) ∈ lw_all := lw_g (lw_at lw_m4 227 rfl) rfl
theorem q1054 : (Jvm.Cond.methodLink "RockingHorseModel" (3 : Nat) ({ cls := "java/lang/Object", name := "<init>", desc := "()V" } : Jvm.MethodName)) ∈ lw_all := lw_g (lw_at lw_m4 228 rfl) rfl
theorem q1055 : (Jvm.Cond.constant "RockingHorseModel" (88 : Nat) (1000000000 : Int32)) ∈ lw_all := lw_g (lw_at lw_m4 229 rfl) rfl
theorem q1056 : (Jvm.Cond.fieldLink "RockingHorseModel" (9 : Nat) "RockingHorseModel" "now" "[I") ∈ lw_all := lw_g (lw_at lw_m4 230 rfl) rfl
theorem q1057 : (Jvm.Cond.fieldLink "RockingHorseModel" (13 : Nat) "RockingHorseModel" "hours" "I") ∈ lw_all := lw_g (lw_at lw_m4 231 rfl) rfl
theorem q1058 : (Jvm.Cond.fieldLink "RockingHorseModel" (17 : Nat) "RockingHorseModel" "beats" "I") ∈ lw_all := lw_g (lw_at lw_m4 232 rfl) rfl
theorem q1059 : (Jvm.Cond.fieldLink "RockingHorseModel" (120 : Nat) "RockingHorseModel" "men" "I") ∈ lw_all := lw_g (lw_at lw_m4 233 rfl) rfl
theorem q1060 : (Jvm.Cond.fieldLink "RockingHorseModel" (20 : Nat) "RockingHorseModel" "most" "[I") ∈ lw_all := lw_g (lw_at lw_m4 234 rfl) rfl
theorem q1061 : (Jvm.Cond.fieldLink "RockingHorseModel" (23 : Nat) "RockingHorseModel" "width" "[I") ∈ lw_all := lw_g (lw_at lw_m4 235 rfl) rfl
theorem q1062 : (Jvm.Cond.fieldLink "RockingHorseModel" (26 : Nat) "RockingHorseModel" "can" "[I") ∈ lw_all := lw_g (lw_at lw_m4 236 rfl) rfl
theorem q1063 : (Jvm.Cond.fieldLink "RockingHorseModel" (29 : Nat) "RockingHorseModel" "text" "[B") ∈ lw_all := lw_g (lw_at lw_m4 237 rfl) rfl
theorem q1064 : (Jvm.Cond.fieldLink "RockingHorseModel" (131 : Nat) "RockingHorseModel" "typed" "I") ∈ lw_all := lw_g (lw_at lw_m4 238 rfl) rfl
theorem q1065 : (Jvm.Cond.fieldLink "RockingHorseModel" (33 : Nat) "RockingHorseModel" "row" "[J") ∈ lw_all := lw_g (lw_at lw_m4 239 rfl) rfl
theorem q1066 : (Jvm.Cond.fieldLink "RockingHorseModel" (117 : Nat) "RockingHorseModel" "rowMany" "I") ∈ lw_all := lw_g (lw_at lw_m5 0 rfl) rfl
theorem q1067 : (Jvm.Cond.fieldLink "RockingHorseModel" (114 : Nat) "RockingHorseModel" "thrown" "I") ∈ lw_all := lw_g (lw_at lw_m5 1 rfl) rfl
theorem q1068 : (Jvm.Cond.fieldLink "RockingHorseModel" (134 : Nat) "RockingHorseModel" "read" "[B") ∈ lw_all := lw_g (lw_at lw_m5 2 rfl) rfl
theorem q1069 : (Jvm.Cond.fieldLink "RockingHorseModel" (137 : Nat) "RockingHorseModel" "length" "I") ∈ lw_all := lw_g (lw_at lw_m5 3 rfl) rfl
theorem q1070 : (Jvm.Cond.fieldLink "RockingHorseModel" (140 : Nat) "RockingHorseModel" "top" "I") ∈ lw_all := lw_g (lw_at lw_m5 4 rfl) rfl
theorem q1071 : (Jvm.Cond.fieldLink "RockingHorseModel" (143 : Nat) "RockingHorseModel" "at" "I") ∈ lw_all := lw_g (lw_at lw_m5 5 rfl) rfl
theorem q1072 : (Jvm.Cond.fieldLink "RockingHorseModel" (146 : Nat) "RockingHorseModel" "wrong" "I") ∈ lw_all := lw_g (lw_at lw_m5 6 rfl) rfl
theorem q1073 : (Jvm.Cond.fieldLink "RockingHorseModel" (37 : Nat) "RockingHorseModel" "comes" "[I") ∈ lw_all := lw_g (lw_at lw_m5 7 rfl) rfl
theorem q1074 : (Jvm.Cond.fieldLink "RockingHorseModel" (40 : Nat) "RockingHorseModel" "rule" "[B") ∈ lw_all := lw_g (lw_at lw_m5 8 rfl) rfl
theorem q1075 : (Jvm.Cond.fieldLink "RockingHorseModel" (43 : Nat) "RockingHorseModel" "otherRule" "[B") ∈ lw_all := lw_g (lw_at lw_m5 9 rfl) rfl
theorem q1076 : (Jvm.Cond.fieldLink "RockingHorseModel" (218 : Nat) "RockingHorseModel" "ruleSize" "I") ∈ lw_all := lw_g (lw_at lw_m5 10 rfl) rfl
theorem q1077 : (Jvm.Cond.fieldLink "RockingHorseModel" (211 : Nat) "RockingHorseModel" "isAsked" "Z") ∈ lw_all := lw_g (lw_at lw_m5 11 rfl) rfl
theorem q1078 : (Jvm.Cond.fieldLink "RockingHorseModel" (46 : Nat) "RockingHorseModel" "asked" "[I") ∈ lw_all := lw_g (lw_at lw_m5 12 rfl) rfl
theorem q1079 : (Jvm.Cond.fieldLink "RockingHorseModel" (49 : Nat) "RockingHorseModel" "undos" "[I") ∈ lw_all := lw_g (lw_at lw_m5 13 rfl) rfl
theorem q1080 : (Jvm.Cond.fieldLink "RockingHorseModel" (182 : Nat) "RockingHorseModel" "undoMany" "I") ∈ lw_all := lw_g (lw_at lw_m5 14 rfl) rfl
theorem q1081 : (Jvm.Cond.fieldLink "RockingHorseModel" (52 : Nat) "RockingHorseModel" "aside" "[I") ∈ lw_all := lw_g (lw_at lw_m5 15 rfl) rfl
theorem q1082 : (Jvm.Cond.fieldLink "RockingHorseModel" (55 : Nat) "RockingHorseModel" "then" "[I") ∈ lw_all := lw_g (lw_at lw_m5 16 rfl) rfl
theorem q1083 : (Jvm.Cond.fieldLink "RockingHorseModel" (265 : Nat) "RockingHorseModel" "gapBits" "I") ∈ lw_all := lw_g (lw_at lw_m5 17 rfl) rfl
theorem q1084 : (Jvm.Cond.fieldLink "RockingHorseModel" (268 : Nat) "RockingHorseModel" "rideBits" "I") ∈ lw_all := lw_g (lw_at lw_m5 18 rfl) rfl
theorem q1085 : (Jvm.Cond.fieldLink "RockingHorseModel" (58 : Nat) "RockingHorseModel" "rode" "[I") ∈ lw_all := lw_g (lw_at lw_m5 19 rfl) rfl
theorem q1086 : (Jvm.Cond.fieldLink "RockingHorseModel" (61 : Nat) "RockingHorseModel" "sore" "[I") ∈ lw_all := lw_g (lw_at lw_m5 20 rfl) rfl
theorem q1087 : (Jvm.Cond.fieldLink "RockingHorseModel" (64 : Nat) "RockingHorseModel" "acts" "[I") ∈ lw_all := lw_g (lw_at lw_m5 21 rfl) rfl
theorem q1088 : (Jvm.Cond.fieldLink "RockingHorseModel" (67 : Nat) "RockingHorseModel" "may" "[I") ∈ lw_all := lw_g (lw_at lw_m5 22 rfl) rfl
theorem q1089 : (Jvm.Cond.fieldLink "RockingHorseModel" (70 : Nat) "RockingHorseModel" "must" "[I") ∈ lw_all := lw_g (lw_at lw_m5 23 rfl) rfl
theorem q1090 : (Jvm.Cond.fieldLink "RockingHorseModel" (73 : Nat) "RockingHorseModel" "wasMay" "[I") ∈ lw_all := lw_g (lw_at lw_m5 24 rfl) rfl
theorem q1091 : (Jvm.Cond.fieldLink "RockingHorseModel" (76 : Nat) "RockingHorseModel" "wasMust" "[I") ∈ lw_all := lw_g (lw_at lw_m5 25 rfl) rfl
theorem q1092 : (Jvm.Cond.fieldLink "RockingHorseModel" (79 : Nat) "RockingHorseModel" "hardness" "[I") ∈ lw_all := lw_g (lw_at lw_m5 26 rfl) rfl
theorem q1093 : (Jvm.Cond.fieldLink "RockingHorseModel" (82 : Nat) "RockingHorseModel" "least" "[I") ∈ lw_all := lw_g (lw_at lw_m5 27 rfl) rfl
theorem q1094 : (Jvm.Cond.fieldLink "RockingHorseModel" (85 : Nat) "RockingHorseModel" "ways" "[I") ∈ lw_all := lw_g (lw_at lw_m5 28 rfl) rfl
theorem q1095 : (Jvm.Cond.fieldLink "RockingHorseModel" (89 : Nat) "RockingHorseModel" "bound" "I") ∈ lw_all := lw_g (lw_at lw_m5 29 rfl) rfl
theorem q1096 : (Jvm.Cond.fieldLink "RockingHorseModel" (92 : Nat) "RockingHorseModel" "line" "[I") ∈ lw_all := lw_g (lw_at lw_m5 30 rfl) rfl
theorem q1097 : (Jvm.Cond.fieldLink "RockingHorseModel" (95 : Nat) "RockingHorseModel" "canBe" "[Z") ∈ lw_all := lw_g (lw_at lw_m5 31 rfl) rfl
theorem q1098 : (Jvm.Cond.fieldLink "RockingHorseModel" (99 : Nat) "RockingHorseModel" "foundAt" "[I") ∈ lw_all := lw_g (lw_at lw_m5 32 rfl) rfl
theorem q1099 : (Jvm.Cond.fieldLink "RockingHorseModel" (102 : Nat) "RockingHorseModel" "foundWho" "[I") ∈ lw_all := lw_g (lw_at lw_m5 33 rfl) rfl
theorem q1100 : (Jvm.Cond.fieldLink "RockingHorseModel" (365 : Nat) "RockingHorseModel" "foundBits" "I") ∈ lw_all := lw_g (lw_at lw_m5 34 rfl) rfl
theorem q1101 : (Jvm.Cond.fieldLink "RockingHorseModel" (362 : Nat) "RockingHorseModel" "findings" "I") ∈ lw_all := lw_g (lw_at lw_m5 35 rfl) rfl
theorem q1102 : (Jvm.Cond.fieldLink "RockingHorseModel" (408 : Nat) "RockingHorseModel" "drawn" "I") ∈ lw_all := lw_g (lw_at lw_m5 36 rfl) rfl
theorem q1103 : (Jvm.Cond.fieldLink "RockingHorseModel" (185 : Nat) "RockingHorseModel" "came" "I") ∈ lw_all := lw_g (lw_at lw_m5 37 rfl) rfl
theorem q1104 : (Jvm.Cond.fieldLink "RockingHorseModel" (105 : Nat) "RockingHorseModel" "kept" "[I") ∈ lw_all := lw_g (lw_at lw_m5 38 rfl) rfl
theorem q1105 : (Jvm.Cond.fieldLink "RockingHorseModel" (108 : Nat) "RockingHorseModel" "isKept" "[Z") ∈ lw_all := lw_g (lw_at lw_m5 39 rfl) rfl
theorem q1106 : (Jvm.Cond.fieldLink "RockingHorseModel" (111 : Nat) "RockingHorseModel" "keptCame" "[I") ∈ lw_all := lw_g (lw_at lw_m5 40 rfl) rfl
theorem q1107 : (Jvm.Cond.laysFinal "RockingHorseModel" "RockingHorseModel" "now" "[I") ∈ lw_all := lw_g (lw_at lw_m5 41 rfl) rfl
theorem q1108 : (Jvm.Cond.soleField "RockingHorseModel" "now") ∈ lw_all := lw_g (lw_at lw_m5 42 rfl) rfl
theorem q1109 : (Jvm.Cond.lays "RockingHorseModel" "RockingHorseModel" "hours" "I") ∈ lw_all := lw_g (lw_at lw_m5 43 rfl) rfl
theorem q1110 : (Jvm.Cond.soleField "RockingHorseModel" "hours") ∈ lw_all := lw_g (lw_at lw_m5 44 rfl) rfl
theorem q1111 : (Jvm.Cond.lays "RockingHorseModel" "RockingHorseModel" "beats" "I") ∈ lw_all := lw_g (lw_at lw_m5 45 rfl) rfl
theorem q1112 : (Jvm.Cond.soleField "RockingHorseModel" "beats") ∈ lw_all := lw_g (lw_at lw_m5 46 rfl) rfl
theorem q1113 : (Jvm.Cond.lays "RockingHorseModel" "RockingHorseModel" "men" "I") ∈ lw_all := lw_g (lw_at lw_m5 47 rfl) rfl
theorem q1114 : (Jvm.Cond.soleField "RockingHorseModel" "men") ∈ lw_all := lw_g (lw_at lw_m5 48 rfl) rfl
theorem q1115 : (Jvm.Cond.laysFinal "RockingHorseModel" "RockingHorseModel" "most" "[I") ∈ lw_all := lw_g (lw_at lw_m5 49 rfl) rfl
theorem q1116 : (Jvm.Cond.soleField "RockingHorseModel" "most") ∈ lw_all := lw_g (lw_at lw_m5 50 rfl) rfl
theorem q1117 : (Jvm.Cond.laysFinal "RockingHorseModel" "RockingHorseModel" "width" "[I") ∈ lw_all := lw_g (lw_at lw_m5 51 rfl) rfl
theorem q1118 : (Jvm.Cond.soleField "RockingHorseModel" "width") ∈ lw_all := lw_g (lw_at lw_m5 52 rfl) rfl
theorem q1119 : (Jvm.Cond.laysFinal "RockingHorseModel" "RockingHorseModel" "can" "[I") ∈ lw_all := lw_g (lw_at lw_m5 53 rfl) rfl
theorem q1120 : (Jvm.Cond.soleField "RockingHorseModel" "can") ∈ lw_all := lw_g (lw_at lw_m5 54 rfl) rfl
theorem q1121 : (Jvm.Cond.laysFinal "RockingHorseModel" "RockingHorseModel" "text" "[B") ∈ lw_all := lw_g (lw_at lw_m5 55 rfl) rfl
theorem q1122 : (Jvm.Cond.soleField "RockingHorseModel" "text") ∈ lw_all := lw_g (lw_at lw_m5 56 rfl) rfl
theorem q1123 : (Jvm.Cond.lays "RockingHorseModel" "RockingHorseModel" "typed" "I") ∈ lw_all := lw_g (lw_at lw_m5 57 rfl) rfl
theorem q1124 : (Jvm.Cond.soleField "RockingHorseModel" "typed") ∈ lw_all := lw_g (lw_at lw_m5 58 rfl) rfl
theorem q1125 : (Jvm.Cond.laysFinal "RockingHorseModel" "RockingHorseModel" "row" "[J") ∈ lw_all := lw_g (lw_at lw_m5 59 rfl) rfl
theorem q1126 : (Jvm.Cond.soleField "RockingHorseModel" "row") ∈ lw_all := lw_g (lw_at lw_m5 60 rfl) rfl
theorem q1127 : (Jvm.Cond.lays "RockingHorseModel" "RockingHorseModel" "rowMany" "I") ∈ lw_all := lw_g (lw_at lw_m5 61 rfl) rfl
theorem q1128 : (Jvm.Cond.soleField "RockingHorseModel" "rowMany") ∈ lw_all := lw_g (lw_at lw_m5 62 rfl) rfl
theorem q1129 : (Jvm.Cond.lays "RockingHorseModel" "RockingHorseModel" "thrown" "I") ∈ lw_all := lw_g (lw_at lw_m5 63 rfl) rfl
theorem q1130 : (Jvm.Cond.soleField "RockingHorseModel" "thrown") ∈ lw_all := lw_g (lw_at lw_m5 64 rfl) rfl
theorem q1131 : (Jvm.Cond.lays "RockingHorseModel" "RockingHorseModel" "read" "[B") ∈ lw_all := lw_g (lw_at lw_m5 65 rfl) rfl
theorem q1132 : (Jvm.Cond.soleField "RockingHorseModel" "read") ∈ lw_all := lw_g (lw_at lw_m5 66 rfl) rfl
theorem q1133 : (Jvm.Cond.lays "RockingHorseModel" "RockingHorseModel" "length" "I") ∈ lw_all := lw_g (lw_at lw_m5 67 rfl) rfl
theorem q1134 : (Jvm.Cond.soleField "RockingHorseModel" "length") ∈ lw_all := lw_g (lw_at lw_m5 68 rfl) rfl
theorem q1135 : (Jvm.Cond.lays "RockingHorseModel" "RockingHorseModel" "top" "I") ∈ lw_all := lw_g (lw_at lw_m5 69 rfl) rfl
theorem q1136 : (Jvm.Cond.soleField "RockingHorseModel" "top") ∈ lw_all := lw_g (lw_at lw_m5 70 rfl) rfl
theorem q1137 : (Jvm.Cond.lays "RockingHorseModel" "RockingHorseModel" "at" "I") ∈ lw_all := lw_g (lw_at lw_m5 71 rfl) rfl
theorem q1138 : (Jvm.Cond.soleField "RockingHorseModel" "at") ∈ lw_all := lw_g (lw_at lw_m5 72 rfl) rfl
theorem q1139 : (Jvm.Cond.lays "RockingHorseModel" "RockingHorseModel" "wrong" "I") ∈ lw_all := lw_g (lw_at lw_m5 73 rfl) rfl
theorem q1140 : (Jvm.Cond.soleField "RockingHorseModel" "wrong") ∈ lw_all := lw_g (lw_at lw_m5 74 rfl) rfl
theorem q1141 : (Jvm.Cond.laysFinal "RockingHorseModel" "RockingHorseModel" "comes" "[I") ∈ lw_all := lw_g (lw_at lw_m5 75 rfl) rfl
theorem q1142 : (Jvm.Cond.soleField "RockingHorseModel" "comes") ∈ lw_all := lw_g (lw_at lw_m5 76 rfl) rfl
theorem q1143 : (Jvm.Cond.lays "RockingHorseModel" "RockingHorseModel" "rule" "[B") ∈ lw_all := lw_g (lw_at lw_m5 77 rfl) rfl
theorem q1144 : (Jvm.Cond.soleField "RockingHorseModel" "rule") ∈ lw_all := lw_g (lw_at lw_m5 78 rfl) rfl
theorem q1145 : (Jvm.Cond.lays "RockingHorseModel" "RockingHorseModel" "otherRule" "[B") ∈ lw_all := lw_g (lw_at lw_m5 79 rfl) rfl
theorem q1146 : (Jvm.Cond.soleField "RockingHorseModel" "otherRule") ∈ lw_all := lw_g (lw_at lw_m5 80 rfl) rfl
theorem q1147 : (Jvm.Cond.lays "RockingHorseModel" "RockingHorseModel" "ruleSize" "I") ∈ lw_all := lw_g (lw_at lw_m5 81 rfl) rfl
theorem q1148 : (Jvm.Cond.soleField "RockingHorseModel" "ruleSize") ∈ lw_all := lw_g (lw_at lw_m5 82 rfl) rfl
theorem q1149 : (Jvm.Cond.lays "RockingHorseModel" "RockingHorseModel" "isAsked" "Z") ∈ lw_all := lw_g (lw_at lw_m5 83 rfl) rfl
theorem q1150 : (Jvm.Cond.soleField "RockingHorseModel" "isAsked") ∈ lw_all := lw_g (lw_at lw_m5 84 rfl) rfl
theorem q1151 : (Jvm.Cond.laysFinal "RockingHorseModel" "RockingHorseModel" "asked" "[I") ∈ lw_all := lw_g (lw_at lw_m5 85 rfl) rfl
theorem q1152 : (Jvm.Cond.soleField "RockingHorseModel" "asked") ∈ lw_all := lw_g (lw_at lw_m5 86 rfl) rfl
theorem q1153 : (Jvm.Cond.laysFinal "RockingHorseModel" "RockingHorseModel" "undos" "[I") ∈ lw_all := lw_g (lw_at lw_m5 87 rfl) rfl
theorem q1154 : (Jvm.Cond.soleField "RockingHorseModel" "undos") ∈ lw_all := lw_g (lw_at lw_m5 88 rfl) rfl
theorem q1155 : (Jvm.Cond.lays "RockingHorseModel" "RockingHorseModel" "undoMany" "I") ∈ lw_all := lw_g (lw_at lw_m5 89 rfl) rfl
theorem q1156 : (Jvm.Cond.soleField "RockingHorseModel" "undoMany") ∈ lw_all := lw_g (lw_at lw_m5 90 rfl) rfl
theorem q1157 : (Jvm.Cond.laysFinal "RockingHorseModel" "RockingHorseModel" "aside" "[I") ∈ lw_all := lw_g (lw_at lw_m5 91 rfl) rfl
theorem q1158 : (Jvm.Cond.soleField "RockingHorseModel" "aside") ∈ lw_all := lw_g (lw_at lw_m5 92 rfl) rfl
theorem q1159 : (Jvm.Cond.laysFinal "RockingHorseModel" "RockingHorseModel" "then" "[I") ∈ lw_all := lw_g (lw_at lw_m5 93 rfl) rfl
theorem q1160 : (Jvm.Cond.soleField "RockingHorseModel" "then") ∈ lw_all := lw_g (lw_at lw_m5 94 rfl) rfl
theorem q1161 : (Jvm.Cond.lays "RockingHorseModel" "RockingHorseModel" "gapBits" "I") ∈ lw_all := lw_g (lw_at lw_m5 95 rfl) rfl
theorem q1162 : (Jvm.Cond.soleField "RockingHorseModel" "gapBits") ∈ lw_all := lw_g (lw_at lw_m5 96 rfl) rfl
theorem q1163 : (Jvm.Cond.lays "RockingHorseModel" "RockingHorseModel" "rideBits" "I") ∈ lw_all := lw_g (lw_at lw_m5 97 rfl) rfl
theorem q1164 : (Jvm.Cond.soleField "RockingHorseModel" "rideBits") ∈ lw_all := lw_g (lw_at lw_m5 98 rfl) rfl
theorem q1165 : (Jvm.Cond.laysFinal "RockingHorseModel" "RockingHorseModel" "rode" "[I") ∈ lw_all := lw_g (lw_at lw_m5 99 rfl) rfl
theorem q1166 : (Jvm.Cond.soleField "RockingHorseModel" "rode") ∈ lw_all := lw_g (lw_at lw_m5 100 rfl) rfl
theorem q1167 : (Jvm.Cond.laysFinal "RockingHorseModel" "RockingHorseModel" "sore" "[I") ∈ lw_all := lw_g (lw_at lw_m5 101 rfl) rfl
theorem q1168 : (Jvm.Cond.soleField "RockingHorseModel" "sore") ∈ lw_all := lw_g (lw_at lw_m5 102 rfl) rfl
theorem q1169 : (Jvm.Cond.laysFinal "RockingHorseModel" "RockingHorseModel" "acts" "[I") ∈ lw_all := lw_g (lw_at lw_m5 103 rfl) rfl
theorem q1170 : (Jvm.Cond.soleField "RockingHorseModel" "acts") ∈ lw_all := lw_g (lw_at lw_m5 104 rfl) rfl
theorem q1171 : (Jvm.Cond.laysFinal "RockingHorseModel" "RockingHorseModel" "may" "[I") ∈ lw_all := lw_g (lw_at lw_m5 105 rfl) rfl
theorem q1172 : (Jvm.Cond.soleField "RockingHorseModel" "may") ∈ lw_all := lw_g (lw_at lw_m5 106 rfl) rfl
theorem q1173 : (Jvm.Cond.laysFinal "RockingHorseModel" "RockingHorseModel" "must" "[I") ∈ lw_all := lw_g (lw_at lw_m5 107 rfl) rfl
theorem q1174 : (Jvm.Cond.soleField "RockingHorseModel" "must") ∈ lw_all := lw_g (lw_at lw_m5 108 rfl) rfl
theorem q1175 : (Jvm.Cond.laysFinal "RockingHorseModel" "RockingHorseModel" "wasMay" "[I") ∈ lw_all := lw_g (lw_at lw_m5 109 rfl) rfl
theorem q1176 : (Jvm.Cond.soleField "RockingHorseModel" "wasMay") ∈ lw_all := lw_g (lw_at lw_m5 110 rfl) rfl
theorem q1177 : (Jvm.Cond.laysFinal "RockingHorseModel" "RockingHorseModel" "wasMust" "[I") ∈ lw_all := lw_g (lw_at lw_m5 111 rfl) rfl
theorem q1178 : (Jvm.Cond.soleField "RockingHorseModel" "wasMust") ∈ lw_all := lw_g (lw_at lw_m5 112 rfl) rfl
theorem q1179 : (Jvm.Cond.laysFinal "RockingHorseModel" "RockingHorseModel" "hardness" "[I") ∈ lw_all := lw_g (lw_at lw_m5 113 rfl) rfl
theorem q1180 : (Jvm.Cond.soleField "RockingHorseModel" "hardness") ∈ lw_all := lw_g (lw_at lw_m5 114 rfl) rfl
theorem q1181 : (Jvm.Cond.laysFinal "RockingHorseModel" "RockingHorseModel" "least" "[I") ∈ lw_all := lw_g (lw_at lw_m5 115 rfl) rfl
theorem q1182 : (Jvm.Cond.soleField "RockingHorseModel" "least") ∈ lw_all := lw_g (lw_at lw_m5 116 rfl) rfl
theorem q1183 : (Jvm.Cond.laysFinal "RockingHorseModel" "RockingHorseModel" "ways" "[I") ∈ lw_all := lw_g (lw_at lw_m5 117 rfl) rfl
theorem q1184 : (Jvm.Cond.soleField "RockingHorseModel" "ways") ∈ lw_all := lw_g (lw_at lw_m5 118 rfl) rfl
theorem q1185 : (Jvm.Cond.lays "RockingHorseModel" "RockingHorseModel" "bound" "I") ∈ lw_all := lw_g (lw_at lw_m5 119 rfl) rfl
theorem q1186 : (Jvm.Cond.soleField "RockingHorseModel" "bound") ∈ lw_all := lw_g (lw_at lw_m5 120 rfl) rfl
theorem q1187 : (Jvm.Cond.laysFinal "RockingHorseModel" "RockingHorseModel" "line" "[I") ∈ lw_all := lw_g (lw_at lw_m5 121 rfl) rfl
theorem q1188 : (Jvm.Cond.soleField "RockingHorseModel" "line") ∈ lw_all := lw_g (lw_at lw_m5 122 rfl) rfl
theorem q1189 : (Jvm.Cond.laysFinal "RockingHorseModel" "RockingHorseModel" "canBe" "[Z") ∈ lw_all := lw_g (lw_at lw_m5 123 rfl) rfl
theorem q1190 : (Jvm.Cond.soleField "RockingHorseModel" "canBe") ∈ lw_all := lw_g (lw_at lw_m5 124 rfl) rfl
theorem q1191 : (Jvm.Cond.laysFinal "RockingHorseModel" "RockingHorseModel" "foundAt" "[I") ∈ lw_all := lw_g (lw_at lw_m5 125 rfl) rfl
theorem q1192 : (Jvm.Cond.soleField "RockingHorseModel" "foundAt") ∈ lw_all := lw_g (lw_at lw_m5 126 rfl) rfl
theorem q1193 : (Jvm.Cond.laysFinal "RockingHorseModel" "RockingHorseModel" "foundWho" "[I") ∈ lw_all := lw_g (lw_at lw_m5 127 rfl) rfl
theorem q1194 : (Jvm.Cond.soleField "RockingHorseModel" "foundWho") ∈ lw_all := lw_g (lw_at lw_m5 128 rfl) rfl
theorem q1195 : (Jvm.Cond.lays "RockingHorseModel" "RockingHorseModel" "foundBits" "I") ∈ lw_all := lw_g (lw_at lw_m5 129 rfl) rfl
theorem q1196 : (Jvm.Cond.soleField "RockingHorseModel" "foundBits") ∈ lw_all := lw_g (lw_at lw_m5 130 rfl) rfl
theorem q1197 : (Jvm.Cond.lays "RockingHorseModel" "RockingHorseModel" "findings" "I") ∈ lw_all := lw_g (lw_at lw_m5 131 rfl) rfl
theorem q1198 : (Jvm.Cond.soleField "RockingHorseModel" "findings") ∈ lw_all := lw_g (lw_at lw_m5 132 rfl) rfl
theorem q1199 : (Jvm.Cond.lays "RockingHorseModel" "RockingHorseModel" "drawn" "I") ∈ lw_all := lw_g (lw_at lw_m5 133 rfl) rfl
theorem q1200 : (Jvm.Cond.soleField "RockingHorseModel" "drawn") ∈ lw_all := lw_g (lw_at lw_m5 134 rfl) rfl
theorem q1201 : (Jvm.Cond.lays "RockingHorseModel" "RockingHorseModel" "came" "I") ∈ lw_all := lw_g (lw_at lw_m5 135 rfl) rfl
theorem q1202 : (Jvm.Cond.soleField "RockingHorseModel" "came") ∈ lw_all := lw_g (lw_at lw_m5 136 rfl) rfl
theorem q1203 : (Jvm.Cond.laysFinal "RockingHorseModel" "RockingHorseModel" "kept" "[I") ∈ lw_all := lw_g (lw_at lw_m5 137 rfl) rfl
theorem q1204 : (Jvm.Cond.soleField "RockingHorseModel" "kept") ∈ lw_all := lw_g (lw_at lw_m5 138 rfl) rfl
theorem q1205 : (Jvm.Cond.laysFinal "RockingHorseModel" "RockingHorseModel" "isKept" "[Z") ∈ lw_all := lw_g (lw_at lw_m5 139 rfl) rfl
theorem q1206 : (Jvm.Cond.soleField "RockingHorseModel" "isKept") ∈ lw_all := lw_g (lw_at lw_m5 140 rfl) rfl
theorem q1207 : (Jvm.Cond.laysFinal "RockingHorseModel" "RockingHorseModel" "keptCame" "[I") ∈ lw_all := lw_g (lw_at lw_m5 141 rfl) rfl
theorem q1208 : (Jvm.Cond.soleField "RockingHorseModel" "keptCame") ∈ lw_all := lw_g (lw_at lw_m5 142 rfl) rfl
theorem q1209 : (Jvm.Cond.superclass "RockingHorseModel" "java/lang/Object") ∈ lw_all := lw_g (lw_at lw_m5 143 rfl) rfl
theorem q1212 : (Jvm.Cond.instanceMethod ({ cls := "RockingHorseModel", name := "thrown", desc := "()I" } : Jvm.MethodName)) ∈ lw_all := lw_g (lw_at lw_m5 146 rfl) rfl
theorem q1213 : (Jvm.Cond.selects "RockingHorseModel" ({ cls := "RockingHorseModel", name := "thrown", desc := "()I" } : Jvm.MethodName) ({ cls := "RockingHorseModel", name := "thrown", desc := "()I" } : Jvm.MethodName)) ∈ lw_all := lw_g (lw_at lw_m5 147 rfl) rfl
theorem q1214 : (Jvm.Cond.code ({ cls := "RockingHorseModel", name := "thrown", desc := "()I" } : Jvm.MethodName) prog_9_method_2_code (1 : Nat) (Option.some Jvm.ClassFile.FieldType.int)) ∈ lw_all := lw_g (lw_at lw_m5 148 rfl) rfl
theorem q1216 : (Jvm.Cond.instanceMethod ({ cls := "RockingHorseModel", name := "sign", desc := "(I)I" } : Jvm.MethodName)) ∈ lw_all := lw_g (lw_at lw_m5 150 rfl) rfl
theorem q1217 : (Jvm.Cond.selects "RockingHorseModel" ({ cls := "RockingHorseModel", name := "sign", desc := "(I)I" } : Jvm.MethodName) ({ cls := "RockingHorseModel", name := "sign", desc := "(I)I" } : Jvm.MethodName)) ∈ lw_all := lw_g (lw_at lw_m5 151 rfl) rfl
theorem q1218 : (Jvm.Cond.code ({ cls := "RockingHorseModel", name := "sign", desc := "(I)I" } : Jvm.MethodName) prog_9_method_11_code (3 : Nat) (Option.some Jvm.ClassFile.FieldType.int)) ∈ lw_all := lw_g (lw_at lw_m5 152 rfl) rfl
theorem q1220 : (Jvm.Cond.instanceMethod ({ cls := "RockingHorseModel", name := "end", desc := "(I)Z" } : Jvm.MethodName)) ∈ lw_all := lw_g (lw_at lw_m5 154 rfl) rfl
theorem q1221 : (Jvm.Cond.selects "RockingHorseModel" ({ cls := "RockingHorseModel", name := "end", desc := "(I)Z" } : Jvm.MethodName) ({ cls := "RockingHorseModel", name := "end", desc := "(I)Z" } : Jvm.MethodName)) ∈ lw_all := lw_g (lw_at lw_m5 155 rfl) rfl
theorem q1222 : (Jvm.Cond.code ({ cls := "RockingHorseModel", name := "end", desc := "(I)Z" } : Jvm.MethodName) prog_9_method_12_code (2 : Nat) (Option.some Jvm.ClassFile.FieldType.boolean)) ∈ lw_all := lw_g (lw_at lw_m5 156 rfl) rfl
theorem q1223 : (Jvm.Cond.methodLink "RockingHorseModel" (123 : Nat) ({ cls := "RockingHorseModel", name := "in", desc := "(III)Z" } : Jvm.MethodName)) ∈ lw_all := lw_g (lw_at lw_m5 157 rfl) rfl
theorem q1224 : (Jvm.Cond.static ({ cls := "RockingHorseModel", name := "in", desc := "(III)Z" } : Jvm.MethodName)) ∈ lw_all := lw_g (lw_at lw_m5 158 rfl) rfl
theorem q1225 : (Jvm.Cond.code ({ cls := "RockingHorseModel", name := "in", desc := "(III)Z" } : Jvm.MethodName) prog_9_method_3_code (3 : Nat) (Option.some Jvm.ClassFile.FieldType.boolean)) ∈ lw_all := lw_g (lw_at lw_m5 159 rfl) rfl
theorem q1227 : (Jvm.Cond.instanceMethod ({ cls := "RockingHorseModel", name := "riders", desc := "()I" } : Jvm.MethodName)) ∈ lw_all := lw_g (lw_at lw_m5 161 rfl) rfl
theorem q1228 : (Jvm.Cond.selects "RockingHorseModel" ({ cls := "RockingHorseModel", name := "riders", desc := "()I" } : Jvm.MethodName) ({ cls := "RockingHorseModel", name := "riders", desc := "()I" } : Jvm.MethodName)) ∈ lw_all := lw_g (lw_at lw_m5 162 rfl) rfl
theorem q1229 : (Jvm.Cond.code ({ cls := "RockingHorseModel", name := "riders", desc := "()I" } : Jvm.MethodName) prog_9_method_24_code (4 : Nat) (Option.some Jvm.ClassFile.FieldType.int)) ∈ lw_all := lw_g (lw_at lw_m5 163 rfl) rfl
theorem q1230 : (Jvm.Cond.methodLink "RockingHorseModel" (173 : Nat) ({ cls := "RockingHorseModel", name := "beginText", desc := "(I)V" } : Jvm.MethodName)) ∈ lw_all := lw_g (lw_at lw_m5 164 rfl) rfl
theorem q1231 : (Jvm.Cond.privateMethod ({ cls := "RockingHorseModel", name := "beginText", desc := "(I)V" } : Jvm.MethodName)) ∈ lw_tbl := lw_at lw_m5 165 rfl
theorem q1232 : (Jvm.Cond.instanceMethod ({ cls := "RockingHorseModel", name := "beginText", desc := "(I)V" } : Jvm.MethodName)) ∈ lw_all := lw_g (lw_at lw_m5 166 rfl) rfl
theorem q1233 : (Jvm.Cond.code ({ cls := "RockingHorseModel", name := "beginText", desc := "(I)V" } : Jvm.MethodName) prog_9_method_14_code (2 : Nat) (Option.none : Option Jvm.ClassFile.FieldType)) ∈ lw_all := lw_g (lw_at lw_m5 167 rfl) rfl
theorem q1234 : (Jvm.Cond.methodLink "RockingHorseModel" (149 : Nat) ({ cls := "RockingHorseModel", name := "begin", desc := "([BII)V" } : Jvm.MethodName)) ∈ lw_all := lw_g (lw_at lw_m5 168 rfl) rfl
theorem q1235 : (Jvm.Cond.privateMethod ({ cls := "RockingHorseModel", name := "begin", desc := "([BII)V" } : Jvm.MethodName)) ∈ lw_tbl := lw_at lw_m5 169 rfl
theorem q1236 : (Jvm.Cond.instanceMethod ({ cls := "RockingHorseModel", name := "begin", desc := "([BII)V" } : Jvm.MethodName)) ∈ lw_all := lw_g (lw_at lw_m5 170 rfl) rfl
theorem q1237 : (Jvm.Cond.code ({ cls := "RockingHorseModel", name := "begin", desc := "([BII)V" } : Jvm.MethodName) prog_9_method_13_code (4 : Nat) (Option.none : Option Jvm.ClassFile.FieldType)) ∈ lw_all := lw_g (lw_at lw_m5 171 rfl) rfl
theorem q1238 : (Jvm.Cond.methodLink "RockingHorseModel" (153 : Nat) ({ cls := "RockingHorseModel", name := "fine", desc := "()Z" } : Jvm.MethodName)) ∈ lw_all := lw_g (lw_at lw_m5 172 rfl) rfl
theorem q1239 : (Jvm.Cond.privateMethod ({ cls := "RockingHorseModel", name := "fine", desc := "()Z" } : Jvm.MethodName)) ∈ lw_tbl := lw_at lw_m5 173 rfl
theorem q1240 : (Jvm.Cond.instanceMethod ({ cls := "RockingHorseModel", name := "fine", desc := "()Z" } : Jvm.MethodName)) ∈ lw_all := lw_g (lw_at lw_m5 174 rfl) rfl
theorem q1241 : (Jvm.Cond.code ({ cls := "RockingHorseModel", name := "fine", desc := "()Z" } : Jvm.MethodName) prog_9_method_16_code (1 : Nat) (Option.some Jvm.ClassFile.FieldType.boolean)) ∈ lw_all := lw_g (lw_at lw_m5 175 rfl) rfl
theorem q1242 : (Jvm.Cond.methodLink "RockingHorseModel" (165 : Nat) ({ cls := "RockingHorseModel", name := "fault", desc := "(I)V" } : Jvm.MethodName)) ∈ lw_all := lw_g (lw_at lw_m5 176 rfl) rfl
theorem q1243 : (Jvm.Cond.privateMethod ({ cls := "RockingHorseModel", name := "fault", desc := "(I)V" } : Jvm.MethodName)) ∈ lw_tbl := lw_at lw_m5 177 rfl
theorem q1244 : (Jvm.Cond.instanceMethod ({ cls := "RockingHorseModel", name := "fault", desc := "(I)V" } : Jvm.MethodName)) ∈ lw_all := lw_g (lw_at lw_m5 178 rfl) rfl
theorem q1245 : (Jvm.Cond.code ({ cls := "RockingHorseModel", name := "fault", desc := "(I)V" } : Jvm.MethodName) prog_9_method_17_code (2 : Nat) (Option.none : Option Jvm.ClassFile.FieldType)) ∈ lw_all := lw_g (lw_at lw_m5 179 rfl) rfl
theorem q1246 : (Jvm.Cond.methodLink "RockingHorseModel" (176 : Nat) ({ cls := "RockingHorseModel", name := "readMan", desc := "(I)V" } : Jvm.MethodName)) ∈ lw_all := lw_g (lw_at lw_m5 180 rfl) rfl
theorem q1247 : (Jvm.Cond.privateMethod ({ cls := "RockingHorseModel", name := "readMan", desc := "(I)V" } : Jvm.MethodName)) ∈ lw_tbl := lw_at lw_m5 181 rfl
theorem q1248 : (Jvm.Cond.instanceMethod ({ cls := "RockingHorseModel", name := "readMan", desc := "(I)V" } : Jvm.MethodName)) ∈ lw_all := lw_g (lw_at lw_m5 182 rfl) rfl
theorem q1249 : (Jvm.Cond.code ({ cls := "RockingHorseModel", name := "readMan", desc := "(I)V" } : Jvm.MethodName) prog_9_method_23_code (4 : Nat) (Option.none : Option Jvm.ClassFile.FieldType)) ∈ lw_all := lw_g (lw_at lw_m5 183 rfl) rfl
theorem q1250 : (Jvm.Cond.methodLink "RockingHorseModel" (169 : Nat) ({ cls := "RockingHorseModel", name := "oneOf", desc := "(CI)I" } : Jvm.MethodName)) ∈ lw_all := lw_g (lw_at lw_m5 184 rfl) rfl
theorem q1251 : (Jvm.Cond.privateMethod ({ cls := "RockingHorseModel", name := "oneOf", desc := "(CI)I" } : Jvm.MethodName)) ∈ lw_tbl := lw_at lw_m5 185 rfl
theorem q1252 : (Jvm.Cond.instanceMethod ({ cls := "RockingHorseModel", name := "oneOf", desc := "(CI)I" } : Jvm.MethodName)) ∈ lw_all := lw_g (lw_at lw_m5 186 rfl) rfl
theorem q1253 : (Jvm.Cond.code ({ cls := "RockingHorseModel", name := "oneOf", desc := "(CI)I" } : Jvm.MethodName) prog_9_method_20_code (3 : Nat) (Option.some Jvm.ClassFile.FieldType.int)) ∈ lw_all := lw_g (lw_at lw_m5 187 rfl) rfl
theorem q1254 : (Jvm.Cond.methodLink "RockingHorseModel" (157 : Nat) ({ cls := "RockingHorseModel", name := "here", desc := "()I" } : Jvm.MethodName)) ∈ lw_all := lw_g (lw_at lw_m5 188 rfl) rfl
theorem q1255 : (Jvm.Cond.privateMethod ({ cls := "RockingHorseModel", name := "here", desc := "()I" } : Jvm.MethodName)) ∈ lw_tbl := lw_at lw_m5 189 rfl
theorem q1256 : (Jvm.Cond.instanceMethod ({ cls := "RockingHorseModel", name := "here", desc := "()I" } : Jvm.MethodName)) ∈ lw_all := lw_g (lw_at lw_m5 190 rfl) rfl
theorem q1257 : (Jvm.Cond.code ({ cls := "RockingHorseModel", name := "here", desc := "()I" } : Jvm.MethodName) prog_9_method_15_code (1 : Nat) (Option.some Jvm.ClassFile.FieldType.int)) ∈ lw_all := lw_g (lw_at lw_m5 191 rfl) rfl
theorem q1258 : (Jvm.Cond.methodLink "RockingHorseModel" (161 : Nat) ({ cls := "RockingHorseModel", name := "passes", desc := "(C)Z" } : Jvm.MethodName)) ∈ lw_all := lw_g (lw_at lw_m5 192 rfl) rfl
theorem q1259 : (Jvm.Cond.privateMethod ({ cls := "RockingHorseModel", name := "passes", desc := "(C)Z" } : Jvm.MethodName)) ∈ lw_tbl := lw_at lw_m5 193 rfl
theorem q1260 : (Jvm.Cond.instanceMethod ({ cls := "RockingHorseModel", name := "passes", desc := "(C)Z" } : Jvm.MethodName)) ∈ lw_all := lw_g (lw_at lw_m5 194 rfl) rfl
theorem q1261 : (Jvm.Cond.code ({ cls := "RockingHorseModel", name := "passes", desc := "(C)Z" } : Jvm.MethodName) prog_9_method_18_code (2 : Nat) (Option.some Jvm.ClassFile.FieldType.boolean)) ∈ lw_all := lw_g (lw_at lw_m5 195 rfl) rfl
theorem q1262 : (Jvm.Cond.methodLink "RockingHorseModel" (179 : Nat) ({ cls := "RockingHorseModel", name := "wasRight", desc := "()Z" } : Jvm.MethodName)) ∈ lw_all := lw_g (lw_at lw_m5 196 rfl) rfl
theorem q1263 : (Jvm.Cond.privateMethod ({ cls := "RockingHorseModel", name := "wasRight", desc := "()Z" } : Jvm.MethodName)) ∈ lw_tbl := lw_at lw_m5 197 rfl
theorem q1264 : (Jvm.Cond.instanceMethod ({ cls := "RockingHorseModel", name := "wasRight", desc := "()Z" } : Jvm.MethodName)) ∈ lw_all := lw_g (lw_at lw_m5 198 rfl) rfl
theorem q1265 : (Jvm.Cond.code ({ cls := "RockingHorseModel", name := "wasRight", desc := "()Z" } : Jvm.MethodName) prog_9_method_22_code (1 : Nat) (Option.some Jvm.ClassFile.FieldType.boolean)) ∈ lw_all := lw_g (lw_at lw_m5 199 rfl) rfl
theorem q1267 : (Jvm.Cond.instanceMethod ({ cls := "RockingHorseModel", name := "rule", desc := "()I" } : Jvm.MethodName)) ∈ lw_all := lw_g (lw_at lw_m5 201 rfl) rfl
theorem q1268 : (Jvm.Cond.selects "RockingHorseModel" ({ cls := "RockingHorseModel", name := "rule", desc := "()I" } : Jvm.MethodName) ({ cls := "RockingHorseModel", name := "rule", desc := "()I" } : Jvm.MethodName)) ∈ lw_all := lw_g (lw_at lw_m5 202 rfl) rfl
theorem q1269 : (Jvm.Cond.code ({ cls := "RockingHorseModel", name := "rule", desc := "()I" } : Jvm.MethodName) prog_9_method_31_code (3 : Nat) (Option.some Jvm.ClassFile.FieldType.int)) ∈ lw_all := lw_g (lw_at lw_m5 203 rfl) rfl
theorem q1270 : (Jvm.Cond.methodLink "RockingHorseModel" (215 : Nat) ({ cls := "RockingHorseModel", name := "readRule", desc := "()Z" } : Jvm.MethodName)) ∈ lw_all := lw_g (lw_at lw_m5 204 rfl) rfl
theorem q1271 : (Jvm.Cond.privateMethod ({ cls := "RockingHorseModel", name := "readRule", desc := "()Z" } : Jvm.MethodName)) ∈ lw_tbl := lw_at lw_m5 205 rfl
theorem q1272 : (Jvm.Cond.instanceMethod ({ cls := "RockingHorseModel", name := "readRule", desc := "()Z" } : Jvm.MethodName)) ∈ lw_all := lw_g (lw_at lw_m5 206 rfl) rfl
theorem q1273 : (Jvm.Cond.code ({ cls := "RockingHorseModel", name := "readRule", desc := "()Z" } : Jvm.MethodName) prog_9_method_30_code (1 : Nat) (Option.some Jvm.ClassFile.FieldType.boolean)) ∈ lw_all := lw_g (lw_at lw_m5 207 rfl) rfl
theorem q1274 : (Jvm.Cond.methodLink "RockingHorseModel" (198 : Nat) ({ cls := "RockingHorseModel", name := "heldBy", desc := "(I)I" } : Jvm.MethodName)) ∈ lw_all := lw_g (lw_at lw_m5 208 rfl) rfl
theorem q1275 : (Jvm.Cond.privateMethod ({ cls := "RockingHorseModel", name := "heldBy", desc := "(I)I" } : Jvm.MethodName)) ∈ lw_tbl := lw_at lw_m5 209 rfl
theorem q1276 : (Jvm.Cond.instanceMethod ({ cls := "RockingHorseModel", name := "heldBy", desc := "(I)I" } : Jvm.MethodName)) ∈ lw_all := lw_g (lw_at lw_m5 210 rfl) rfl
theorem q1277 : (Jvm.Cond.code ({ cls := "RockingHorseModel", name := "heldBy", desc := "(I)I" } : Jvm.MethodName) prog_9_method_25_code (3 : Nat) (Option.some Jvm.ClassFile.FieldType.int)) ∈ lw_all := lw_g (lw_at lw_m5 211 rfl) rfl
theorem q1278 : (Jvm.Cond.methodLink "RockingHorseModel" (188 : Nat) ({ cls := "RockingHorseModel", name := "sum", desc := "(I)I" } : Jvm.MethodName)) ∈ lw_all := lw_g (lw_at lw_m5 212 rfl) rfl
theorem q1279 : (Jvm.Cond.privateMethod ({ cls := "RockingHorseModel", name := "sum", desc := "(I)I" } : Jvm.MethodName)) ∈ lw_tbl := lw_at lw_m5 213 rfl
theorem q1280 : (Jvm.Cond.instanceMethod ({ cls := "RockingHorseModel", name := "sum", desc := "(I)I" } : Jvm.MethodName)) ∈ lw_all := lw_g (lw_at lw_m5 214 rfl) rfl
theorem q1281 : (Jvm.Cond.code ({ cls := "RockingHorseModel", name := "sum", desc := "(I)I" } : Jvm.MethodName) prog_9_method_26_code (5 : Nat) (Option.some Jvm.ClassFile.FieldType.int)) ∈ lw_all := lw_g (lw_at lw_m5 215 rfl) rfl
theorem q1282 : (Jvm.Cond.methodLink "RockingHorseModel" (192 : Nat) ({ cls := "RockingHorseModel", name := "product", desc := "(I)I" } : Jvm.MethodName)) ∈ lw_all := lw_g (lw_at lw_m5 216 rfl) rfl
theorem q1283 : (Jvm.Cond.privateMethod ({ cls := "RockingHorseModel", name := "product", desc := "(I)I" } : Jvm.MethodName)) ∈ lw_tbl := lw_at lw_m5 217 rfl
theorem q1284 : (Jvm.Cond.instanceMethod ({ cls := "RockingHorseModel", name := "product", desc := "(I)I" } : Jvm.MethodName)) ∈ lw_all := lw_g (lw_at lw_m5 218 rfl) rfl
theorem q1285 : (Jvm.Cond.code ({ cls := "RockingHorseModel", name := "product", desc := "(I)I" } : Jvm.MethodName) prog_9_method_27_code (5 : Nat) (Option.some Jvm.ClassFile.FieldType.int)) ∈ lw_all := lw_g (lw_at lw_m5 219 rfl) rfl
theorem q1286 : (Jvm.Cond.methodLink "RockingHorseModel" (195 : Nat) ({ cls := "RockingHorseModel", name := "thing", desc := "(I)I" } : Jvm.MethodName)) ∈ lw_all := lw_g (lw_at lw_m5 220 rfl) rfl
theorem q1287 : (Jvm.Cond.privateMethod ({ cls := "RockingHorseModel", name := "thing", desc := "(I)I" } : Jvm.MethodName)) ∈ lw_tbl := lw_at lw_m5 221 rfl
theorem q1288 : (Jvm.Cond.instanceMethod ({ cls := "RockingHorseModel", name := "thing", desc := "(I)I" } : Jvm.MethodName)) ∈ lw_all := lw_g (lw_at lw_m5 222 rfl) rfl
theorem q1289 : (Jvm.Cond.code ({ cls := "RockingHorseModel", name := "thing", desc := "(I)I" } : Jvm.MethodName) prog_9_method_29_code (4 : Nat) (Option.some Jvm.ClassFile.FieldType.int)) ∈ lw_all := lw_g (lw_at lw_m5 223 rfl) rfl
theorem q1290 : (Jvm.Cond.methodLink "RockingHorseModel" (201 : Nat) ({ cls := "RockingHorseModel", name := "need", desc := "(C)V" } : Jvm.MethodName)) ∈ lw_all := lw_g (lw_at lw_m5 224 rfl) rfl
theorem q1291 : (Jvm.Cond.privateMethod ({ cls := "RockingHorseModel", name := "need", desc := "(C)V" } : Jvm.MethodName)) ∈ lw_tbl := lw_at lw_m5 225 rfl
theorem q1292 : (Jvm.Cond.instanceMethod ({ cls := "RockingHorseModel", name := "need", desc := "(C)V" } : Jvm.MethodName)) ∈ lw_all := lw_g (lw_at lw_m5 226 rfl) rfl
theorem q1293 : (Jvm.Cond.code ({ cls := "RockingHorseModel", name := "need", desc := "(C)V" } : Jvm.MethodName) prog_9_method_19_code (2 : Nat) (Option.none : Option Jvm.ClassFile.FieldType)) ∈ lw_all := lw_g (lw_at lw_m5 227 rfl) rfl
theorem q1294 : (Jvm.Cond.methodLink "RockingHorseModel" (205 : Nat) ({ cls := "RockingHorseModel", name := "number", desc := "(I)I" } : Jvm.MethodName)) ∈ lw_all := lw_g (lw_at lw_m5 228 rfl) rfl
theorem q1295 : (Jvm.Cond.privateMethod ({ cls := "RockingHorseModel", name := "number", desc := "(I)I" } : Jvm.MethodName)) ∈ lw_tbl := lw_at lw_m5 229 rfl
theorem q1296 : (Jvm.Cond.instanceMethod ({ cls := "RockingHorseModel", name := "number", desc := "(I)I" } : Jvm.MethodName)) ∈ lw_all := lw_g (lw_at lw_m5 230 rfl) rfl
theorem q1297 : (Jvm.Cond.code ({ cls := "RockingHorseModel", name := "number", desc := "(I)I" } : Jvm.MethodName) prog_9_method_21_code (4 : Nat) (Option.some Jvm.ClassFile.FieldType.int)) ∈ lw_all := lw_g (lw_at lw_m5 231 rfl) rfl
theorem q1298 : (Jvm.Cond.methodLink "RockingHorseModel" (208 : Nat) ({ cls := "RockingHorseModel", name := "letterOf", desc := "(I)I" } : Jvm.MethodName)) ∈ lw_all := lw_g (lw_at lw_m5 232 rfl) rfl
theorem q1299 : (Jvm.Cond.static ({ cls := "RockingHorseModel", name := "letterOf", desc := "(I)I" } : Jvm.MethodName)) ∈ lw_all := lw_g (lw_at lw_m5 233 rfl) rfl
theorem q1300 : (Jvm.Cond.code ({ cls := "RockingHorseModel", name := "letterOf", desc := "(I)I" } : Jvm.MethodName) prog_9_method_28_code (1 : Nat) (Option.some Jvm.ClassFile.FieldType.int)) ∈ lw_all := lw_g (lw_at lw_m5 234 rfl) rfl
theorem q1302 : (Jvm.Cond.instanceMethod ({ cls := "RockingHorseModel", name := "rider", desc := "(II)I" } : Jvm.MethodName)) ∈ lw_all := lw_g (lw_at lw_m5 236 rfl) rfl
theorem q1303 : (Jvm.Cond.selects "RockingHorseModel" ({ cls := "RockingHorseModel", name := "rider", desc := "(II)I" } : Jvm.MethodName) ({ cls := "RockingHorseModel", name := "rider", desc := "(II)I" } : Jvm.MethodName)) ∈ lw_all := lw_g (lw_at lw_m5 237 rfl) rfl
theorem q1304 : (Jvm.Cond.code ({ cls := "RockingHorseModel", name := "rider", desc := "(II)I" } : Jvm.MethodName) prog_9_method_34_code (3 : Nat) (Option.some Jvm.ClassFile.FieldType.int)) ∈ lw_all := lw_g (lw_at lw_m5 238 rfl) rfl
theorem q1305 : (Jvm.Cond.methodLink "RockingHorseModel" (127 : Nat) ({ cls := "RockingHorseModel", name := "isMan", desc := "(I)Z" } : Jvm.MethodName)) ∈ lw_all := lw_g (lw_at lw_m5 239 rfl) rfl
theorem q1306 : (Jvm.Cond.privateMethod ({ cls := "RockingHorseModel", name := "isMan", desc := "(I)Z" } : Jvm.MethodName)) ∈ lw_tbl := lw_at lw_m6 0 rfl
theorem q1307 : (Jvm.Cond.instanceMethod ({ cls := "RockingHorseModel", name := "isMan", desc := "(I)Z" } : Jvm.MethodName)) ∈ lw_all := lw_g (lw_at lw_m6 1 rfl) rfl
theorem q1308 : (Jvm.Cond.code ({ cls := "RockingHorseModel", name := "isMan", desc := "(I)Z" } : Jvm.MethodName) prog_9_method_7_code (2 : Nat) (Option.some Jvm.ClassFile.FieldType.boolean)) ∈ lw_all := lw_g (lw_at lw_m6 2 rfl) rfl
theorem q1309 : (Jvm.Cond.methodLink "RockingHorseModel" (235 : Nat) ({ cls := "RockingHorseModel", name := "lost", desc := "()I" } : Jvm.MethodName)) ∈ lw_all := lw_g (lw_at lw_m6 3 rfl) rfl
theorem q1310 : (Jvm.Cond.privateMethod ({ cls := "RockingHorseModel", name := "lost", desc := "()I" } : Jvm.MethodName)) ∈ lw_tbl := lw_at lw_m6 4 rfl
theorem q1311 : (Jvm.Cond.instanceMethod ({ cls := "RockingHorseModel", name := "lost", desc := "()I" } : Jvm.MethodName)) ∈ lw_all := lw_g (lw_at lw_m6 5 rfl) rfl
theorem q1312 : (Jvm.Cond.code ({ cls := "RockingHorseModel", name := "lost", desc := "()I" } : Jvm.MethodName) prog_9_method_5_code (1 : Nat) (Option.some Jvm.ClassFile.FieldType.int)) ∈ lw_all := lw_g (lw_at lw_m6 6 rfl) rfl
theorem q1313 : (Jvm.Cond.methodLink "RockingHorseModel" (238 : Nat) ({ cls := "RockingHorseModel", name := "hoursOf", desc := "([II)I" } : Jvm.MethodName)) ∈ lw_all := lw_g (lw_at lw_m6 7 rfl) rfl
theorem q1314 : (Jvm.Cond.privateMethod ({ cls := "RockingHorseModel", name := "hoursOf", desc := "([II)I" } : Jvm.MethodName)) ∈ lw_tbl := lw_at lw_m6 8 rfl
theorem q1315 : (Jvm.Cond.instanceMethod ({ cls := "RockingHorseModel", name := "hoursOf", desc := "([II)I" } : Jvm.MethodName)) ∈ lw_all := lw_g (lw_at lw_m6 9 rfl) rfl
theorem q1316 : (Jvm.Cond.code ({ cls := "RockingHorseModel", name := "hoursOf", desc := "([II)I" } : Jvm.MethodName) prog_9_method_33_code (5 : Nat) (Option.some Jvm.ClassFile.FieldType.int)) ∈ lw_all := lw_g (lw_at lw_m6 10 rfl) rfl
theorem q1318 : (Jvm.Cond.instanceMethod ({ cls := "RockingHorseModel", name := "hard", desc := "(II)I" } : Jvm.MethodName)) ∈ lw_all := lw_g (lw_at lw_m6 12 rfl) rfl
theorem q1319 : (Jvm.Cond.selects "RockingHorseModel" ({ cls := "RockingHorseModel", name := "hard", desc := "(II)I" } : Jvm.MethodName) ({ cls := "RockingHorseModel", name := "hard", desc := "(II)I" } : Jvm.MethodName)) ∈ lw_all := lw_g (lw_at lw_m6 13 rfl) rfl
theorem q1320 : (Jvm.Cond.code ({ cls := "RockingHorseModel", name := "hard", desc := "(II)I" } : Jvm.MethodName) prog_9_method_35_code (3 : Nat) (Option.some Jvm.ClassFile.FieldType.int)) ∈ lw_all := lw_g (lw_at lw_m6 14 rfl) rfl
theorem q1321 : (Jvm.Cond.methodLink "RockingHorseModel" (242 : Nat) ({ cls := "RockingHorseModel", name := "isHour", desc := "(I)Z" } : Jvm.MethodName)) ∈ lw_all := lw_g (lw_at lw_m6 15 rfl) rfl
theorem q1322 : (Jvm.Cond.static ({ cls := "RockingHorseModel", name := "isHour", desc := "(I)Z" } : Jvm.MethodName)) ∈ lw_all := lw_g (lw_at lw_m6 16 rfl) rfl
theorem q1323 : (Jvm.Cond.code ({ cls := "RockingHorseModel", name := "isHour", desc := "(I)Z" } : Jvm.MethodName) prog_9_method_8_code (1 : Nat) (Option.some Jvm.ClassFile.FieldType.boolean)) ∈ lw_all := lw_g (lw_at lw_m6 17 rfl) rfl
theorem q1324 : (Jvm.Cond.methodLink "RockingHorseModel" (245 : Nat) ({ cls := "RockingHorseModel", name := "hardOf", desc := "([III)I" } : Jvm.MethodName)) ∈ lw_all := lw_g (lw_at lw_m6 18 rfl) rfl
theorem q1325 : (Jvm.Cond.privateMethod ({ cls := "RockingHorseModel", name := "hardOf", desc := "([III)I" } : Jvm.MethodName)) ∈ lw_tbl := lw_at lw_m6 19 rfl
theorem q1326 : (Jvm.Cond.instanceMethod ({ cls := "RockingHorseModel", name := "hardOf", desc := "([III)I" } : Jvm.MethodName)) ∈ lw_all := lw_g (lw_at lw_m6 20 rfl) rfl
theorem q1327 : (Jvm.Cond.code ({ cls := "RockingHorseModel", name := "hardOf", desc := "([III)I" } : Jvm.MethodName) prog_9_method_32_code (5 : Nat) (Option.some Jvm.ClassFile.FieldType.int)) ∈ lw_all := lw_g (lw_at lw_m6 21 rfl) rfl
theorem q1328 : (Jvm.Cond.methodLink "RockingHorseModel" (221 : Nat) ({ cls := "java/lang/Integer", name := "bitCount", desc := "(I)I" } : Jvm.MethodName)) ∈ lw_all := lw_g (lw_at lw_m6 22 rfl) rfl
theorem q1329 : (Jvm.Cond.methodLink "RockingHorseModel" (226 : Nat) ({ cls := "java/lang/Math", name := "min", desc := "(II)I" } : Jvm.MethodName)) ∈ lw_all := lw_g (lw_at lw_m6 23 rfl) rfl
theorem q1330 : (Jvm.Cond.methodLink "RockingHorseModel" (232 : Nat) ({ cls := "java/lang/Math", name := "max", desc := "(II)I" } : Jvm.MethodName)) ∈ lw_all := lw_g (lw_at lw_m6 24 rfl) rfl
theorem q1332 : (Jvm.Cond.instanceMethod ({ cls := "RockingHorseModel", name := "set", desc := "(II)I" } : Jvm.MethodName)) ∈ lw_all := lw_g (lw_at lw_m6 26 rfl) rfl
theorem q1333 : (Jvm.Cond.selects "RockingHorseModel" ({ cls := "RockingHorseModel", name := "set", desc := "(II)I" } : Jvm.MethodName) ({ cls := "RockingHorseModel", name := "set", desc := "(II)I" } : Jvm.MethodName)) ∈ lw_all := lw_g (lw_at lw_m6 27 rfl) rfl
theorem q1334 : (Jvm.Cond.code ({ cls := "RockingHorseModel", name := "set", desc := "(II)I" } : Jvm.MethodName) prog_9_method_36_code (4 : Nat) (Option.some Jvm.ClassFile.FieldType.int)) ∈ lw_all := lw_g (lw_at lw_m6 28 rfl) rfl
theorem q1336 : (Jvm.Cond.instanceMethod ({ cls := "RockingHorseModel", name := "sheet", desc := "(IIII)I" } : Jvm.MethodName)) ∈ lw_all := lw_g (lw_at lw_m6 30 rfl) rfl
theorem q1337 : (Jvm.Cond.selects "RockingHorseModel" ({ cls := "RockingHorseModel", name := "sheet", desc := "(IIII)I" } : Jvm.MethodName) ({ cls := "RockingHorseModel", name := "sheet", desc := "(IIII)I" } : Jvm.MethodName)) ∈ lw_all := lw_g (lw_at lw_m6 31 rfl) rfl
theorem q1338 : (Jvm.Cond.code ({ cls := "RockingHorseModel", name := "sheet", desc := "(IIII)I" } : Jvm.MethodName) prog_9_method_37_code (9 : Nat) (Option.some Jvm.ClassFile.FieldType.int)) ∈ lw_all := lw_g (lw_at lw_m6 32 rfl) rfl
theorem q1340 : (Jvm.Cond.instanceMethod ({ cls := "RockingHorseModel", name := "rota", desc := "()I" } : Jvm.MethodName)) ∈ lw_all := lw_g (lw_at lw_m6 34 rfl) rfl
theorem q1341 : (Jvm.Cond.selects "RockingHorseModel" ({ cls := "RockingHorseModel", name := "rota", desc := "()I" } : Jvm.MethodName) ({ cls := "RockingHorseModel", name := "rota", desc := "()I" } : Jvm.MethodName)) ∈ lw_all := lw_g (lw_at lw_m6 35 rfl) rfl
theorem q1342 : (Jvm.Cond.code ({ cls := "RockingHorseModel", name := "rota", desc := "()I" } : Jvm.MethodName) prog_9_method_40_code (3 : Nat) (Option.some Jvm.ClassFile.FieldType.int)) ∈ lw_all := lw_g (lw_at lw_m6 36 rfl) rfl
theorem q1343 : (Jvm.Cond.methodLink "RockingHorseModel" (253 : Nat) ({ cls := "RockingHorseModel", name := "remember", desc := "([I)V" } : Jvm.MethodName)) ∈ lw_all := lw_g (lw_at lw_m6 37 rfl) rfl
theorem q1344 : (Jvm.Cond.privateMethod ({ cls := "RockingHorseModel", name := "remember", desc := "([I)V" } : Jvm.MethodName)) ∈ lw_tbl := lw_at lw_m6 38 rfl
theorem q1345 : (Jvm.Cond.instanceMethod ({ cls := "RockingHorseModel", name := "remember", desc := "([I)V" } : Jvm.MethodName)) ∈ lw_all := lw_g (lw_at lw_m6 39 rfl) rfl
theorem q1346 : (Jvm.Cond.code ({ cls := "RockingHorseModel", name := "remember", desc := "([I)V" } : Jvm.MethodName) prog_9_method_39_code (3 : Nat) (Option.none : Option Jvm.ClassFile.FieldType)) ∈ lw_all := lw_g (lw_at lw_m6 40 rfl) rfl
theorem q1347 : (Jvm.Cond.methodLink "RockingHorseModel" (249 : Nat) ({ cls := "RockingHorseModel", name := "lay", desc := "([I[II)V" } : Jvm.MethodName)) ∈ lw_all := lw_g (lw_at lw_m6 41 rfl) rfl
theorem q1348 : (Jvm.Cond.static ({ cls := "RockingHorseModel", name := "lay", desc := "([I[II)V" } : Jvm.MethodName)) ∈ lw_all := lw_g (lw_at lw_m6 42 rfl) rfl
theorem q1349 : (Jvm.Cond.code ({ cls := "RockingHorseModel", name := "lay", desc := "([I[II)V" } : Jvm.MethodName) prog_9_method_38_code (4 : Nat) (Option.none : Option Jvm.ClassFile.FieldType)) ∈ lw_all := lw_g (lw_at lw_m6 43 rfl) rfl
theorem q1351 : (Jvm.Cond.instanceMethod ({ cls := "RockingHorseModel", name := "give", desc := "(II)I" } : Jvm.MethodName)) ∈ lw_all := lw_g (lw_at lw_m6 45 rfl) rfl
theorem q1352 : (Jvm.Cond.selects "RockingHorseModel" ({ cls := "RockingHorseModel", name := "give", desc := "(II)I" } : Jvm.MethodName) ({ cls := "RockingHorseModel", name := "give", desc := "(II)I" } : Jvm.MethodName)) ∈ lw_all := lw_g (lw_at lw_m6 46 rfl) rfl
theorem q1353 : (Jvm.Cond.code ({ cls := "RockingHorseModel", name := "give", desc := "(II)I" } : Jvm.MethodName) prog_9_method_42_code (4 : Nat) (Option.some Jvm.ClassFile.FieldType.int)) ∈ lw_all := lw_g (lw_at lw_m6 47 rfl) rfl
theorem q1354 : (Jvm.Cond.methodLink "RockingHorseModel" (257 : Nat) ({ cls := "RockingHorseModel", name := "isGift", desc := "(II)Z" } : Jvm.MethodName)) ∈ lw_all := lw_g (lw_at lw_m6 48 rfl) rfl
theorem q1355 : (Jvm.Cond.privateMethod ({ cls := "RockingHorseModel", name := "isGift", desc := "(II)Z" } : Jvm.MethodName)) ∈ lw_tbl := lw_at lw_m6 49 rfl
theorem q1356 : (Jvm.Cond.instanceMethod ({ cls := "RockingHorseModel", name := "isGift", desc := "(II)Z" } : Jvm.MethodName)) ∈ lw_all := lw_g (lw_at lw_m6 50 rfl) rfl
theorem q1357 : (Jvm.Cond.code ({ cls := "RockingHorseModel", name := "isGift", desc := "(II)Z" } : Jvm.MethodName) prog_9_method_41_code (3 : Nat) (Option.some Jvm.ClassFile.FieldType.boolean)) ∈ lw_all := lw_g (lw_at lw_m6 51 rfl) rfl
theorem q1359 : (Jvm.Cond.instanceMethod ({ cls := "RockingHorseModel", name := "ill", desc := "(I)I" } : Jvm.MethodName)) ∈ lw_all := lw_g (lw_at lw_m6 53 rfl) rfl
theorem q1360 : (Jvm.Cond.selects "RockingHorseModel" ({ cls := "RockingHorseModel", name := "ill", desc := "(I)I" } : Jvm.MethodName) ({ cls := "RockingHorseModel", name := "ill", desc := "(I)I" } : Jvm.MethodName)) ∈ lw_all := lw_g (lw_at lw_m6 54 rfl) rfl
theorem q1361 : (Jvm.Cond.code ({ cls := "RockingHorseModel", name := "ill", desc := "(I)I" } : Jvm.MethodName) prog_9_method_44_code (2 : Nat) (Option.some Jvm.ClassFile.FieldType.int)) ∈ lw_all := lw_g (lw_at lw_m6 55 rfl) rfl
theorem q1362 : (Jvm.Cond.methodLink "RockingHorseModel" (261 : Nat) ({ cls := "RockingHorseModel", name := "illBits", desc := "([I)I" } : Jvm.MethodName)) ∈ lw_all := lw_g (lw_at lw_m6 56 rfl) rfl
theorem q1363 : (Jvm.Cond.privateMethod ({ cls := "RockingHorseModel", name := "illBits", desc := "([I)I" } : Jvm.MethodName)) ∈ lw_tbl := lw_at lw_m6 57 rfl
theorem q1364 : (Jvm.Cond.instanceMethod ({ cls := "RockingHorseModel", name := "illBits", desc := "([I)I" } : Jvm.MethodName)) ∈ lw_all := lw_g (lw_at lw_m6 58 rfl) rfl
theorem q1365 : (Jvm.Cond.code ({ cls := "RockingHorseModel", name := "illBits", desc := "([I)I" } : Jvm.MethodName) prog_9_method_43_code (4 : Nat) (Option.some Jvm.ClassFile.FieldType.int)) ∈ lw_all := lw_g (lw_at lw_m6 59 rfl) rfl
theorem q1367 : (Jvm.Cond.instanceMethod ({ cls := "RockingHorseModel", name := "nights", desc := "(I)I" } : Jvm.MethodName)) ∈ lw_all := lw_g (lw_at lw_m6 61 rfl) rfl
theorem q1368 : (Jvm.Cond.selects "RockingHorseModel" ({ cls := "RockingHorseModel", name := "nights", desc := "(I)I" } : Jvm.MethodName) ({ cls := "RockingHorseModel", name := "nights", desc := "(I)I" } : Jvm.MethodName)) ∈ lw_all := lw_g (lw_at lw_m6 62 rfl) rfl
theorem q1369 : (Jvm.Cond.code ({ cls := "RockingHorseModel", name := "nights", desc := "(I)I" } : Jvm.MethodName) prog_9_method_48_code (4 : Nat) (Option.some Jvm.ClassFile.FieldType.int)) ∈ lw_all := lw_g (lw_at lw_m6 63 rfl) rfl
theorem q1370 : (Jvm.Cond.methodLink "RockingHorseModel" (280 : Nat) ({ cls := "RockingHorseModel", name := "goNights", desc := "([II)V" } : Jvm.MethodName)) ∈ lw_all := lw_g (lw_at lw_m6 64 rfl) rfl
theorem q1371 : (Jvm.Cond.privateMethod ({ cls := "RockingHorseModel", name := "goNights", desc := "([II)V" } : Jvm.MethodName)) ∈ lw_tbl := lw_at lw_m6 65 rfl
theorem q1372 : (Jvm.Cond.instanceMethod ({ cls := "RockingHorseModel", name := "goNights", desc := "([II)V" } : Jvm.MethodName)) ∈ lw_all := lw_g (lw_at lw_m6 66 rfl) rfl
theorem q1373 : (Jvm.Cond.code ({ cls := "RockingHorseModel", name := "goNights", desc := "([II)V" } : Jvm.MethodName) prog_9_method_46_code (4 : Nat) (Option.none : Option Jvm.ClassFile.FieldType)) ∈ lw_all := lw_g (lw_at lw_m6 67 rfl) rfl
theorem q1374 : (Jvm.Cond.methodLink "RockingHorseModel" (277 : Nat) ({ cls := "RockingHorseModel", name := "goNight", desc := "([I)V" } : Jvm.MethodName)) ∈ lw_all := lw_g (lw_at lw_m6 68 rfl) rfl
theorem q1375 : (Jvm.Cond.privateMethod ({ cls := "RockingHorseModel", name := "goNight", desc := "([I)V" } : Jvm.MethodName)) ∈ lw_tbl := lw_at lw_m6 69 rfl
theorem q1376 : (Jvm.Cond.instanceMethod ({ cls := "RockingHorseModel", name := "goNight", desc := "([I)V" } : Jvm.MethodName)) ∈ lw_all := lw_g (lw_at lw_m6 70 rfl) rfl
theorem q1377 : (Jvm.Cond.code ({ cls := "RockingHorseModel", name := "goNight", desc := "([I)V" } : Jvm.MethodName) prog_9_method_45_code (6 : Nat) (Option.none : Option Jvm.ClassFile.FieldType)) ∈ lw_all := lw_g (lw_at lw_m6 71 rfl) rfl
theorem q1378 : (Jvm.Cond.methodLink "RockingHorseModel" (271 : Nat) ({ cls := "RockingHorseModel", name := "has", desc := "(II)Z" } : Jvm.MethodName)) ∈ lw_all := lw_g (lw_at lw_m6 72 rfl) rfl
theorem q1379 : (Jvm.Cond.static ({ cls := "RockingHorseModel", name := "has", desc := "(II)Z" } : Jvm.MethodName)) ∈ lw_all := lw_g (lw_at lw_m6 73 rfl) rfl
theorem q1380 : (Jvm.Cond.code ({ cls := "RockingHorseModel", name := "has", desc := "(II)Z" } : Jvm.MethodName) prog_9_method_4_code (2 : Nat) (Option.some Jvm.ClassFile.FieldType.boolean)) ∈ lw_all := lw_g (lw_at lw_m6 74 rfl) rfl
theorem q1381 : (Jvm.Cond.methodLink "RockingHorseModel" (274 : Nat) ({ cls := "java/lang/Math", name := "abs", desc := "(I)I" } : Jvm.MethodName)) ∈ lw_all := lw_g (lw_at lw_m6 75 rfl) rfl
theorem q1382 : (Jvm.Cond.methodLink "RockingHorseModel" (284 : Nat) ({ cls := "RockingHorseModel", name := "tell", desc := "(J)V" } : Jvm.MethodName)) ∈ lw_all := lw_g (lw_at lw_m6 76 rfl) rfl
theorem q1383 : (Jvm.Cond.privateMethod ({ cls := "RockingHorseModel", name := "tell", desc := "(J)V" } : Jvm.MethodName)) ∈ lw_tbl := lw_at lw_m6 77 rfl
theorem q1384 : (Jvm.Cond.instanceMethod ({ cls := "RockingHorseModel", name := "tell", desc := "(J)V" } : Jvm.MethodName)) ∈ lw_all := lw_g (lw_at lw_m6 78 rfl) rfl
theorem q1385 : (Jvm.Cond.code ({ cls := "RockingHorseModel", name := "tell", desc := "(J)V" } : Jvm.MethodName) prog_9_method_6_code (3 : Nat) (Option.none : Option Jvm.ClassFile.FieldType)) ∈ lw_all := lw_g (lw_at lw_m6 79 rfl) rfl
theorem q1386 : (Jvm.Cond.methodLink "RockingHorseModel" (288 : Nat) ({ cls := "RockingHorseModel", name := "tired", desc := "([I)I" } : Jvm.MethodName)) ∈ lw_all := lw_g (lw_at lw_m6 80 rfl) rfl
theorem q1387 : (Jvm.Cond.privateMethod ({ cls := "RockingHorseModel", name := "tired", desc := "([I)I" } : Jvm.MethodName)) ∈ lw_tbl := lw_at lw_m6 81 rfl
theorem q1388 : (Jvm.Cond.instanceMethod ({ cls := "RockingHorseModel", name := "tired", desc := "([I)I" } : Jvm.MethodName)) ∈ lw_all := lw_g (lw_at lw_m6 82 rfl) rfl
theorem q1389 : (Jvm.Cond.code ({ cls := "RockingHorseModel", name := "tired", desc := "([I)I" } : Jvm.MethodName) prog_9_method_47_code (4 : Nat) (Option.some Jvm.ClassFile.FieldType.int)) ∈ lw_all := lw_g (lw_at lw_m6 83 rfl) rfl
theorem q1391 : (Jvm.Cond.instanceMethod ({ cls := "RockingHorseModel", name := "year", desc := "()I" } : Jvm.MethodName)) ∈ lw_all := lw_g (lw_at lw_m6 85 rfl) rfl
theorem q1392 : (Jvm.Cond.selects "RockingHorseModel" ({ cls := "RockingHorseModel", name := "year", desc := "()I" } : Jvm.MethodName) ({ cls := "RockingHorseModel", name := "year", desc := "()I" } : Jvm.MethodName)) ∈ lw_all := lw_g (lw_at lw_m6 86 rfl) rfl
theorem q1393 : (Jvm.Cond.code ({ cls := "RockingHorseModel", name := "year", desc := "()I" } : Jvm.MethodName) prog_9_method_50_code (3 : Nat) (Option.some Jvm.ClassFile.FieldType.int)) ∈ lw_all := lw_g (lw_at lw_m6 87 rfl) rfl
theorem q1394 : (Jvm.Cond.methodLink "RockingHorseModel" (291 : Nat) ({ cls := "RockingHorseModel", name := "readAct", desc := "(I)V" } : Jvm.MethodName)) ∈ lw_all := lw_g (lw_at lw_m6 88 rfl) rfl
theorem q1395 : (Jvm.Cond.privateMethod ({ cls := "RockingHorseModel", name := "readAct", desc := "(I)V" } : Jvm.MethodName)) ∈ lw_tbl := lw_at lw_m6 89 rfl
theorem q1396 : (Jvm.Cond.instanceMethod ({ cls := "RockingHorseModel", name := "readAct", desc := "(I)V" } : Jvm.MethodName)) ∈ lw_all := lw_g (lw_at lw_m6 90 rfl) rfl
theorem q1397 : (Jvm.Cond.code ({ cls := "RockingHorseModel", name := "readAct", desc := "(I)V" } : Jvm.MethodName) prog_9_method_51_code (3 : Nat) (Option.none : Option Jvm.ClassFile.FieldType)) ∈ lw_all := lw_g (lw_at lw_m6 91 rfl) rfl
theorem q1398 : (Jvm.Cond.methodLink "RockingHorseModel" (294 : Nat) ({ cls := "RockingHorseModel", name := "act", desc := "(III)Z" } : Jvm.MethodName)) ∈ lw_all := lw_g (lw_at lw_m6 92 rfl) rfl
theorem q1399 : (Jvm.Cond.privateMethod ({ cls := "RockingHorseModel", name := "act", desc := "(III)Z" } : Jvm.MethodName)) ∈ lw_tbl := lw_at lw_m6 93 rfl
theorem q1400 : (Jvm.Cond.instanceMethod ({ cls := "RockingHorseModel", name := "act", desc := "(III)Z" } : Jvm.MethodName)) ∈ lw_all := lw_g (lw_at lw_m6 94 rfl) rfl
theorem q1401 : (Jvm.Cond.code ({ cls := "RockingHorseModel", name := "act", desc := "(III)Z" } : Jvm.MethodName) prog_9_method_52_code (4 : Nat) (Option.some Jvm.ClassFile.FieldType.boolean)) ∈ lw_all := lw_g (lw_at lw_m6 95 rfl) rfl
theorem q1402 : (Jvm.Cond.methodLink "RockingHorseModel" (297 : Nat) ({ cls := "RockingHorseModel", name := "areTwo", desc := "(II)Z" } : Jvm.MethodName)) ∈ lw_all := lw_g (lw_at lw_m6 96 rfl) rfl
theorem q1403 : (Jvm.Cond.privateMethod ({ cls := "RockingHorseModel", name := "areTwo", desc := "(II)Z" } : Jvm.MethodName)) ∈ lw_tbl := lw_at lw_m6 97 rfl
theorem q1404 : (Jvm.Cond.instanceMethod ({ cls := "RockingHorseModel", name := "areTwo", desc := "(II)Z" } : Jvm.MethodName)) ∈ lw_all := lw_g (lw_at lw_m6 98 rfl) rfl
theorem q1405 : (Jvm.Cond.code ({ cls := "RockingHorseModel", name := "areTwo", desc := "(II)Z" } : Jvm.MethodName) prog_9_method_9_code (3 : Nat) (Option.some Jvm.ClassFile.FieldType.boolean)) ∈ lw_all := lw_g (lw_at lw_m6 99 rfl) rfl
theorem q1406 : (Jvm.Cond.methodLink "RockingHorseModel" (300 : Nat) ({ cls := "RockingHorseModel", name := "goExchange", desc := "(II)V" } : Jvm.MethodName)) ∈ lw_all := lw_g (lw_at lw_m6 100 rfl) rfl
theorem q1407 : (Jvm.Cond.privateMethod ({ cls := "RockingHorseModel", name := "goExchange", desc := "(II)V" } : Jvm.MethodName)) ∈ lw_tbl := lw_at lw_m6 101 rfl
theorem q1408 : (Jvm.Cond.instanceMethod ({ cls := "RockingHorseModel", name := "goExchange", desc := "(II)V" } : Jvm.MethodName)) ∈ lw_all := lw_g (lw_at lw_m6 102 rfl) rfl
theorem q1409 : (Jvm.Cond.code ({ cls := "RockingHorseModel", name := "goExchange", desc := "(II)V" } : Jvm.MethodName) prog_9_method_49_code (4 : Nat) (Option.none : Option Jvm.ClassFile.FieldType)) ∈ lw_all := lw_g (lw_at lw_m6 103 rfl) rfl
theorem q1411 : (Jvm.Cond.instanceMethod ({ cls := "RockingHorseModel", name := "undo", desc := "()I" } : Jvm.MethodName)) ∈ lw_all := lw_g (lw_at lw_m6 105 rfl) rfl
theorem q1412 : (Jvm.Cond.selects "RockingHorseModel" ({ cls := "RockingHorseModel", name := "undo", desc := "()I" } : Jvm.MethodName) ({ cls := "RockingHorseModel", name := "undo", desc := "()I" } : Jvm.MethodName)) ∈ lw_all := lw_g (lw_at lw_m6 106 rfl) rfl
theorem q1413 : (Jvm.Cond.code ({ cls := "RockingHorseModel", name := "undo", desc := "()I" } : Jvm.MethodName) prog_9_method_53_code (2 : Nat) (Option.some Jvm.ClassFile.FieldType.int)) ∈ lw_all := lw_g (lw_at lw_m6 107 rfl) rfl
theorem q1415 : (Jvm.Cond.instanceMethod ({ cls := "RockingHorseModel", name := "gaps", desc := "()I" } : Jvm.MethodName)) ∈ lw_all := lw_g (lw_at lw_m6 109 rfl) rfl
theorem q1416 : (Jvm.Cond.selects "RockingHorseModel" ({ cls := "RockingHorseModel", name := "gaps", desc := "()I" } : Jvm.MethodName) ({ cls := "RockingHorseModel", name := "gaps", desc := "()I" } : Jvm.MethodName)) ∈ lw_all := lw_g (lw_at lw_m6 110 rfl) rfl
theorem q1417 : (Jvm.Cond.code ({ cls := "RockingHorseModel", name := "gaps", desc := "()I" } : Jvm.MethodName) prog_9_method_54_code (1 : Nat) (Option.some Jvm.ClassFile.FieldType.int)) ∈ lw_all := lw_g (lw_at lw_m6 111 rfl) rfl
theorem q1419 : (Jvm.Cond.instanceMethod ({ cls := "RockingHorseModel", name := "first", desc := "(I)I" } : Jvm.MethodName)) ∈ lw_all := lw_g (lw_at lw_m6 113 rfl) rfl
theorem q1420 : (Jvm.Cond.selects "RockingHorseModel" ({ cls := "RockingHorseModel", name := "first", desc := "(I)I" } : Jvm.MethodName) ({ cls := "RockingHorseModel", name := "first", desc := "(I)I" } : Jvm.MethodName)) ∈ lw_all := lw_g (lw_at lw_m6 114 rfl) rfl
theorem q1421 : (Jvm.Cond.code ({ cls := "RockingHorseModel", name := "first", desc := "(I)I" } : Jvm.MethodName) prog_9_method_55_code (3 : Nat) (Option.some Jvm.ClassFile.FieldType.int)) ∈ lw_all := lw_g (lw_at lw_m6 115 rfl) rfl
theorem q1422 : (Jvm.Cond.methodLink "RockingHorseModel" (304 : Nat) ({ cls := "java/lang/Integer", name := "numberOfTrailingZeros", desc := "(I)I" } : Jvm.MethodName)) ∈ lw_all := lw_g (lw_at lw_m6 116 rfl) rfl
theorem q1424 : (Jvm.Cond.instanceMethod ({ cls := "RockingHorseModel", name := "later", desc := "(I)I" } : Jvm.MethodName)) ∈ lw_all := lw_g (lw_at lw_m6 118 rfl) rfl
theorem q1425 : (Jvm.Cond.selects "RockingHorseModel" ({ cls := "RockingHorseModel", name := "later", desc := "(I)I" } : Jvm.MethodName) ({ cls := "RockingHorseModel", name := "later", desc := "(I)I" } : Jvm.MethodName)) ∈ lw_all := lw_g (lw_at lw_m6 119 rfl) rfl
theorem q1426 : (Jvm.Cond.code ({ cls := "RockingHorseModel", name := "later", desc := "(I)I" } : Jvm.MethodName) prog_9_method_56_code (4 : Nat) (Option.some Jvm.ClassFile.FieldType.int)) ∈ lw_all := lw_g (lw_at lw_m6 120 rfl) rfl
theorem q1428 : (Jvm.Cond.instanceMethod ({ cls := "RockingHorseModel", name := "vigil", desc := "(I)I" } : Jvm.MethodName)) ∈ lw_all := lw_g (lw_at lw_m6 122 rfl) rfl
theorem q1429 : (Jvm.Cond.selects "RockingHorseModel" ({ cls := "RockingHorseModel", name := "vigil", desc := "(I)I" } : Jvm.MethodName) ({ cls := "RockingHorseModel", name := "vigil", desc := "(I)I" } : Jvm.MethodName)) ∈ lw_all := lw_g (lw_at lw_m6 123 rfl) rfl
theorem q1430 : (Jvm.Cond.code ({ cls := "RockingHorseModel", name := "vigil", desc := "(I)I" } : Jvm.MethodName) prog_9_method_57_code (6 : Nat) (Option.some Jvm.ClassFile.FieldType.int)) ∈ lw_all := lw_g (lw_at lw_m6 124 rfl) rfl
theorem q1432 : (Jvm.Cond.instanceMethod ({ cls := "RockingHorseModel", name := "trade", desc := "()I" } : Jvm.MethodName)) ∈ lw_all := lw_g (lw_at lw_m6 126 rfl) rfl
theorem q1433 : (Jvm.Cond.selects "RockingHorseModel" ({ cls := "RockingHorseModel", name := "trade", desc := "()I" } : Jvm.MethodName) ({ cls := "RockingHorseModel", name := "trade", desc := "()I" } : Jvm.MethodName)) ∈ lw_all := lw_g (lw_at lw_m6 127 rfl) rfl
theorem q1434 : (Jvm.Cond.code ({ cls := "RockingHorseModel", name := "trade", desc := "()I" } : Jvm.MethodName) prog_9_method_58_code (6 : Nat) (Option.some Jvm.ClassFile.FieldType.int)) ∈ lw_all := lw_g (lw_at lw_m6 128 rfl) rfl
theorem q1436 : (Jvm.Cond.instanceMethod ({ cls := "RockingHorseModel", name := "easiest", desc := "()I" } : Jvm.MethodName)) ∈ lw_all := lw_g (lw_at lw_m6 130 rfl) rfl
theorem q1437 : (Jvm.Cond.selects "RockingHorseModel" ({ cls := "RockingHorseModel", name := "easiest", desc := "()I" } : Jvm.MethodName) ({ cls := "RockingHorseModel", name := "easiest", desc := "()I" } : Jvm.MethodName)) ∈ lw_all := lw_g (lw_at lw_m6 131 rfl) rfl
theorem q1438 : (Jvm.Cond.code ({ cls := "RockingHorseModel", name := "easiest", desc := "()I" } : Jvm.MethodName) prog_9_method_72_code (2 : Nat) (Option.some Jvm.ClassFile.FieldType.int)) ∈ lw_all := lw_g (lw_at lw_m6 132 rfl) rfl
theorem q1439 : (Jvm.Cond.methodLink "RockingHorseModel" (338 : Nat) ({ cls := "RockingHorseModel", name := "easiestBut", desc := "(I)I" } : Jvm.MethodName)) ∈ lw_all := lw_g (lw_at lw_m6 133 rfl) rfl
theorem q1440 : (Jvm.Cond.privateMethod ({ cls := "RockingHorseModel", name := "easiestBut", desc := "(I)I" } : Jvm.MethodName)) ∈ lw_tbl := lw_at lw_m6 134 rfl
theorem q1441 : (Jvm.Cond.instanceMethod ({ cls := "RockingHorseModel", name := "easiestBut", desc := "(I)I" } : Jvm.MethodName)) ∈ lw_all := lw_g (lw_at lw_m6 135 rfl) rfl
theorem q1442 : (Jvm.Cond.code ({ cls := "RockingHorseModel", name := "easiestBut", desc := "(I)I" } : Jvm.MethodName) prog_9_method_71_code (2 : Nat) (Option.some Jvm.ClassFile.FieldType.int)) ∈ lw_all := lw_g (lw_at lw_m6 136 rfl) rfl
theorem q1443 : (Jvm.Cond.methodLink "RockingHorseModel" (335 : Nat) ({ cls := "RockingHorseModel", name := "layMay", desc := "(I)V" } : Jvm.MethodName)) ∈ lw_all := lw_g (lw_at lw_m6 137 rfl) rfl
theorem q1444 : (Jvm.Cond.privateMethod ({ cls := "RockingHorseModel", name := "layMay", desc := "(I)V" } : Jvm.MethodName)) ∈ lw_tbl := lw_at lw_m6 138 rfl
theorem q1445 : (Jvm.Cond.instanceMethod ({ cls := "RockingHorseModel", name := "layMay", desc := "(I)V" } : Jvm.MethodName)) ∈ lw_all := lw_g (lw_at lw_m6 139 rfl) rfl
theorem q1446 : (Jvm.Cond.code ({ cls := "RockingHorseModel", name := "layMay", desc := "(I)V" } : Jvm.MethodName) prog_9_method_59_code (4 : Nat) (Option.none : Option Jvm.ClassFile.FieldType)) ∈ lw_all := lw_g (lw_at lw_m6 140 rfl) rfl
theorem q1447 : (Jvm.Cond.methodLink "RockingHorseModel" (307 : Nat) ({ cls := "RockingHorseModel", name := "night", desc := "()I" } : Jvm.MethodName)) ∈ lw_all := lw_g (lw_at lw_m6 141 rfl) rfl
theorem q1448 : (Jvm.Cond.privateMethod ({ cls := "RockingHorseModel", name := "night", desc := "()I" } : Jvm.MethodName)) ∈ lw_tbl := lw_at lw_m6 142 rfl
theorem q1449 : (Jvm.Cond.instanceMethod ({ cls := "RockingHorseModel", name := "night", desc := "()I" } : Jvm.MethodName)) ∈ lw_all := lw_g (lw_at lw_m6 143 rfl) rfl
theorem q1450 : (Jvm.Cond.code ({ cls := "RockingHorseModel", name := "night", desc := "()I" } : Jvm.MethodName) prog_9_method_10_code (1 : Nat) (Option.some Jvm.ClassFile.FieldType.int)) ∈ lw_all := lw_g (lw_at lw_m6 144 rfl) rfl
theorem q1451 : (Jvm.Cond.methodLink "RockingHorseModel" (329 : Nat) ({ cls := "RockingHorseModel", name := "solve", desc := "(I)I" } : Jvm.MethodName)) ∈ lw_all := lw_g (lw_at lw_m6 145 rfl) rfl
theorem q1452 : (Jvm.Cond.privateMethod ({ cls := "RockingHorseModel", name := "solve", desc := "(I)I" } : Jvm.MethodName)) ∈ lw_tbl := lw_at lw_m6 146 rfl
theorem q1453 : (Jvm.Cond.instanceMethod ({ cls := "RockingHorseModel", name := "solve", desc := "(I)I" } : Jvm.MethodName)) ∈ lw_all := lw_g (lw_at lw_m6 147 rfl) rfl
theorem q1454 : (Jvm.Cond.code ({ cls := "RockingHorseModel", name := "solve", desc := "(I)I" } : Jvm.MethodName) prog_9_method_63_code (8 : Nat) (Option.some Jvm.ClassFile.FieldType.int)) ∈ lw_all := lw_g (lw_at lw_m6 148 rfl) rfl
theorem q1455 : (Jvm.Cond.methodLink "RockingHorseModel" (313 : Nat) ({ cls := "RockingHorseModel", name := "canTake", desc := "(II)Z" } : Jvm.MethodName)) ∈ lw_all := lw_g (lw_at lw_m6 149 rfl) rfl
theorem q1456 : (Jvm.Cond.privateMethod ({ cls := "RockingHorseModel", name := "canTake", desc := "(II)Z" } : Jvm.MethodName)) ∈ lw_tbl := lw_at lw_m6 150 rfl
theorem q1457 : (Jvm.Cond.instanceMethod ({ cls := "RockingHorseModel", name := "canTake", desc := "(II)Z" } : Jvm.MethodName)) ∈ lw_all := lw_g (lw_at lw_m6 151 rfl) rfl
theorem q1458 : (Jvm.Cond.code ({ cls := "RockingHorseModel", name := "canTake", desc := "(II)Z" } : Jvm.MethodName) prog_9_method_62_code (3 : Nat) (Option.some Jvm.ClassFile.FieldType.boolean)) ∈ lw_all := lw_g (lw_at lw_m6 152 rfl) rfl
theorem q1459 : (Jvm.Cond.methodLink "RockingHorseModel" (310 : Nat) ({ cls := "RockingHorseModel", name := "hardBy", desc := "(II)I" } : Jvm.MethodName)) ∈ lw_all := lw_g (lw_at lw_m6 153 rfl) rfl
theorem q1460 : (Jvm.Cond.privateMethod ({ cls := "RockingHorseModel", name := "hardBy", desc := "(II)I" } : Jvm.MethodName)) ∈ lw_tbl := lw_at lw_m6 154 rfl
theorem q1461 : (Jvm.Cond.instanceMethod ({ cls := "RockingHorseModel", name := "hardBy", desc := "(II)I" } : Jvm.MethodName)) ∈ lw_all := lw_g (lw_at lw_m6 155 rfl) rfl
theorem q1462 : (Jvm.Cond.code ({ cls := "RockingHorseModel", name := "hardBy", desc := "(II)I" } : Jvm.MethodName) prog_9_method_60_code (5 : Nat) (Option.some Jvm.ClassFile.FieldType.int)) ∈ lw_all := lw_g (lw_at lw_m6 156 rfl) rfl
theorem q1463 : (Jvm.Cond.methodLink "RockingHorseModel" (316 : Nat) ({ cls := "RockingHorseModel", name := "costOf", desc := "(III)I" } : Jvm.MethodName)) ∈ lw_all := lw_g (lw_at lw_m6 157 rfl) rfl
theorem q1464 : (Jvm.Cond.privateMethod ({ cls := "RockingHorseModel", name := "costOf", desc := "(III)I" } : Jvm.MethodName)) ∈ lw_tbl := lw_at lw_m6 158 rfl
theorem q1465 : (Jvm.Cond.instanceMethod ({ cls := "RockingHorseModel", name := "costOf", desc := "(III)I" } : Jvm.MethodName)) ∈ lw_all := lw_g (lw_at lw_m6 159 rfl) rfl
theorem q1466 : (Jvm.Cond.code ({ cls := "RockingHorseModel", name := "costOf", desc := "(III)I" } : Jvm.MethodName) prog_9_method_61_code (4 : Nat) (Option.some Jvm.ClassFile.FieldType.int)) ∈ lw_all := lw_g (lw_at lw_m6 160 rfl) rfl
theorem q1467 : (Jvm.Cond.methodLink "RockingHorseModel" (341 : Nat) ({ cls := "RockingHorseModel", name := "layLine", desc := "(II)V" } : Jvm.MethodName)) ∈ lw_all := lw_g (lw_at lw_m6 161 rfl) rfl
theorem q1468 : (Jvm.Cond.privateMethod ({ cls := "RockingHorseModel", name := "layLine", desc := "(II)V" } : Jvm.MethodName)) ∈ lw_tbl := lw_at lw_m6 162 rfl
theorem q1469 : (Jvm.Cond.instanceMethod ({ cls := "RockingHorseModel", name := "layLine", desc := "(II)V" } : Jvm.MethodName)) ∈ lw_all := lw_g (lw_at lw_m6 163 rfl) rfl
theorem q1470 : (Jvm.Cond.code ({ cls := "RockingHorseModel", name := "layLine", desc := "(II)V" } : Jvm.MethodName) prog_9_method_69_code (6 : Nat) (Option.none : Option Jvm.ClassFile.FieldType)) ∈ lw_all := lw_g (lw_at lw_m6 164 rfl) rfl
theorem q1471 : (Jvm.Cond.methodLink "RockingHorseModel" (320 : Nat) ({ cls := "RockingHorseModel", name := "keepMay", desc := "()V" } : Jvm.MethodName)) ∈ lw_all := lw_g (lw_at lw_m6 165 rfl) rfl
theorem q1472 : (Jvm.Cond.privateMethod ({ cls := "RockingHorseModel", name := "keepMay", desc := "()V" } : Jvm.MethodName)) ∈ lw_tbl := lw_at lw_m6 166 rfl
theorem q1473 : (Jvm.Cond.instanceMethod ({ cls := "RockingHorseModel", name := "keepMay", desc := "()V" } : Jvm.MethodName)) ∈ lw_all := lw_g (lw_at lw_m6 167 rfl) rfl
theorem q1474 : (Jvm.Cond.code ({ cls := "RockingHorseModel", name := "keepMay", desc := "()V" } : Jvm.MethodName) prog_9_method_66_code (2 : Nat) (Option.none : Option Jvm.ClassFile.FieldType)) ∈ lw_all := lw_g (lw_at lw_m6 168 rfl) rfl
theorem q1475 : (Jvm.Cond.methodLink "RockingHorseModel" (323 : Nat) ({ cls := "RockingHorseModel", name := "fix", desc := "(II)V" } : Jvm.MethodName)) ∈ lw_all := lw_g (lw_at lw_m6 169 rfl) rfl
theorem q1476 : (Jvm.Cond.privateMethod ({ cls := "RockingHorseModel", name := "fix", desc := "(II)V" } : Jvm.MethodName)) ∈ lw_tbl := lw_at lw_m6 170 rfl
theorem q1477 : (Jvm.Cond.instanceMethod ({ cls := "RockingHorseModel", name := "fix", desc := "(II)V" } : Jvm.MethodName)) ∈ lw_all := lw_g (lw_at lw_m6 171 rfl) rfl
theorem q1478 : (Jvm.Cond.code ({ cls := "RockingHorseModel", name := "fix", desc := "(II)V" } : Jvm.MethodName) prog_9_method_65_code (4 : Nat) (Option.none : Option Jvm.ClassFile.FieldType)) ∈ lw_all := lw_g (lw_at lw_m6 172 rfl) rfl
theorem q1479 : (Jvm.Cond.methodLink "RockingHorseModel" (326 : Nat) ({ cls := "RockingHorseModel", name := "areRight", desc := "(I)Z" } : Jvm.MethodName)) ∈ lw_all := lw_g (lw_at lw_m6 173 rfl) rfl
theorem q1480 : (Jvm.Cond.privateMethod ({ cls := "RockingHorseModel", name := "areRight", desc := "(I)Z" } : Jvm.MethodName)) ∈ lw_tbl := lw_at lw_m6 174 rfl
theorem q1481 : (Jvm.Cond.instanceMethod ({ cls := "RockingHorseModel", name := "areRight", desc := "(I)Z" } : Jvm.MethodName)) ∈ lw_all := lw_g (lw_at lw_m6 175 rfl) rfl
theorem q1482 : (Jvm.Cond.code ({ cls := "RockingHorseModel", name := "areRight", desc := "(I)Z" } : Jvm.MethodName) prog_9_method_68_code (2 : Nat) (Option.some Jvm.ClassFile.FieldType.boolean)) ∈ lw_all := lw_g (lw_at lw_m6 176 rfl) rfl
theorem q1483 : (Jvm.Cond.methodLink "RockingHorseModel" (332 : Nat) ({ cls := "RockingHorseModel", name := "bringMay", desc := "()V" } : Jvm.MethodName)) ∈ lw_all := lw_g (lw_at lw_m6 177 rfl) rfl
theorem q1484 : (Jvm.Cond.privateMethod ({ cls := "RockingHorseModel", name := "bringMay", desc := "()V" } : Jvm.MethodName)) ∈ lw_tbl := lw_at lw_m6 178 rfl
theorem q1485 : (Jvm.Cond.instanceMethod ({ cls := "RockingHorseModel", name := "bringMay", desc := "()V" } : Jvm.MethodName)) ∈ lw_all := lw_g (lw_at lw_m6 179 rfl) rfl
theorem q1486 : (Jvm.Cond.code ({ cls := "RockingHorseModel", name := "bringMay", desc := "()V" } : Jvm.MethodName) prog_9_method_67_code (2 : Nat) (Option.none : Option Jvm.ClassFile.FieldType)) ∈ lw_all := lw_g (lw_at lw_m6 180 rfl) rfl
theorem q1487 : (Jvm.Cond.methodLink "RockingHorseModel" (344 : Nat) ({ cls := "RockingHorseModel", name := "tellLine", desc := "()V" } : Jvm.MethodName)) ∈ lw_all := lw_g (lw_at lw_m6 181 rfl) rfl
theorem q1488 : (Jvm.Cond.privateMethod ({ cls := "RockingHorseModel", name := "tellLine", desc := "()V" } : Jvm.MethodName)) ∈ lw_tbl := lw_at lw_m6 182 rfl
theorem q1489 : (Jvm.Cond.instanceMethod ({ cls := "RockingHorseModel", name := "tellLine", desc := "()V" } : Jvm.MethodName)) ∈ lw_all := lw_g (lw_at lw_m6 183 rfl) rfl
theorem q1490 : (Jvm.Cond.code ({ cls := "RockingHorseModel", name := "tellLine", desc := "()V" } : Jvm.MethodName) prog_9_method_70_code (2 : Nat) (Option.none : Option Jvm.ClassFile.FieldType)) ∈ lw_all := lw_g (lw_at lw_m6 184 rfl) rfl
theorem q1492 : (Jvm.Cond.instanceMethod ({ cls := "RockingHorseModel", name := "fewest", desc := "()I" } : Jvm.MethodName)) ∈ lw_all := lw_g (lw_at lw_m6 186 rfl) rfl
theorem q1493 : (Jvm.Cond.selects "RockingHorseModel" ({ cls := "RockingHorseModel", name := "fewest", desc := "()I" } : Jvm.MethodName) ({ cls := "RockingHorseModel", name := "fewest", desc := "()I" } : Jvm.MethodName)) ∈ lw_all := lw_g (lw_at lw_m6 187 rfl) rfl
theorem q1494 : (Jvm.Cond.code ({ cls := "RockingHorseModel", name := "fewest", desc := "()I" } : Jvm.MethodName) prog_9_method_74_code (3 : Nat) (Option.some Jvm.ClassFile.FieldType.int)) ∈ lw_all := lw_g (lw_at lw_m6 188 rfl) rfl
theorem q1495 : (Jvm.Cond.methodLink "RockingHorseModel" (347 : Nat) ({ cls := "RockingHorseModel", name := "layCanBe", desc := "()V" } : Jvm.MethodName)) ∈ lw_all := lw_g (lw_at lw_m6 189 rfl) rfl
theorem q1496 : (Jvm.Cond.privateMethod ({ cls := "RockingHorseModel", name := "layCanBe", desc := "()V" } : Jvm.MethodName)) ∈ lw_tbl := lw_at lw_m6 190 rfl
theorem q1497 : (Jvm.Cond.instanceMethod ({ cls := "RockingHorseModel", name := "layCanBe", desc := "()V" } : Jvm.MethodName)) ∈ lw_all := lw_g (lw_at lw_m6 191 rfl) rfl
theorem q1498 : (Jvm.Cond.code ({ cls := "RockingHorseModel", name := "layCanBe", desc := "()V" } : Jvm.MethodName) prog_9_method_73_code (3 : Nat) (Option.none : Option Jvm.ClassFile.FieldType)) ∈ lw_all := lw_g (lw_at lw_m6 192 rfl) rfl
theorem q1500 : (Jvm.Cond.instanceMethod ({ cls := "RockingHorseModel", name := "bare", desc := "()I" } : Jvm.MethodName)) ∈ lw_all := lw_g (lw_at lw_m6 194 rfl) rfl
theorem q1501 : (Jvm.Cond.selects "RockingHorseModel" ({ cls := "RockingHorseModel", name := "bare", desc := "()I" } : Jvm.MethodName) ({ cls := "RockingHorseModel", name := "bare", desc := "()I" } : Jvm.MethodName)) ∈ lw_all := lw_g (lw_at lw_m6 195 rfl) rfl
theorem q1502 : (Jvm.Cond.code ({ cls := "RockingHorseModel", name := "bare", desc := "()I" } : Jvm.MethodName) prog_9_method_75_code (3 : Nat) (Option.some Jvm.ClassFile.FieldType.int)) ∈ lw_all := lw_g (lw_at lw_m6 196 rfl) rfl
theorem q1504 : (Jvm.Cond.instanceMethod ({ cls := "RockingHorseModel", name := "rotas", desc := "()I" } : Jvm.MethodName)) ∈ lw_all := lw_g (lw_at lw_m6 198 rfl) rfl
theorem q1505 : (Jvm.Cond.selects "RockingHorseModel" ({ cls := "RockingHorseModel", name := "rotas", desc := "()I" } : Jvm.MethodName) ({ cls := "RockingHorseModel", name := "rotas", desc := "()I" } : Jvm.MethodName)) ∈ lw_all := lw_g (lw_at lw_m6 199 rfl) rfl
theorem q1506 : (Jvm.Cond.code ({ cls := "RockingHorseModel", name := "rotas", desc := "()I" } : Jvm.MethodName) prog_9_method_77_code (1 : Nat) (Option.some Jvm.ClassFile.FieldType.int)) ∈ lw_all := lw_g (lw_at lw_m6 200 rfl) rfl
theorem q1507 : (Jvm.Cond.methodLink "RockingHorseModel" (353 : Nat) ({ cls := "RockingHorseModel", name := "tellWays", desc := "()I" } : Jvm.MethodName)) ∈ lw_all := lw_g (lw_at lw_m6 201 rfl) rfl
theorem q1508 : (Jvm.Cond.privateMethod ({ cls := "RockingHorseModel", name := "tellWays", desc := "()I" } : Jvm.MethodName)) ∈ lw_tbl := lw_at lw_m6 202 rfl
theorem q1509 : (Jvm.Cond.instanceMethod ({ cls := "RockingHorseModel", name := "tellWays", desc := "()I" } : Jvm.MethodName)) ∈ lw_all := lw_g (lw_at lw_m6 203 rfl) rfl
theorem q1510 : (Jvm.Cond.code ({ cls := "RockingHorseModel", name := "tellWays", desc := "()I" } : Jvm.MethodName) prog_9_method_76_code (2 : Nat) (Option.some Jvm.ClassFile.FieldType.int)) ∈ lw_all := lw_g (lw_at lw_m6 204 rfl) rfl
theorem q1511 : (Jvm.Cond.methodLink "RockingHorseModel" (350 : Nat) ({ cls := "RockingHorseModel", name := "countWays", desc := "()I" } : Jvm.MethodName)) ∈ lw_all := lw_g (lw_at lw_m6 205 rfl) rfl
theorem q1512 : (Jvm.Cond.privateMethod ({ cls := "RockingHorseModel", name := "countWays", desc := "()I" } : Jvm.MethodName)) ∈ lw_tbl := lw_at lw_m6 206 rfl
theorem q1513 : (Jvm.Cond.instanceMethod ({ cls := "RockingHorseModel", name := "countWays", desc := "()I" } : Jvm.MethodName)) ∈ lw_all := lw_g (lw_at lw_m6 207 rfl) rfl
theorem q1514 : (Jvm.Cond.code ({ cls := "RockingHorseModel", name := "countWays", desc := "()I" } : Jvm.MethodName) prog_9_method_64_code (5 : Nat) (Option.some Jvm.ClassFile.FieldType.int)) ∈ lw_all := lw_g (lw_at lw_m6 208 rfl) rfl
theorem q1516 : (Jvm.Cond.instanceMethod ({ cls := "RockingHorseModel", name := "mended", desc := "(I)I" } : Jvm.MethodName)) ∈ lw_all := lw_g (lw_at lw_m6 210 rfl) rfl
theorem q1517 : (Jvm.Cond.selects "RockingHorseModel" ({ cls := "RockingHorseModel", name := "mended", desc := "(I)I" } : Jvm.MethodName) ({ cls := "RockingHorseModel", name := "mended", desc := "(I)I" } : Jvm.MethodName)) ∈ lw_all := lw_g (lw_at lw_m6 211 rfl) rfl
theorem q1518 : (Jvm.Cond.code ({ cls := "RockingHorseModel", name := "mended", desc := "(I)I" } : Jvm.MethodName) prog_9_method_78_code (3 : Nat) (Option.some Jvm.ClassFile.FieldType.int)) ∈ lw_all := lw_g (lw_at lw_m6 212 rfl) rfl
theorem q1520 : (Jvm.Cond.instanceMethod ({ cls := "RockingHorseModel", name := "takes", desc := "()I" } : Jvm.MethodName)) ∈ lw_all := lw_g (lw_at lw_m6 214 rfl) rfl
theorem q1521 : (Jvm.Cond.selects "RockingHorseModel" ({ cls := "RockingHorseModel", name := "takes", desc := "()I" } : Jvm.MethodName) ({ cls := "RockingHorseModel", name := "takes", desc := "()I" } : Jvm.MethodName)) ∈ lw_all := lw_g (lw_at lw_m6 215 rfl) rfl
theorem q1522 : (Jvm.Cond.code ({ cls := "RockingHorseModel", name := "takes", desc := "()I" } : Jvm.MethodName) prog_9_method_79_code (4 : Nat) (Option.some Jvm.ClassFile.FieldType.int)) ∈ lw_all := lw_g (lw_at lw_m6 216 rfl) rfl
theorem q1524 : (Jvm.Cond.instanceMethod ({ cls := "RockingHorseModel", name := "missed", desc := "(I)I" } : Jvm.MethodName)) ∈ lw_all := lw_g (lw_at lw_m6 218 rfl) rfl
theorem q1525 : (Jvm.Cond.selects "RockingHorseModel" ({ cls := "RockingHorseModel", name := "missed", desc := "(I)I" } : Jvm.MethodName) ({ cls := "RockingHorseModel", name := "missed", desc := "(I)I" } : Jvm.MethodName)) ∈ lw_all := lw_g (lw_at lw_m6 219 rfl) rfl
theorem q1526 : (Jvm.Cond.code ({ cls := "RockingHorseModel", name := "missed", desc := "(I)I" } : Jvm.MethodName) prog_9_method_80_code (4 : Nat) (Option.some Jvm.ClassFile.FieldType.int)) ∈ lw_all := lw_g (lw_at lw_m6 220 rfl) rfl
theorem q1528 : (Jvm.Cond.instanceMethod ({ cls := "RockingHorseModel", name := "paid", desc := "(I)I" } : Jvm.MethodName)) ∈ lw_all := lw_g (lw_at lw_m6 222 rfl) rfl
theorem q1529 : (Jvm.Cond.selects "RockingHorseModel" ({ cls := "RockingHorseModel", name := "paid", desc := "(I)I" } : Jvm.MethodName) ({ cls := "RockingHorseModel", name := "paid", desc := "(I)I" } : Jvm.MethodName)) ∈ lw_all := lw_g (lw_at lw_m6 223 rfl) rfl
theorem q1530 : (Jvm.Cond.code ({ cls := "RockingHorseModel", name := "paid", desc := "(I)I" } : Jvm.MethodName) prog_9_method_81_code (6 : Nat) (Option.some Jvm.ClassFile.FieldType.int)) ∈ lw_all := lw_g (lw_at lw_m6 224 rfl) rfl
theorem q1532 : (Jvm.Cond.instanceMethod ({ cls := "RockingHorseModel", name := "fairest", desc := "()I" } : Jvm.MethodName)) ∈ lw_all := lw_g (lw_at lw_m6 226 rfl) rfl
theorem q1533 : (Jvm.Cond.selects "RockingHorseModel" ({ cls := "RockingHorseModel", name := "fairest", desc := "()I" } : Jvm.MethodName) ({ cls := "RockingHorseModel", name := "fairest", desc := "()I" } : Jvm.MethodName)) ∈ lw_all := lw_g (lw_at lw_m6 227 rfl) rfl
theorem q1534 : (Jvm.Cond.code ({ cls := "RockingHorseModel", name := "fairest", desc := "()I" } : Jvm.MethodName) prog_9_method_82_code (4 : Nat) (Option.some Jvm.ClassFile.FieldType.int)) ∈ lw_all := lw_g (lw_at lw_m6 228 rfl) rfl
theorem q1536 : (Jvm.Cond.instanceMethod ({ cls := "RockingHorseModel", name := "away", desc := "()I" } : Jvm.MethodName)) ∈ lw_all := lw_g (lw_at lw_m6 230 rfl) rfl
theorem q1537 : (Jvm.Cond.selects "RockingHorseModel" ({ cls := "RockingHorseModel", name := "away", desc := "()I" } : Jvm.MethodName) ({ cls := "RockingHorseModel", name := "away", desc := "()I" } : Jvm.MethodName)) ∈ lw_all := lw_g (lw_at lw_m6 231 rfl) rfl
theorem q1538 : (Jvm.Cond.code ({ cls := "RockingHorseModel", name := "away", desc := "()I" } : Jvm.MethodName) prog_9_method_83_code (4 : Nat) (Option.some Jvm.ClassFile.FieldType.int)) ∈ lw_all := lw_g (lw_at lw_m6 232 rfl) rfl
theorem q1540 : (Jvm.Cond.instanceMethod ({ cls := "RockingHorseModel", name := "able", desc := "(I)I" } : Jvm.MethodName)) ∈ lw_all := lw_g (lw_at lw_m6 234 rfl) rfl
theorem q1541 : (Jvm.Cond.selects "RockingHorseModel" ({ cls := "RockingHorseModel", name := "able", desc := "(I)I" } : Jvm.MethodName) ({ cls := "RockingHorseModel", name := "able", desc := "(I)I" } : Jvm.MethodName)) ∈ lw_all := lw_g (lw_at lw_m6 235 rfl) rfl
theorem q1542 : (Jvm.Cond.code ({ cls := "RockingHorseModel", name := "able", desc := "(I)I" } : Jvm.MethodName) prog_9_method_84_code (6 : Nat) (Option.some Jvm.ClassFile.FieldType.int)) ∈ lw_all := lw_g (lw_at lw_m6 236 rfl) rfl
theorem q1544 : (Jvm.Cond.instanceMethod ({ cls := "RockingHorseModel", name := "spent", desc := "(I)I" } : Jvm.MethodName)) ∈ lw_all := lw_g (lw_at lw_m6 238 rfl) rfl
theorem q1545 : (Jvm.Cond.selects "RockingHorseModel" ({ cls := "RockingHorseModel", name := "spent", desc := "(I)I" } : Jvm.MethodName) ({ cls := "RockingHorseModel", name := "spent", desc := "(I)I" } : Jvm.MethodName)) ∈ lw_all := lw_g (lw_at lw_m6 239 rfl) rfl
theorem q1546 : (Jvm.Cond.code ({ cls := "RockingHorseModel", name := "spent", desc := "(I)I" } : Jvm.MethodName) prog_9_method_85_code (6 : Nat) (Option.some Jvm.ClassFile.FieldType.int)) ∈ lw_all := lw_g (lw_at lw_m7 0 rfl) rfl
theorem q1548 : (Jvm.Cond.instanceMethod ({ cls := "RockingHorseModel", name := "shared", desc := "(II)I" } : Jvm.MethodName)) ∈ lw_all := lw_g (lw_at lw_m7 2 rfl) rfl
theorem q1549 : (Jvm.Cond.selects "RockingHorseModel" ({ cls := "RockingHorseModel", name := "shared", desc := "(II)I" } : Jvm.MethodName) ({ cls := "RockingHorseModel", name := "shared", desc := "(II)I" } : Jvm.MethodName)) ∈ lw_all := lw_g (lw_at lw_m7 3 rfl) rfl
theorem q1550 : (Jvm.Cond.code ({ cls := "RockingHorseModel", name := "shared", desc := "(II)I" } : Jvm.MethodName) prog_9_method_86_code (3 : Nat) (Option.some Jvm.ClassFile.FieldType.int)) ∈ lw_all := lw_g (lw_at lw_m7 4 rfl) rfl
theorem q1552 : (Jvm.Cond.instanceMethod ({ cls := "RockingHorseModel", name := "thin", desc := "()I" } : Jvm.MethodName)) ∈ lw_all := lw_g (lw_at lw_m7 6 rfl) rfl
theorem q1553 : (Jvm.Cond.selects "RockingHorseModel" ({ cls := "RockingHorseModel", name := "thin", desc := "()I" } : Jvm.MethodName) ({ cls := "RockingHorseModel", name := "thin", desc := "()I" } : Jvm.MethodName)) ∈ lw_all := lw_g (lw_at lw_m7 7 rfl) rfl
theorem q1554 : (Jvm.Cond.code ({ cls := "RockingHorseModel", name := "thin", desc := "()I" } : Jvm.MethodName) prog_9_method_88_code (3 : Nat) (Option.some Jvm.ClassFile.FieldType.int)) ∈ lw_all := lw_g (lw_at lw_m7 8 rfl) rfl
theorem q1555 : (Jvm.Cond.methodLink "RockingHorseModel" (356 : Nat) ({ cls := "RockingHorseModel", name := "ableMany", desc := "(I)I" } : Jvm.MethodName)) ∈ lw_all := lw_g (lw_at lw_m7 9 rfl) rfl
theorem q1556 : (Jvm.Cond.privateMethod ({ cls := "RockingHorseModel", name := "ableMany", desc := "(I)I" } : Jvm.MethodName)) ∈ lw_tbl := lw_at lw_m7 10 rfl
theorem q1557 : (Jvm.Cond.instanceMethod ({ cls := "RockingHorseModel", name := "ableMany", desc := "(I)I" } : Jvm.MethodName)) ∈ lw_all := lw_g (lw_at lw_m7 11 rfl) rfl
theorem q1558 : (Jvm.Cond.code ({ cls := "RockingHorseModel", name := "ableMany", desc := "(I)I" } : Jvm.MethodName) prog_9_method_87_code (4 : Nat) (Option.some Jvm.ClassFile.FieldType.int)) ∈ lw_all := lw_g (lw_at lw_m7 12 rfl) rfl
theorem q1560 : (Jvm.Cond.instanceMethod ({ cls := "RockingHorseModel", name := "changes", desc := "()I" } : Jvm.MethodName)) ∈ lw_all := lw_g (lw_at lw_m7 14 rfl) rfl
theorem q1561 : (Jvm.Cond.selects "RockingHorseModel" ({ cls := "RockingHorseModel", name := "changes", desc := "()I" } : Jvm.MethodName) ({ cls := "RockingHorseModel", name := "changes", desc := "()I" } : Jvm.MethodName)) ∈ lw_all := lw_g (lw_at lw_m7 15 rfl) rfl
theorem q1562 : (Jvm.Cond.code ({ cls := "RockingHorseModel", name := "changes", desc := "()I" } : Jvm.MethodName) prog_9_method_89_code (8 : Nat) (Option.some Jvm.ClassFile.FieldType.int)) ∈ lw_all := lw_g (lw_at lw_m7 16 rfl) rfl
theorem q1564 : (Jvm.Cond.instanceMethod ({ cls := "RockingHorseModel", name := "smoothest", desc := "()I" } : Jvm.MethodName)) ∈ lw_all := lw_g (lw_at lw_m7 18 rfl) rfl
theorem q1565 : (Jvm.Cond.selects "RockingHorseModel" ({ cls := "RockingHorseModel", name := "smoothest", desc := "()I" } : Jvm.MethodName) ({ cls := "RockingHorseModel", name := "smoothest", desc := "()I" } : Jvm.MethodName)) ∈ lw_all := lw_g (lw_at lw_m7 19 rfl) rfl
theorem q1566 : (Jvm.Cond.code ({ cls := "RockingHorseModel", name := "smoothest", desc := "()I" } : Jvm.MethodName) prog_9_method_91_code (2 : Nat) (Option.some Jvm.ClassFile.FieldType.int)) ∈ lw_all := lw_g (lw_at lw_m7 20 rfl) rfl
theorem q1567 : (Jvm.Cond.methodLink "RockingHorseModel" (359 : Nat) ({ cls := "RockingHorseModel", name := "goSmooth", desc := "(II)Z" } : Jvm.MethodName)) ∈ lw_all := lw_g (lw_at lw_m7 21 rfl) rfl
theorem q1568 : (Jvm.Cond.privateMethod ({ cls := "RockingHorseModel", name := "goSmooth", desc := "(II)Z" } : Jvm.MethodName)) ∈ lw_tbl := lw_at lw_m7 22 rfl
theorem q1569 : (Jvm.Cond.instanceMethod ({ cls := "RockingHorseModel", name := "goSmooth", desc := "(II)Z" } : Jvm.MethodName)) ∈ lw_all := lw_g (lw_at lw_m7 23 rfl) rfl
theorem q1570 : (Jvm.Cond.code ({ cls := "RockingHorseModel", name := "goSmooth", desc := "(II)Z" } : Jvm.MethodName) prog_9_method_90_code (6 : Nat) (Option.some Jvm.ClassFile.FieldType.boolean)) ∈ lw_all := lw_g (lw_at lw_m7 24 rfl) rfl
theorem q1572 : (Jvm.Cond.instanceMethod ({ cls := "RockingHorseModel", name := "meets", desc := "(III)I" } : Jvm.MethodName)) ∈ lw_all := lw_g (lw_at lw_m7 26 rfl) rfl
theorem q1573 : (Jvm.Cond.selects "RockingHorseModel" ({ cls := "RockingHorseModel", name := "meets", desc := "(III)I" } : Jvm.MethodName) ({ cls := "RockingHorseModel", name := "meets", desc := "(III)I" } : Jvm.MethodName)) ∈ lw_all := lw_g (lw_at lw_m7 27 rfl) rfl
theorem q1574 : (Jvm.Cond.code ({ cls := "RockingHorseModel", name := "meets", desc := "(III)I" } : Jvm.MethodName) prog_9_method_92_code (7 : Nat) (Option.some Jvm.ClassFile.FieldType.int)) ∈ lw_all := lw_g (lw_at lw_m7 28 rfl) rfl
theorem q1576 : (Jvm.Cond.instanceMethod ({ cls := "RockingHorseModel", name := "found", desc := "(III)I" } : Jvm.MethodName)) ∈ lw_all := lw_g (lw_at lw_m7 30 rfl) rfl
theorem q1577 : (Jvm.Cond.selects "RockingHorseModel" ({ cls := "RockingHorseModel", name := "found", desc := "(III)I" } : Jvm.MethodName) ({ cls := "RockingHorseModel", name := "found", desc := "(III)I" } : Jvm.MethodName)) ∈ lw_all := lw_g (lw_at lw_m7 31 rfl) rfl
theorem q1578 : (Jvm.Cond.code ({ cls := "RockingHorseModel", name := "found", desc := "(III)I" } : Jvm.MethodName) prog_9_method_93_code (4 : Nat) (Option.some Jvm.ClassFile.FieldType.int)) ∈ lw_all := lw_g (lw_at lw_m7 32 rfl) rfl
theorem q1580 : (Jvm.Cond.instanceMethod ({ cls := "RockingHorseModel", name := "forget", desc := "()I" } : Jvm.MethodName)) ∈ lw_all := lw_g (lw_at lw_m7 34 rfl) rfl
theorem q1581 : (Jvm.Cond.selects "RockingHorseModel" ({ cls := "RockingHorseModel", name := "forget", desc := "()I" } : Jvm.MethodName) ({ cls := "RockingHorseModel", name := "forget", desc := "()I" } : Jvm.MethodName)) ∈ lw_all := lw_g (lw_at lw_m7 35 rfl) rfl
theorem q1582 : (Jvm.Cond.code ({ cls := "RockingHorseModel", name := "forget", desc := "()I" } : Jvm.MethodName) prog_9_method_94_code (2 : Nat) (Option.some Jvm.ClassFile.FieldType.int)) ∈ lw_all := lw_g (lw_at lw_m7 36 rfl) rfl
theorem q1584 : (Jvm.Cond.instanceMethod ({ cls := "RockingHorseModel", name := "fits", desc := "()I" } : Jvm.MethodName)) ∈ lw_all := lw_g (lw_at lw_m7 38 rfl) rfl
theorem q1585 : (Jvm.Cond.selects "RockingHorseModel" ({ cls := "RockingHorseModel", name := "fits", desc := "()I" } : Jvm.MethodName) ({ cls := "RockingHorseModel", name := "fits", desc := "()I" } : Jvm.MethodName)) ∈ lw_all := lw_g (lw_at lw_m7 39 rfl) rfl
theorem q1586 : (Jvm.Cond.code ({ cls := "RockingHorseModel", name := "fits", desc := "()I" } : Jvm.MethodName) prog_9_method_97_code (2 : Nat) (Option.some Jvm.ClassFile.FieldType.int)) ∈ lw_all := lw_g (lw_at lw_m7 40 rfl) rfl
theorem q1587 : (Jvm.Cond.methodLink "RockingHorseModel" (371 : Nat) ({ cls := "RockingHorseModel", name := "fitting", desc := "(II)I" } : Jvm.MethodName)) ∈ lw_all := lw_g (lw_at lw_m7 41 rfl) rfl
theorem q1588 : (Jvm.Cond.privateMethod ({ cls := "RockingHorseModel", name := "fitting", desc := "(II)I" } : Jvm.MethodName)) ∈ lw_tbl := lw_at lw_m7 42 rfl
theorem q1589 : (Jvm.Cond.instanceMethod ({ cls := "RockingHorseModel", name := "fitting", desc := "(II)I" } : Jvm.MethodName)) ∈ lw_all := lw_g (lw_at lw_m7 43 rfl) rfl
theorem q1590 : (Jvm.Cond.code ({ cls := "RockingHorseModel", name := "fitting", desc := "(II)I" } : Jvm.MethodName) prog_9_method_96_code (4 : Nat) (Option.some Jvm.ClassFile.FieldType.int)) ∈ lw_all := lw_g (lw_at lw_m7 44 rfl) rfl
theorem q1591 : (Jvm.Cond.methodLink "RockingHorseModel" (368 : Nat) ({ cls := "RockingHorseModel", name := "layFound", desc := "()V" } : Jvm.MethodName)) ∈ lw_all := lw_g (lw_at lw_m7 45 rfl) rfl
theorem q1592 : (Jvm.Cond.privateMethod ({ cls := "RockingHorseModel", name := "layFound", desc := "()V" } : Jvm.MethodName)) ∈ lw_tbl := lw_at lw_m7 46 rfl
theorem q1593 : (Jvm.Cond.instanceMethod ({ cls := "RockingHorseModel", name := "layFound", desc := "()V" } : Jvm.MethodName)) ∈ lw_all := lw_g (lw_at lw_m7 47 rfl) rfl
theorem q1594 : (Jvm.Cond.code ({ cls := "RockingHorseModel", name := "layFound", desc := "()V" } : Jvm.MethodName) prog_9_method_95_code (2 : Nat) (Option.none : Option Jvm.ClassFile.FieldType)) ∈ lw_all := lw_g (lw_at lw_m7 48 rfl) rfl
theorem q1596 : (Jvm.Cond.instanceMethod ({ cls := "RockingHorseModel", name := "sure", desc := "(II)I" } : Jvm.MethodName)) ∈ lw_all := lw_g (lw_at lw_m7 50 rfl) rfl
theorem q1597 : (Jvm.Cond.selects "RockingHorseModel" ({ cls := "RockingHorseModel", name := "sure", desc := "(II)I" } : Jvm.MethodName) ({ cls := "RockingHorseModel", name := "sure", desc := "(II)I" } : Jvm.MethodName)) ∈ lw_all := lw_g (lw_at lw_m7 51 rfl) rfl
theorem q1598 : (Jvm.Cond.code ({ cls := "RockingHorseModel", name := "sure", desc := "(II)I" } : Jvm.MethodName) prog_9_method_100_code (5 : Nat) (Option.some Jvm.ClassFile.FieldType.int)) ∈ lw_all := lw_g (lw_at lw_m7 52 rfl) rfl
theorem q1599 : (Jvm.Cond.methodLink "RockingHorseModel" (378 : Nat) ({ cls := "RockingHorseModel", name := "tellPart", desc := "(JJ)V" } : Jvm.MethodName)) ∈ lw_all := lw_g (lw_at lw_m7 53 rfl) rfl
theorem q1600 : (Jvm.Cond.privateMethod ({ cls := "RockingHorseModel", name := "tellPart", desc := "(JJ)V" } : Jvm.MethodName)) ∈ lw_tbl := lw_at lw_m7 54 rfl
theorem q1601 : (Jvm.Cond.instanceMethod ({ cls := "RockingHorseModel", name := "tellPart", desc := "(JJ)V" } : Jvm.MethodName)) ∈ lw_all := lw_g (lw_at lw_m7 55 rfl) rfl
theorem q1602 : (Jvm.Cond.code ({ cls := "RockingHorseModel", name := "tellPart", desc := "(JJ)V" } : Jvm.MethodName) prog_9_method_99_code (7 : Nat) (Option.none : Option Jvm.ClassFile.FieldType)) ∈ lw_all := lw_g (lw_at lw_m7 56 rfl) rfl
theorem q1603 : (Jvm.Cond.methodLink "RockingHorseModel" (374 : Nat) ({ cls := "RockingHorseModel", name := "common", desc := "(JJ)J" } : Jvm.MethodName)) ∈ lw_all := lw_g (lw_at lw_m7 57 rfl) rfl
theorem q1604 : (Jvm.Cond.static ({ cls := "RockingHorseModel", name := "common", desc := "(JJ)J" } : Jvm.MethodName)) ∈ lw_all := lw_g (lw_at lw_m7 58 rfl) rfl
theorem q1605 : (Jvm.Cond.code ({ cls := "RockingHorseModel", name := "common", desc := "(JJ)J" } : Jvm.MethodName) prog_9_method_98_code (4 : Nat) (Option.some Jvm.ClassFile.FieldType.long)) ∈ lw_all := lw_g (lw_at lw_m7 59 rfl) rfl
theorem q1607 : (Jvm.Cond.instanceMethod ({ cls := "RockingHorseModel", name := "ask", desc := "()I" } : Jvm.MethodName)) ∈ lw_all := lw_g (lw_at lw_m7 61 rfl) rfl
theorem q1608 : (Jvm.Cond.selects "RockingHorseModel" ({ cls := "RockingHorseModel", name := "ask", desc := "()I" } : Jvm.MethodName) ({ cls := "RockingHorseModel", name := "ask", desc := "()I" } : Jvm.MethodName)) ∈ lw_all := lw_g (lw_at lw_m7 62 rfl) rfl
theorem q1609 : (Jvm.Cond.code ({ cls := "RockingHorseModel", name := "ask", desc := "()I" } : Jvm.MethodName) prog_9_method_101_code (6 : Nat) (Option.some Jvm.ClassFile.FieldType.int)) ∈ lw_all := lw_g (lw_at lw_m7 63 rfl) rfl
theorem q1611 : (Jvm.Cond.instanceMethod ({ cls := "RockingHorseModel", name := "held", desc := "(I)I" } : Jvm.MethodName)) ∈ lw_all := lw_g (lw_at lw_m7 65 rfl) rfl
theorem q1612 : (Jvm.Cond.selects "RockingHorseModel" ({ cls := "RockingHorseModel", name := "held", desc := "(I)I" } : Jvm.MethodName) ({ cls := "RockingHorseModel", name := "held", desc := "(I)I" } : Jvm.MethodName)) ∈ lw_all := lw_g (lw_at lw_m7 66 rfl) rfl
theorem q1613 : (Jvm.Cond.code ({ cls := "RockingHorseModel", name := "held", desc := "(I)I" } : Jvm.MethodName) prog_9_method_105_code (2 : Nat) (Option.some Jvm.ClassFile.FieldType.int)) ∈ lw_all := lw_g (lw_at lw_m7 67 rfl) rfl
theorem q1614 : (Jvm.Cond.methodLink "RockingHorseModel" (386 : Nat) ({ cls := "RockingHorseModel", name := "well", desc := "()I" } : Jvm.MethodName)) ∈ lw_all := lw_g (lw_at lw_m7 68 rfl) rfl
theorem q1615 : (Jvm.Cond.privateMethod ({ cls := "RockingHorseModel", name := "well", desc := "()I" } : Jvm.MethodName)) ∈ lw_tbl := lw_at lw_m7 69 rfl
theorem q1616 : (Jvm.Cond.instanceMethod ({ cls := "RockingHorseModel", name := "well", desc := "()I" } : Jvm.MethodName)) ∈ lw_all := lw_g (lw_at lw_m7 70 rfl) rfl
theorem q1617 : (Jvm.Cond.code ({ cls := "RockingHorseModel", name := "well", desc := "()I" } : Jvm.MethodName) prog_9_method_104_code (1 : Nat) (Option.some Jvm.ClassFile.FieldType.int)) ∈ lw_all := lw_g (lw_at lw_m7 71 rfl) rfl
theorem q1618 : (Jvm.Cond.methodLink "RockingHorseModel" (389 : Nat) ({ cls := "RockingHorseModel", name := "heldParts", desc := "(II)J" } : Jvm.MethodName)) ∈ lw_all := lw_g (lw_at lw_m7 72 rfl) rfl
theorem q1619 : (Jvm.Cond.privateMethod ({ cls := "RockingHorseModel", name := "heldParts", desc := "(II)J" } : Jvm.MethodName)) ∈ lw_tbl := lw_at lw_m7 73 rfl
theorem q1620 : (Jvm.Cond.instanceMethod ({ cls := "RockingHorseModel", name := "heldParts", desc := "(II)J" } : Jvm.MethodName)) ∈ lw_all := lw_g (lw_at lw_m7 74 rfl) rfl
theorem q1621 : (Jvm.Cond.code ({ cls := "RockingHorseModel", name := "heldParts", desc := "(II)J" } : Jvm.MethodName) prog_9_method_103_code (8 : Nat) (Option.some Jvm.ClassFile.FieldType.long)) ∈ lw_all := lw_g (lw_at lw_m7 75 rfl) rfl
theorem q1622 : (Jvm.Cond.methodLink "RockingHorseModel" (382 : Nat) ({ cls := "RockingHorseModel", name := "power", desc := "(JI)J" } : Jvm.MethodName)) ∈ lw_all := lw_g (lw_at lw_m7 76 rfl) rfl
theorem q1623 : (Jvm.Cond.static ({ cls := "RockingHorseModel", name := "power", desc := "(JI)J" } : Jvm.MethodName)) ∈ lw_all := lw_g (lw_at lw_m7 77 rfl) rfl
theorem q1624 : (Jvm.Cond.code ({ cls := "RockingHorseModel", name := "power", desc := "(JI)J" } : Jvm.MethodName) prog_9_method_102_code (6 : Nat) (Option.some Jvm.ClassFile.FieldType.long)) ∈ lw_all := lw_g (lw_at lw_m7 78 rfl) rfl
theorem q1625 : (Jvm.Cond.constantLong "RockingHorseModel" (393 : Nat) (10 : Int64)) ∈ lw_all := lw_g (lw_at lw_m7 79 rfl) rfl
theorem q1627 : (Jvm.Cond.instanceMethod ({ cls := "RockingHorseModel", name := "keystone", desc := "(I)I" } : Jvm.MethodName)) ∈ lw_all := lw_g (lw_at lw_m7 81 rfl) rfl
theorem q1628 : (Jvm.Cond.selects "RockingHorseModel" ({ cls := "RockingHorseModel", name := "keystone", desc := "(I)I" } : Jvm.MethodName) ({ cls := "RockingHorseModel", name := "keystone", desc := "(I)I" } : Jvm.MethodName)) ∈ lw_all := lw_g (lw_at lw_m7 82 rfl) rfl
theorem q1629 : (Jvm.Cond.code ({ cls := "RockingHorseModel", name := "keystone", desc := "(I)I" } : Jvm.MethodName) prog_9_method_106_code (9 : Nat) (Option.some Jvm.ClassFile.FieldType.int)) ∈ lw_all := lw_g (lw_at lw_m7 83 rfl) rfl
theorem q1631 : (Jvm.Cond.instanceMethod ({ cls := "RockingHorseModel", name := "rests", desc := "(II)I" } : Jvm.MethodName)) ∈ lw_all := lw_g (lw_at lw_m7 85 rfl) rfl
theorem q1632 : (Jvm.Cond.selects "RockingHorseModel" ({ cls := "RockingHorseModel", name := "rests", desc := "(II)I" } : Jvm.MethodName) ({ cls := "RockingHorseModel", name := "rests", desc := "(II)I" } : Jvm.MethodName)) ∈ lw_all := lw_g (lw_at lw_m7 86 rfl) rfl
theorem q1633 : (Jvm.Cond.code ({ cls := "RockingHorseModel", name := "rests", desc := "(II)I" } : Jvm.MethodName) prog_9_method_110_code (7 : Nat) (Option.some Jvm.ClassFile.FieldType.int)) ∈ lw_all := lw_g (lw_at lw_m7 87 rfl) rfl
theorem q1634 : (Jvm.Cond.methodLink "RockingHorseModel" (401 : Nat) ({ cls := "RockingHorseModel", name := "isRest", desc := "(IIII)Z" } : Jvm.MethodName)) ∈ lw_all := lw_g (lw_at lw_m7 88 rfl) rfl
theorem q1635 : (Jvm.Cond.static ({ cls := "RockingHorseModel", name := "isRest", desc := "(IIII)Z" } : Jvm.MethodName)) ∈ lw_all := lw_g (lw_at lw_m7 89 rfl) rfl
theorem q1636 : (Jvm.Cond.code ({ cls := "RockingHorseModel", name := "isRest", desc := "(IIII)Z" } : Jvm.MethodName) prog_9_method_109_code (5 : Nat) (Option.some Jvm.ClassFile.FieldType.boolean)) ∈ lw_all := lw_g (lw_at lw_m7 90 rfl) rfl
theorem q1637 : (Jvm.Cond.methodLink "RockingHorseModel" (395 : Nat) ({ cls := "RockingHorseModel", name := "firstGets", desc := "(III)I" } : Jvm.MethodName)) ∈ lw_all := lw_g (lw_at lw_m7 91 rfl) rfl
theorem q1638 : (Jvm.Cond.static ({ cls := "RockingHorseModel", name := "firstGets", desc := "(III)I" } : Jvm.MethodName)) ∈ lw_all := lw_g (lw_at lw_m7 92 rfl) rfl
theorem q1639 : (Jvm.Cond.code ({ cls := "RockingHorseModel", name := "firstGets", desc := "(III)I" } : Jvm.MethodName) prog_9_method_107_code (3 : Nat) (Option.some Jvm.ClassFile.FieldType.int)) ∈ lw_all := lw_g (lw_at lw_m7 93 rfl) rfl
theorem q1640 : (Jvm.Cond.methodLink "RockingHorseModel" (398 : Nat) ({ cls := "RockingHorseModel", name := "otherGets", desc := "(III)I" } : Jvm.MethodName)) ∈ lw_all := lw_g (lw_at lw_m7 94 rfl) rfl
theorem q1641 : (Jvm.Cond.static ({ cls := "RockingHorseModel", name := "otherGets", desc := "(III)I" } : Jvm.MethodName)) ∈ lw_all := lw_g (lw_at lw_m7 95 rfl) rfl
theorem q1642 : (Jvm.Cond.code ({ cls := "RockingHorseModel", name := "otherGets", desc := "(III)I" } : Jvm.MethodName) prog_9_method_108_code (3 : Nat) (Option.some Jvm.ClassFile.FieldType.int)) ∈ lw_all := lw_g (lw_at lw_m7 96 rfl) rfl
theorem q1644 : (Jvm.Cond.instanceMethod ({ cls := "RockingHorseModel", name := "law", desc := "()I" } : Jvm.MethodName)) ∈ lw_all := lw_g (lw_at lw_m7 98 rfl) rfl
theorem q1645 : (Jvm.Cond.selects "RockingHorseModel" ({ cls := "RockingHorseModel", name := "law", desc := "()I" } : Jvm.MethodName) ({ cls := "RockingHorseModel", name := "law", desc := "()I" } : Jvm.MethodName)) ∈ lw_all := lw_g (lw_at lw_m7 99 rfl) rfl
theorem q1646 : (Jvm.Cond.code ({ cls := "RockingHorseModel", name := "law", desc := "()I" } : Jvm.MethodName) prog_9_method_112_code (6 : Nat) (Option.some Jvm.ClassFile.FieldType.int)) ∈ lw_all := lw_g (lw_at lw_m7 100 rfl) rfl
theorem q1647 : (Jvm.Cond.methodLink "RockingHorseModel" (405 : Nat) ({ cls := "RockingHorseModel", name := "hardOfRota", desc := "()I" } : Jvm.MethodName)) ∈ lw_all := lw_g (lw_at lw_m7 101 rfl) rfl
theorem q1648 : (Jvm.Cond.privateMethod ({ cls := "RockingHorseModel", name := "hardOfRota", desc := "()I" } : Jvm.MethodName)) ∈ lw_tbl := lw_at lw_m7 102 rfl
theorem q1649 : (Jvm.Cond.instanceMethod ({ cls := "RockingHorseModel", name := "hardOfRota", desc := "()I" } : Jvm.MethodName)) ∈ lw_all := lw_g (lw_at lw_m7 103 rfl) rfl
theorem q1650 : (Jvm.Cond.code ({ cls := "RockingHorseModel", name := "hardOfRota", desc := "()I" } : Jvm.MethodName) prog_9_method_111_code (3 : Nat) (Option.some Jvm.ClassFile.FieldType.int)) ∈ lw_all := lw_g (lw_at lw_m7 104 rfl) rfl
theorem q1652 : (Jvm.Cond.instanceMethod ({ cls := "RockingHorseModel", name := "years", desc := "(II)I" } : Jvm.MethodName)) ∈ lw_all := lw_g (lw_at lw_m7 106 rfl) rfl
theorem q1653 : (Jvm.Cond.selects "RockingHorseModel" ({ cls := "RockingHorseModel", name := "years", desc := "(II)I" } : Jvm.MethodName) ({ cls := "RockingHorseModel", name := "years", desc := "(II)I" } : Jvm.MethodName)) ∈ lw_all := lw_g (lw_at lw_m7 107 rfl) rfl
theorem q1654 : (Jvm.Cond.code ({ cls := "RockingHorseModel", name := "years", desc := "(II)I" } : Jvm.MethodName) prog_9_method_114_code (6 : Nat) (Option.some Jvm.ClassFile.FieldType.int)) ∈ lw_all := lw_g (lw_at lw_m7 108 rfl) rfl
theorem q1655 : (Jvm.Cond.methodLink "RockingHorseModel" (412 : Nat) ({ cls := "RockingHorseModel", name := "draw", desc := "(I)I" } : Jvm.MethodName)) ∈ lw_all := lw_g (lw_at lw_m7 109 rfl) rfl
theorem q1656 : (Jvm.Cond.privateMethod ({ cls := "RockingHorseModel", name := "draw", desc := "(I)I" } : Jvm.MethodName)) ∈ lw_tbl := lw_at lw_m7 110 rfl
theorem q1657 : (Jvm.Cond.instanceMethod ({ cls := "RockingHorseModel", name := "draw", desc := "(I)I" } : Jvm.MethodName)) ∈ lw_all := lw_g (lw_at lw_m7 111 rfl) rfl
theorem q1658 : (Jvm.Cond.code ({ cls := "RockingHorseModel", name := "draw", desc := "(I)I" } : Jvm.MethodName) prog_9_method_113_code (2 : Nat) (Option.some Jvm.ClassFile.FieldType.int)) ∈ lw_all := lw_g (lw_at lw_m7 112 rfl) rfl
theorem q1659 : (Jvm.Cond.constant "RockingHorseModel" (411 : Nat) (1103515245 : Int32)) ∈ lw_all := lw_g (lw_at lw_m7 113 rfl) rfl
theorem q1661 : (Jvm.Cond.instanceMethod ({ cls := "RockingHorseModel", name := "keep", desc := "(I)Z" } : Jvm.MethodName)) ∈ lw_all := lw_g (lw_at lw_m7 115 rfl) rfl
theorem q1662 : (Jvm.Cond.selects "RockingHorseModel" ({ cls := "RockingHorseModel", name := "keep", desc := "(I)Z" } : Jvm.MethodName) ({ cls := "RockingHorseModel", name := "keep", desc := "(I)Z" } : Jvm.MethodName)) ∈ lw_all := lw_g (lw_at lw_m7 116 rfl) rfl
theorem q1663 : (Jvm.Cond.code ({ cls := "RockingHorseModel", name := "keep", desc := "(I)Z" } : Jvm.MethodName) prog_9_method_115_code (2 : Nat) (Option.some Jvm.ClassFile.FieldType.boolean)) ∈ lw_all := lw_g (lw_at lw_m7 117 rfl) rfl
theorem q1665 : (Jvm.Cond.instanceMethod ({ cls := "RockingHorseModel", name := "again", desc := "(I)Z" } : Jvm.MethodName)) ∈ lw_all := lw_g (lw_at lw_m7 119 rfl) rfl
theorem q1666 : (Jvm.Cond.selects "RockingHorseModel" ({ cls := "RockingHorseModel", name := "again", desc := "(I)Z" } : Jvm.MethodName) ({ cls := "RockingHorseModel", name := "again", desc := "(I)Z" } : Jvm.MethodName)) ∈ lw_all := lw_g (lw_at lw_m7 120 rfl) rfl
theorem q1667 : (Jvm.Cond.code ({ cls := "RockingHorseModel", name := "again", desc := "(I)Z" } : Jvm.MethodName) prog_9_method_116_code (3 : Nat) (Option.some Jvm.ClassFile.FieldType.boolean)) ∈ lw_all := lw_g (lw_at lw_m7 121 rfl) rfl
theorem q1669 : (Jvm.Cond.instanceMethod ({ cls := "RockingHorseModel", name := "count", desc := "(I)I" } : Jvm.MethodName)) ∈ lw_all := lw_g (lw_at lw_m7 123 rfl) rfl
theorem q1670 : (Jvm.Cond.selects "RockingHorseModel" ({ cls := "RockingHorseModel", name := "count", desc := "(I)I" } : Jvm.MethodName) ({ cls := "RockingHorseModel", name := "count", desc := "(I)I" } : Jvm.MethodName)) ∈ lw_all := lw_g (lw_at lw_m7 124 rfl) rfl
theorem q1671 : (Jvm.Cond.code ({ cls := "RockingHorseModel", name := "count", desc := "(I)I" } : Jvm.MethodName) prog_9_method_117_code (2 : Nat) (Option.some Jvm.ClassFile.FieldType.int)) ∈ lw_all := lw_g (lw_at lw_m7 125 rfl) rfl
theorem q1673 : (Jvm.Cond.instanceMethod ({ cls := "RockingHorseModel", name := "row", desc := "(I)J" } : Jvm.MethodName)) ∈ lw_all := lw_g (lw_at lw_m7 127 rfl) rfl
theorem q1674 : (Jvm.Cond.selects "RockingHorseModel" ({ cls := "RockingHorseModel", name := "row", desc := "(I)J" } : Jvm.MethodName) ({ cls := "RockingHorseModel", name := "row", desc := "(I)J" } : Jvm.MethodName)) ∈ lw_all := lw_g (lw_at lw_m7 128 rfl) rfl
theorem q1675 : (Jvm.Cond.code ({ cls := "RockingHorseModel", name := "row", desc := "(I)J" } : Jvm.MethodName) prog_9_method_118_code (2 : Nat) (Option.some Jvm.ClassFile.FieldType.long)) ∈ lw_all := lw_g (lw_at lw_m7 129 rfl) rfl
theorem q1679 : (Jvm.Cond.castable "RockingHorseModel" "java/lang/Object") ∈ lw_tbl := lw_at lw_m7 133 rfl
theorem in_X3 : ∀ w ∈ wsX30, w ∈ lw_all := lw_in wsX30 [1107, 1109, 1111, 1113, 1115, 1117, 1119, 1121, 1123, 1125, 1127, 1129, 1131, 1133, 1135, 1137, 1139, 1141, 1143, 1145, 1147, 1149, 1151, 1153, 1155, 1157, 1159, 1161, 1163, 1165, 1167, 1169, 1171, 1173, 1175, 1177, 1179, 1181, 1183, 1185, 1187, 1189, 1191, 1193, 1195, 1197, 1199, 1201, 1203, 1205, 1207] (by decide +kernel) (by decide +kernel)
