/-! RockingHorse$Sign -/
set_option maxRecDepth 100000
def RX7 : String := "RockingHorse$Sign"
def TX7 : u_T := fun k => match k with
  | 0 => ("RockingHorse$Node", "this$0", "LRockingHorse;", true)
  | 1 => ("RockingHorse$Sign", "sign", "I", true)
  | _ => ("RockingHorse$Sign", "this$0", "LRockingHorse;", true)
def tyX7 : Nat → FieldType := fun k => match k with
  | 0 => .object "RockingHorse"
  | 1 => .int
  | _ => .object "RockingHorse"
abbrev wsX70 : List Cond := u_ws RX7 TX7 3
-- two fields of one name: no nmX7
theorem tyX7_ok : ∀ k, k < 3 → parseFieldDescriptor (TX7 k).2.2.1 = some (tyX7 k) := by decide +kernel
abbrev cX7_init : ByteArray := prog_7_method_1_code
def yX7_init : MethodName := ⟨RX7, "<init>", "(LRockingHorse;I)V"⟩
def dkwX7_init_0 : List UInt8 := [42, 43, 181, 0, 1, 42, 43, 183, 0, 7, 42, 28, 181, 0, 13, 177]
abbrev dktX7_init_0 : List UInt8 := dkwX7_init_0 ++ []
theorem dksX7_init_0 : cX7_init.data.toList.drop 0 = dktX7_init_0 := by decide +kernel
theorem dX7_init_0 : decode cX7_init 0 = .ok (.aload_n 0, 1) := dk_42 (dk_at dksX7_init_0 0 rfl rfl)
theorem dX7_init_1 : decode cX7_init 1 = .ok (.aload_n 1, 1) := dk_43 (dk_at dksX7_init_0 1 rfl rfl)
theorem dX7_init_2 : decode cX7_init 2 = .ok (.putfield 1, 3) := dk_181 0 1 (dk_at dksX7_init_0 2 rfl rfl)
theorem dX7_init_5 : decode cX7_init 5 = .ok (.aload_n 0, 1) := dk_42 (dk_at dksX7_init_0 5 rfl rfl)
theorem dX7_init_6 : decode cX7_init 6 = .ok (.aload_n 1, 1) := dk_43 (dk_at dksX7_init_0 6 rfl rfl)
theorem dX7_init_7 : decode cX7_init 7 = .ok (.invokespecial 7, 3) := dk_183 0 7 (dk_at dksX7_init_0 7 rfl rfl)
theorem dX7_init_10 : decode cX7_init 10 = .ok (.aload_n 0, 1) := dk_42 (dk_at dksX7_init_0 10 rfl rfl)
theorem dX7_init_11 : decode cX7_init 11 = .ok (.iload_n 2, 1) := dk_28 (dk_at dksX7_init_0 11 rfl rfl)
theorem dX7_init_12 : decode cX7_init 12 = .ok (.putfield 13, 3) := dk_181 0 13 (dk_at dksX7_init_0 12 rfl rfl)
theorem dX7_init_15 : decode cX7_init 15 = .ok (.return_, 1) := dk_177 (dk_at dksX7_init_0 15 rfl rfl)
abbrev cX7_value : ByteArray := prog_7_method_2_code
def yX7_value : MethodName := ⟨RX7, "value", "()I"⟩
def dkwX7_value_6 : List UInt8 := [180, 0, 32, 46, 184, 0, 47, 172]
abbrev dktX7_value_6 : List UInt8 := dkwX7_value_6 ++ []
def dkwX7_value_5 : List UInt8 := [180, 0, 1, 180, 0, 22, 180, 0, 41, 16, 7, 112, 172, 42, 180, 0, 1, 180, 0, 44, 42, 180, 0, 1]
abbrev dktX7_value_5 : List UInt8 := dkwX7_value_5 ++ dktX7_value_6
def dkwX7_value_4 : List UInt8 := [180, 0, 1, 180, 0, 38, 42, 180, 0, 1, 180, 0, 32, 46, 172, 42, 180, 0, 1, 180, 0, 32, 172, 42]
abbrev dktX7_value_4 : List UInt8 := dkwX7_value_4 ++ dktX7_value_5
def dkwX7_value_3 : List UInt8 := [180, 0, 32, 46, 172, 42, 180, 0, 1, 180, 0, 35, 42, 180, 0, 1, 180, 0, 32, 46, 172, 42]
abbrev dktX7_value_3 : List UInt8 := dkwX7_value_3 ++ dktX7_value_4
def dkwX7_value_2 : List UInt8 := [42, 180, 0, 1, 180, 0, 17, 172, 42, 180, 0, 1, 180, 0, 22, 180, 0, 26, 42, 180, 0, 1]
abbrev dktX7_value_2 : List UInt8 := dkwX7_value_2 ++ dktX7_value_3
def dkwX7_value_1 : List UInt8 := [170, 0, 0, 0, 0, 0, 0, 161, 0, 0, 0, 104, 0, 0, 0, 119, 0, 0, 0, 80, 0, 0, 0, 139, 0, 0, 0, 161, 0, 0, 0, 161, 0, 0, 0, 161, 0, 0, 0, 123, 0, 0, 0, 147, 0, 0, 0, 161, 0, 0, 0, 161, 0, 0, 0, 161, 0, 0, 0, 161, 0, 0, 0, 161, 0, 0, 0, 88, 0, 0, 0, 161, 0, 0, 0, 161, 0, 0, 0, 107]
abbrev dktX7_value_1 : List UInt8 := dkwX7_value_1 ++ dktX7_value_2
def dkwX7_value_0 : List UInt8 := [42, 180, 0, 13]
abbrev dktX7_value_0 : List UInt8 := dkwX7_value_0 ++ dktX7_value_1
theorem dksX7_value_0 : cX7_value.data.toList.drop 0 = dktX7_value_0 := by decide +kernel
theorem dksX7_value_1 : cX7_value.data.toList.drop 4 = dktX7_value_1 := dk_seg dksX7_value_0 4 rfl rfl
theorem dksX7_value_2 : cX7_value.data.toList.drop 84 = dktX7_value_2 := dk_seg dksX7_value_1 80 rfl rfl
theorem dksX7_value_3 : cX7_value.data.toList.drop 106 = dktX7_value_3 := dk_seg dksX7_value_2 22 rfl rfl
theorem dksX7_value_4 : cX7_value.data.toList.drop 128 = dktX7_value_4 := dk_seg dksX7_value_3 22 rfl rfl
theorem dksX7_value_5 : cX7_value.data.toList.drop 152 = dktX7_value_5 := dk_seg dksX7_value_4 24 rfl rfl
theorem dksX7_value_6 : cX7_value.data.toList.drop 176 = dktX7_value_6 := dk_seg dksX7_value_5 24 rfl rfl
theorem dX7_value_0 : decode cX7_value 0 = .ok (.aload_n 0, 1) := dk_42 (dk_at dksX7_value_0 0 rfl rfl)
theorem dX7_value_1 : decode cX7_value 1 = .ok (.getfield 13, 3) := dk_180 0 13 (dk_at dksX7_value_0 1 rfl rfl)
theorem dX7_value_4 : decode cX7_value 4 = .ok (.tableswitch 161 104 119 #[80, 139, 161, 161, 161, 123, 147, 161, 161, 161, 161, 161, 88, 161, 161, 107], 80) := by decide +kernel
theorem dX7_value_84 : decode cX7_value 84 = .ok (.aload_n 0, 1) := dk_42 (dk_at dksX7_value_2 0 rfl rfl)
theorem dX7_value_85 : decode cX7_value 85 = .ok (.getfield 1, 3) := dk_180 0 1 (dk_at dksX7_value_2 1 rfl rfl)
theorem dX7_value_88 : decode cX7_value 88 = .ok (.getfield 17, 3) := dk_180 0 17 (dk_at dksX7_value_2 4 rfl rfl)
theorem dX7_value_91 : decode cX7_value 91 = .ok (.ireturn, 1) := dk_172 (dk_at dksX7_value_2 7 rfl rfl)
theorem dX7_value_92 : decode cX7_value 92 = .ok (.aload_n 0, 1) := dk_42 (dk_at dksX7_value_2 8 rfl rfl)
theorem dX7_value_93 : decode cX7_value 93 = .ok (.getfield 1, 3) := dk_180 0 1 (dk_at dksX7_value_2 9 rfl rfl)
theorem dX7_value_96 : decode cX7_value 96 = .ok (.getfield 22, 3) := dk_180 0 22 (dk_at dksX7_value_2 12 rfl rfl)
theorem dX7_value_99 : decode cX7_value 99 = .ok (.getfield 26, 3) := dk_180 0 26 (dk_at dksX7_value_2 15 rfl rfl)
theorem dX7_value_102 : decode cX7_value 102 = .ok (.aload_n 0, 1) := dk_42 (dk_at dksX7_value_2 18 rfl rfl)
theorem dX7_value_103 : decode cX7_value 103 = .ok (.getfield 1, 3) := dk_180 0 1 (dk_at dksX7_value_2 19 rfl rfl)
theorem dX7_value_106 : decode cX7_value 106 = .ok (.getfield 32, 3) := dk_180 0 32 (dk_at dksX7_value_3 0 rfl rfl)
theorem dX7_value_109 : decode cX7_value 109 = .ok (.iaload, 1) := dk_46 (dk_at dksX7_value_3 3 rfl rfl)
theorem dX7_value_110 : decode cX7_value 110 = .ok (.ireturn, 1) := dk_172 (dk_at dksX7_value_3 4 rfl rfl)
theorem dX7_value_111 : decode cX7_value 111 = .ok (.aload_n 0, 1) := dk_42 (dk_at dksX7_value_3 5 rfl rfl)
theorem dX7_value_112 : decode cX7_value 112 = .ok (.getfield 1, 3) := dk_180 0 1 (dk_at dksX7_value_3 6 rfl rfl)
theorem dX7_value_115 : decode cX7_value 115 = .ok (.getfield 35, 3) := dk_180 0 35 (dk_at dksX7_value_3 9 rfl rfl)
theorem dX7_value_118 : decode cX7_value 118 = .ok (.aload_n 0, 1) := dk_42 (dk_at dksX7_value_3 12 rfl rfl)
theorem dX7_value_119 : decode cX7_value 119 = .ok (.getfield 1, 3) := dk_180 0 1 (dk_at dksX7_value_3 13 rfl rfl)
theorem dX7_value_122 : decode cX7_value 122 = .ok (.getfield 32, 3) := dk_180 0 32 (dk_at dksX7_value_3 16 rfl rfl)
theorem dX7_value_125 : decode cX7_value 125 = .ok (.iaload, 1) := dk_46 (dk_at dksX7_value_3 19 rfl rfl)
theorem dX7_value_126 : decode cX7_value 126 = .ok (.ireturn, 1) := dk_172 (dk_at dksX7_value_3 20 rfl rfl)
theorem dX7_value_127 : decode cX7_value 127 = .ok (.aload_n 0, 1) := dk_42 (dk_at dksX7_value_3 21 rfl rfl)
theorem dX7_value_128 : decode cX7_value 128 = .ok (.getfield 1, 3) := dk_180 0 1 (dk_at dksX7_value_4 0 rfl rfl)
theorem dX7_value_131 : decode cX7_value 131 = .ok (.getfield 38, 3) := dk_180 0 38 (dk_at dksX7_value_4 3 rfl rfl)
theorem dX7_value_134 : decode cX7_value 134 = .ok (.aload_n 0, 1) := dk_42 (dk_at dksX7_value_4 6 rfl rfl)
theorem dX7_value_135 : decode cX7_value 135 = .ok (.getfield 1, 3) := dk_180 0 1 (dk_at dksX7_value_4 7 rfl rfl)
theorem dX7_value_138 : decode cX7_value 138 = .ok (.getfield 32, 3) := dk_180 0 32 (dk_at dksX7_value_4 10 rfl rfl)
theorem dX7_value_141 : decode cX7_value 141 = .ok (.iaload, 1) := dk_46 (dk_at dksX7_value_4 13 rfl rfl)
theorem dX7_value_142 : decode cX7_value 142 = .ok (.ireturn, 1) := dk_172 (dk_at dksX7_value_4 14 rfl rfl)
theorem dX7_value_143 : decode cX7_value 143 = .ok (.aload_n 0, 1) := dk_42 (dk_at dksX7_value_4 15 rfl rfl)
theorem dX7_value_144 : decode cX7_value 144 = .ok (.getfield 1, 3) := dk_180 0 1 (dk_at dksX7_value_4 16 rfl rfl)
theorem dX7_value_147 : decode cX7_value 147 = .ok (.getfield 32, 3) := dk_180 0 32 (dk_at dksX7_value_4 19 rfl rfl)
theorem dX7_value_150 : decode cX7_value 150 = .ok (.ireturn, 1) := dk_172 (dk_at dksX7_value_4 22 rfl rfl)
theorem dX7_value_151 : decode cX7_value 151 = .ok (.aload_n 0, 1) := dk_42 (dk_at dksX7_value_4 23 rfl rfl)
theorem dX7_value_152 : decode cX7_value 152 = .ok (.getfield 1, 3) := dk_180 0 1 (dk_at dksX7_value_5 0 rfl rfl)
theorem dX7_value_155 : decode cX7_value 155 = .ok (.getfield 22, 3) := dk_180 0 22 (dk_at dksX7_value_5 3 rfl rfl)
theorem dX7_value_158 : decode cX7_value 158 = .ok (.getfield 41, 3) := dk_180 0 41 (dk_at dksX7_value_5 6 rfl rfl)
theorem dX7_value_161 : decode cX7_value 161 = .ok (.bipush 7, 2) := dk_16 7 (dk_at dksX7_value_5 9 rfl rfl)
theorem dX7_value_163 : decode cX7_value 163 = .ok (.irem, 1) := dk_112 (dk_at dksX7_value_5 11 rfl rfl)
theorem dX7_value_164 : decode cX7_value 164 = .ok (.ireturn, 1) := dk_172 (dk_at dksX7_value_5 12 rfl rfl)
theorem dX7_value_165 : decode cX7_value 165 = .ok (.aload_n 0, 1) := dk_42 (dk_at dksX7_value_5 13 rfl rfl)
theorem dX7_value_166 : decode cX7_value 166 = .ok (.getfield 1, 3) := dk_180 0 1 (dk_at dksX7_value_5 14 rfl rfl)
theorem dX7_value_169 : decode cX7_value 169 = .ok (.getfield 44, 3) := dk_180 0 44 (dk_at dksX7_value_5 17 rfl rfl)
theorem dX7_value_172 : decode cX7_value 172 = .ok (.aload_n 0, 1) := dk_42 (dk_at dksX7_value_5 20 rfl rfl)
theorem dX7_value_173 : decode cX7_value 173 = .ok (.getfield 1, 3) := dk_180 0 1 (dk_at dksX7_value_5 21 rfl rfl)
theorem dX7_value_176 : decode cX7_value 176 = .ok (.getfield 32, 3) := dk_180 0 32 (dk_at dksX7_value_6 0 rfl rfl)
theorem dX7_value_179 : decode cX7_value 179 = .ok (.iaload, 1) := dk_46 (dk_at dksX7_value_6 3 rfl rfl)
theorem dX7_value_180 : decode cX7_value 180 = .ok (.invokestatic 47, 3) := dk_184 0 47 (dk_at dksX7_value_6 4 rfl rfl)
theorem dX7_value_183 : decode cX7_value 183 = .ok (.ireturn, 1) := dk_172 (dk_at dksX7_value_6 7 rfl rfl)
theorem q119 : (Jvm.Cond.initialized "RockingHorse$Sign") ∈ lw_all := lw_g (lw_at lw_m1 13 rfl) rfl
theorem q144 : (Jvm.Cond.fieldLinkNest "RockingHorse$Sign" (26 : Nat) "RockingHorse$Horse" "tired" "[I" "RockingHorse") ∈ lw_tbl := lw_at lw_m1 38 rfl
theorem q149 : (Jvm.Cond.fieldLinkNest "RockingHorse$Sign" (41 : Nat) "RockingHorse$Horse" "night" "I" "RockingHorse") ∈ lw_tbl := lw_at lw_m1 43 rfl
theorem q174 : (Jvm.Cond.fieldLinkNest "RockingHorse$Sign" (38 : Nat) "RockingHorse" "most" "[I" "RockingHorse") ∈ lw_tbl := lw_at lw_m1 68 rfl
theorem q176 : (Jvm.Cond.fieldLinkNest "RockingHorse$Sign" (35 : Nat) "RockingHorse" "width" "[I" "RockingHorse") ∈ lw_tbl := lw_at lw_m1 70 rfl
theorem q178 : (Jvm.Cond.fieldLinkNest "RockingHorse$Sign" (44 : Nat) "RockingHorse" "can" "[I" "RockingHorse") ∈ lw_tbl := lw_at lw_m1 72 rfl
theorem q192 : (Jvm.Cond.fieldLinkNest "RockingHorse$Sign" (22 : Nat) "RockingHorse" "askedHorse" "LRockingHorse$Horse;" "RockingHorse") ∈ lw_tbl := lw_at lw_m1 86 rfl
theorem q194 : (Jvm.Cond.fieldLinkNest "RockingHorse$Sign" (32 : Nat) "RockingHorse" "askedRider" "I" "RockingHorse") ∈ lw_tbl := lw_at lw_m1 88 rfl
theorem q196 : (Jvm.Cond.fieldLinkNest "RockingHorse$Sign" (17 : Nat) "RockingHorse" "askedHour" "I" "RockingHorse") ∈ lw_tbl := lw_at lw_m1 90 rfl
theorem q533 : (Jvm.Cond.instantiable "RockingHorse$Sign" (3 : Nat)) ∈ lw_all := lw_g (lw_at lw_m2 187 rfl) rfl
theorem q535 : (Jvm.Cond.instanceMethod ({ cls := "RockingHorse$Sign", name := "<init>", desc := "(LRockingHorse;I)V" } : Jvm.MethodName)) ∈ lw_all := lw_g (lw_at lw_m2 189 rfl) rfl
theorem q536 : (Jvm.Cond.code ({ cls := "RockingHorse$Sign", name := "<init>", desc := "(LRockingHorse;I)V" } : Jvm.MethodName) prog_7_method_1_code (3 : Nat) (Option.none : Option Jvm.ClassFile.FieldType)) ∈ lw_all := lw_g (lw_at lw_m2 190 rfl) rfl
theorem q537 : (Jvm.Cond.methodLinkNest "RockingHorse$Sign" (7 : Nat) ({ cls := "RockingHorse$Node", name := "<init>", desc := "(LRockingHorse;)V" } : Jvm.MethodName) "RockingHorse") ∈ lw_tbl := lw_at lw_m2 191 rfl
theorem q538 : (Jvm.Cond.fieldLink "RockingHorse$Sign" (13 : Nat) "RockingHorse$Sign" "sign" "I") ∈ lw_all := lw_g (lw_at lw_m2 192 rfl) rfl
theorem q539 : (Jvm.Cond.fieldLink "RockingHorse$Sign" (1 : Nat) "RockingHorse$Sign" "this$0" "LRockingHorse;") ∈ lw_all := lw_g (lw_at lw_m2 193 rfl) rfl
theorem q540 : (Jvm.Cond.laysFinal "RockingHorse$Sign" "RockingHorse$Sign" "sign" "I") ∈ lw_all := lw_g (lw_at lw_m2 194 rfl) rfl
theorem q541 : (Jvm.Cond.soleField "RockingHorse$Sign" "sign") ∈ lw_all := lw_g (lw_at lw_m2 195 rfl) rfl
theorem q542 : (Jvm.Cond.laysFinal "RockingHorse$Sign" "RockingHorse$Sign" "this$0" "LRockingHorse;") ∈ lw_all := lw_g (lw_at lw_m2 196 rfl) rfl
theorem q543 : (Jvm.Cond.soleField "RockingHorse$Sign" "this$0") ∈ lw_all := lw_g (lw_at lw_m2 197 rfl) rfl
theorem q544 : (Jvm.Cond.laysFinal "RockingHorse$Sign" "RockingHorse$Node" "this$0" "LRockingHorse;") ∈ lw_all := lw_g (lw_at lw_m2 198 rfl) rfl
theorem q545 : (Jvm.Cond.superclass "RockingHorse$Sign" "RockingHorse$Node") ∈ lw_all := lw_g (lw_at lw_m2 199 rfl) rfl
theorem q597 : (Jvm.Cond.instanceMethod ({ cls := "RockingHorse$Sign", name := "value", desc := "()I" } : Jvm.MethodName)) ∈ lw_all := lw_g (lw_at lw_m3 11 rfl) rfl
theorem q598 : (Jvm.Cond.code ({ cls := "RockingHorse$Sign", name := "value", desc := "()I" } : Jvm.MethodName) prog_7_method_2_code (1 : Nat) (Option.some Jvm.ClassFile.FieldType.int)) ∈ lw_all := lw_g (lw_at lw_m3 12 rfl) rfl
theorem q599 : (Jvm.Cond.methodLink "RockingHorse$Sign" (47 : Nat) ({ cls := "java/lang/Integer", name := "bitCount", desc := "(I)I" } : Jvm.MethodName)) ∈ lw_all := lw_g (lw_at lw_m3 13 rfl) rfl
theorem q607 : (Jvm.Cond.selects "RockingHorse$Sign" ({ cls := "RockingHorse$Node", name := "value", desc := "()I" } : Jvm.MethodName) ({ cls := "RockingHorse$Sign", name := "value", desc := "()I" } : Jvm.MethodName)) ∈ lw_all := lw_g (lw_at lw_m3 21 rfl) rfl
theorem q1682 : (Jvm.Cond.castable "RockingHorse$Sign" "java/lang/Object") ∈ lw_tbl := lw_at lw_m7 136 rfl
theorem in_X7 : ∀ w ∈ wsX70, w ∈ lw_all := lw_in wsX70 [544, 540, 542] (by decide +kernel) (by decide +kernel)
