/-! RockingHorse$Act -/
set_option maxRecDepth 100000
def RX8 : String := "RockingHorse$Act"
def TX8 : u_T := fun k => match k with
  | 0 => ("RockingHorse$Node", "this$0", "LRockingHorse;", true)
  | 1 => ("RockingHorse$Act", "sign", "C", true)
  | 2 => ("RockingHorse$Act", "left", "LRockingHorse$Node;", true)
  | 3 => ("RockingHorse$Act", "right", "LRockingHorse$Node;", true)
  | _ => ("RockingHorse$Act", "this$0", "LRockingHorse;", true)
def tyX8 : Nat → FieldType := fun k => match k with
  | 0 => .object "RockingHorse"
  | 1 => .char
  | 2 => .object "RockingHorse$Node"
  | 3 => .object "RockingHorse$Node"
  | _ => .object "RockingHorse"
abbrev wsX80 : List Cond := u_ws RX8 TX8 5
-- two fields of one name: no nmX8
theorem tyX8_ok : ∀ k, k < 5 → parseFieldDescriptor (TX8 k).2.2.1 = some (tyX8 k) := by decide +kernel
abbrev cX8_init : ByteArray := prog_2_method_1_code
def yX8_init : MethodName := ⟨RX8, "<init>", "(LRockingHorse;CLRockingHorse$Node;LRockingHorse$Node;)V"⟩
def dkwX8_init_1 : List UInt8 := [181, 0, 21, 177]
abbrev dktX8_init_1 : List UInt8 := dkwX8_init_1 ++ []
def dkwX8_init_0 : List UInt8 := [42, 43, 181, 0, 1, 42, 43, 183, 0, 7, 42, 28, 181, 0, 13, 42, 45, 181, 0, 17, 42, 25, 4]
abbrev dktX8_init_0 : List UInt8 := dkwX8_init_0 ++ dktX8_init_1
theorem dksX8_init_0 : cX8_init.data.toList.drop 0 = dktX8_init_0 := by decide +kernel
theorem dksX8_init_1 : cX8_init.data.toList.drop 23 = dktX8_init_1 := dk_seg dksX8_init_0 23 rfl rfl
theorem dX8_init_0 : decode cX8_init 0 = .ok (.aload_n 0, 1) := dk_42 (dk_at dksX8_init_0 0 rfl rfl)
theorem dX8_init_1 : decode cX8_init 1 = .ok (.aload_n 1, 1) := dk_43 (dk_at dksX8_init_0 1 rfl rfl)
theorem dX8_init_2 : decode cX8_init 2 = .ok (.putfield 1, 3) := dk_181 0 1 (dk_at dksX8_init_0 2 rfl rfl)
theorem dX8_init_5 : decode cX8_init 5 = .ok (.aload_n 0, 1) := dk_42 (dk_at dksX8_init_0 5 rfl rfl)
theorem dX8_init_6 : decode cX8_init 6 = .ok (.aload_n 1, 1) := dk_43 (dk_at dksX8_init_0 6 rfl rfl)
theorem dX8_init_7 : decode cX8_init 7 = .ok (.invokespecial 7, 3) := dk_183 0 7 (dk_at dksX8_init_0 7 rfl rfl)
theorem dX8_init_10 : decode cX8_init 10 = .ok (.aload_n 0, 1) := dk_42 (dk_at dksX8_init_0 10 rfl rfl)
theorem dX8_init_11 : decode cX8_init 11 = .ok (.iload_n 2, 1) := dk_28 (dk_at dksX8_init_0 11 rfl rfl)
theorem dX8_init_12 : decode cX8_init 12 = .ok (.putfield 13, 3) := dk_181 0 13 (dk_at dksX8_init_0 12 rfl rfl)
theorem dX8_init_15 : decode cX8_init 15 = .ok (.aload_n 0, 1) := dk_42 (dk_at dksX8_init_0 15 rfl rfl)
theorem dX8_init_16 : decode cX8_init 16 = .ok (.aload_n 3, 1) := dk_45 (dk_at dksX8_init_0 16 rfl rfl)
theorem dX8_init_17 : decode cX8_init 17 = .ok (.putfield 17, 3) := dk_181 0 17 (dk_at dksX8_init_0 17 rfl rfl)
theorem dX8_init_20 : decode cX8_init 20 = .ok (.aload_n 0, 1) := dk_42 (dk_at dksX8_init_0 20 rfl rfl)
theorem dX8_init_21 : decode cX8_init 21 = .ok (.aload 4, 2) := dk_25 4 (dk_at dksX8_init_0 21 rfl rfl)
theorem dX8_init_23 : decode cX8_init 23 = .ok (.putfield 21, 3) := dk_181 0 21 (dk_at dksX8_init_1 0 rfl rfl)
theorem dX8_init_26 : decode cX8_init 26 = .ok (.return_, 1) := dk_177 (dk_at dksX8_init_1 3 rfl rfl)
abbrev cX8_value : ByteArray := prog_2_method_2_code
def yX8_value : MethodName := ⟨RX8, "value", "()I"⟩
def dkwX8_value_4 : List UInt8 := [160, 0, 7, 4, 167, 0, 4, 3, 172]
abbrev dktX8_value_4 : List UInt8 := dkwX8_value_4 ++ []
def dkwX8_value_3 : List UInt8 := [27, 28, 162, 0, 7, 4, 167, 0, 4, 3, 172, 27, 28, 164, 0, 7, 4, 167, 0, 4, 3, 172, 27, 28]
abbrev dktX8_value_3 : List UInt8 := dkwX8_value_3 ++ dktX8_value_4
def dkwX8_value_2 : List UInt8 := [27, 28, 96, 172, 27, 28, 100, 172, 27, 28, 104, 172, 28, 154, 0, 7, 3, 167, 0, 6, 27, 28, 108, 172]
abbrev dktX8_value_2 : List UInt8 := dkwX8_value_2 ++ dktX8_value_3
def dkwX8_value_1 : List UInt8 := [171, 0, 0, 0, 0, 0, 0, 106, 0, 0, 0, 6, 0, 0, 0, 42, 0, 0, 0, 68, 0, 0, 0, 43, 0, 0, 0, 60, 0, 0, 0, 45, 0, 0, 0, 64, 0, 0, 0, 47, 0, 0, 0, 72, 0, 0, 0, 60, 0, 0, 0, 84, 0, 0, 0, 62, 0, 0, 0, 95]
abbrev dktX8_value_1 : List UInt8 := dkwX8_value_1 ++ dktX8_value_2
def dkwX8_value_0 : List UInt8 := [42, 180, 0, 17, 182, 0, 24, 60, 42, 180, 0, 21, 182, 0, 24, 61, 42, 180, 0, 13]
abbrev dktX8_value_0 : List UInt8 := dkwX8_value_0 ++ dktX8_value_1
theorem dksX8_value_0 : cX8_value.data.toList.drop 0 = dktX8_value_0 := by decide +kernel
theorem dksX8_value_1 : cX8_value.data.toList.drop 20 = dktX8_value_1 := dk_seg dksX8_value_0 20 rfl rfl
theorem dksX8_value_2 : cX8_value.data.toList.drop 80 = dktX8_value_2 := dk_seg dksX8_value_1 60 rfl rfl
theorem dksX8_value_3 : cX8_value.data.toList.drop 104 = dktX8_value_3 := dk_seg dksX8_value_2 24 rfl rfl
theorem dksX8_value_4 : cX8_value.data.toList.drop 128 = dktX8_value_4 := dk_seg dksX8_value_3 24 rfl rfl
theorem dX8_value_0 : decode cX8_value 0 = .ok (.aload_n 0, 1) := dk_42 (dk_at dksX8_value_0 0 rfl rfl)
theorem dX8_value_1 : decode cX8_value 1 = .ok (.getfield 17, 3) := dk_180 0 17 (dk_at dksX8_value_0 1 rfl rfl)
theorem dX8_value_4 : decode cX8_value 4 = .ok (.invokevirtual 24, 3) := dk_182 0 24 (dk_at dksX8_value_0 4 rfl rfl)
theorem dX8_value_7 : decode cX8_value 7 = .ok (.istore_n 1, 1) := dk_60 (dk_at dksX8_value_0 7 rfl rfl)
theorem dX8_value_8 : decode cX8_value 8 = .ok (.aload_n 0, 1) := dk_42 (dk_at dksX8_value_0 8 rfl rfl)
theorem dX8_value_9 : decode cX8_value 9 = .ok (.getfield 21, 3) := dk_180 0 21 (dk_at dksX8_value_0 9 rfl rfl)
theorem dX8_value_12 : decode cX8_value 12 = .ok (.invokevirtual 24, 3) := dk_182 0 24 (dk_at dksX8_value_0 12 rfl rfl)
theorem dX8_value_15 : decode cX8_value 15 = .ok (.istore_n 2, 1) := dk_61 (dk_at dksX8_value_0 15 rfl rfl)
theorem dX8_value_16 : decode cX8_value 16 = .ok (.aload_n 0, 1) := dk_42 (dk_at dksX8_value_0 16 rfl rfl)
theorem dX8_value_17 : decode cX8_value 17 = .ok (.getfield 13, 3) := dk_180 0 13 (dk_at dksX8_value_0 17 rfl rfl)
theorem dX8_value_20 : decode cX8_value 20 = .ok (.lookupswitch 106 #[(42, 68), (43, 60), (45, 64), (47, 72), (60, 84), (62, 95)], 60) := by decide +kernel
theorem dX8_value_80 : decode cX8_value 80 = .ok (.iload_n 1, 1) := dk_27 (dk_at dksX8_value_2 0 rfl rfl)
theorem dX8_value_81 : decode cX8_value 81 = .ok (.iload_n 2, 1) := dk_28 (dk_at dksX8_value_2 1 rfl rfl)
theorem dX8_value_82 : decode cX8_value 82 = .ok (.iadd, 1) := dk_96 (dk_at dksX8_value_2 2 rfl rfl)
theorem dX8_value_83 : decode cX8_value 83 = .ok (.ireturn, 1) := dk_172 (dk_at dksX8_value_2 3 rfl rfl)
theorem dX8_value_84 : decode cX8_value 84 = .ok (.iload_n 1, 1) := dk_27 (dk_at dksX8_value_2 4 rfl rfl)
theorem dX8_value_85 : decode cX8_value 85 = .ok (.iload_n 2, 1) := dk_28 (dk_at dksX8_value_2 5 rfl rfl)
theorem dX8_value_86 : decode cX8_value 86 = .ok (.isub, 1) := dk_100 (dk_at dksX8_value_2 6 rfl rfl)
theorem dX8_value_87 : decode cX8_value 87 = .ok (.ireturn, 1) := dk_172 (dk_at dksX8_value_2 7 rfl rfl)
theorem dX8_value_88 : decode cX8_value 88 = .ok (.iload_n 1, 1) := dk_27 (dk_at dksX8_value_2 8 rfl rfl)
theorem dX8_value_89 : decode cX8_value 89 = .ok (.iload_n 2, 1) := dk_28 (dk_at dksX8_value_2 9 rfl rfl)
theorem dX8_value_90 : decode cX8_value 90 = .ok (.imul, 1) := dk_104 (dk_at dksX8_value_2 10 rfl rfl)
theorem dX8_value_91 : decode cX8_value 91 = .ok (.ireturn, 1) := dk_172 (dk_at dksX8_value_2 11 rfl rfl)
theorem dX8_value_92 : decode cX8_value 92 = .ok (.iload_n 2, 1) := dk_28 (dk_at dksX8_value_2 12 rfl rfl)
theorem dX8_value_93 : decode cX8_value 93 = .ok (.ifCond .ne 7, 3) := dk_154 0 7 (dk_at dksX8_value_2 13 rfl rfl)
theorem dX8_value_96 : decode cX8_value 96 = .ok (.iconst 0, 1) := dk_3 (dk_at dksX8_value_2 16 rfl rfl)
theorem dX8_value_97 : decode cX8_value 97 = .ok (.goto 6, 3) := dk_167 0 6 (dk_at dksX8_value_2 17 rfl rfl)
theorem dX8_value_100 : decode cX8_value 100 = .ok (.iload_n 1, 1) := dk_27 (dk_at dksX8_value_2 20 rfl rfl)
theorem dX8_value_101 : decode cX8_value 101 = .ok (.iload_n 2, 1) := dk_28 (dk_at dksX8_value_2 21 rfl rfl)
theorem dX8_value_102 : decode cX8_value 102 = .ok (.idiv, 1) := dk_108 (dk_at dksX8_value_2 22 rfl rfl)
theorem dX8_value_103 : decode cX8_value 103 = .ok (.ireturn, 1) := dk_172 (dk_at dksX8_value_2 23 rfl rfl)
theorem dX8_value_104 : decode cX8_value 104 = .ok (.iload_n 1, 1) := dk_27 (dk_at dksX8_value_3 0 rfl rfl)
theorem dX8_value_105 : decode cX8_value 105 = .ok (.iload_n 2, 1) := dk_28 (dk_at dksX8_value_3 1 rfl rfl)
theorem dX8_value_106 : decode cX8_value 106 = .ok (.if_icmp .ge 7, 3) := dk_162 0 7 (dk_at dksX8_value_3 2 rfl rfl)
theorem dX8_value_109 : decode cX8_value 109 = .ok (.iconst 1, 1) := dk_4 (dk_at dksX8_value_3 5 rfl rfl)
theorem dX8_value_110 : decode cX8_value 110 = .ok (.goto 4, 3) := dk_167 0 4 (dk_at dksX8_value_3 6 rfl rfl)
theorem dX8_value_113 : decode cX8_value 113 = .ok (.iconst 0, 1) := dk_3 (dk_at dksX8_value_3 9 rfl rfl)
theorem dX8_value_114 : decode cX8_value 114 = .ok (.ireturn, 1) := dk_172 (dk_at dksX8_value_3 10 rfl rfl)
theorem dX8_value_115 : decode cX8_value 115 = .ok (.iload_n 1, 1) := dk_27 (dk_at dksX8_value_3 11 rfl rfl)
theorem dX8_value_116 : decode cX8_value 116 = .ok (.iload_n 2, 1) := dk_28 (dk_at dksX8_value_3 12 rfl rfl)
theorem dX8_value_117 : decode cX8_value 117 = .ok (.if_icmp .le 7, 3) := dk_164 0 7 (dk_at dksX8_value_3 13 rfl rfl)
theorem dX8_value_120 : decode cX8_value 120 = .ok (.iconst 1, 1) := dk_4 (dk_at dksX8_value_3 16 rfl rfl)
theorem dX8_value_121 : decode cX8_value 121 = .ok (.goto 4, 3) := dk_167 0 4 (dk_at dksX8_value_3 17 rfl rfl)
theorem dX8_value_124 : decode cX8_value 124 = .ok (.iconst 0, 1) := dk_3 (dk_at dksX8_value_3 20 rfl rfl)
theorem dX8_value_125 : decode cX8_value 125 = .ok (.ireturn, 1) := dk_172 (dk_at dksX8_value_3 21 rfl rfl)
theorem dX8_value_126 : decode cX8_value 126 = .ok (.iload_n 1, 1) := dk_27 (dk_at dksX8_value_3 22 rfl rfl)
theorem dX8_value_127 : decode cX8_value 127 = .ok (.iload_n 2, 1) := dk_28 (dk_at dksX8_value_3 23 rfl rfl)
theorem dX8_value_128 : decode cX8_value 128 = .ok (.if_icmp .ne 7, 3) := dk_160 0 7 (dk_at dksX8_value_4 0 rfl rfl)
theorem dX8_value_131 : decode cX8_value 131 = .ok (.iconst 1, 1) := dk_4 (dk_at dksX8_value_4 3 rfl rfl)
theorem dX8_value_132 : decode cX8_value 132 = .ok (.goto 4, 3) := dk_167 0 4 (dk_at dksX8_value_4 4 rfl rfl)
theorem dX8_value_135 : decode cX8_value 135 = .ok (.iconst 0, 1) := dk_3 (dk_at dksX8_value_4 7 rfl rfl)
theorem dX8_value_136 : decode cX8_value 136 = .ok (.ireturn, 1) := dk_172 (dk_at dksX8_value_4 8 rfl rfl)
theorem q120 : (Jvm.Cond.initialized "RockingHorse$Act") ∈ lw_all := lw_g (lw_at lw_m1 14 rfl) rfl
theorem q553 : (Jvm.Cond.instantiable "RockingHorse$Act" (5 : Nat)) ∈ lw_all := lw_g (lw_at lw_m2 207 rfl) rfl
theorem q555 : (Jvm.Cond.instanceMethod ({ cls := "RockingHorse$Act", name := "<init>", desc := "(LRockingHorse;CLRockingHorse$Node;LRockingHorse$Node;)V" } : Jvm.MethodName)) ∈ lw_all := lw_g (lw_at lw_m2 209 rfl) rfl
theorem q556 : (Jvm.Cond.code ({ cls := "RockingHorse$Act", name := "<init>", desc := "(LRockingHorse;CLRockingHorse$Node;LRockingHorse$Node;)V" } : Jvm.MethodName) prog_2_method_1_code (5 : Nat) (Option.none : Option Jvm.ClassFile.FieldType)) ∈ lw_all := lw_g (lw_at lw_m2 210 rfl) rfl
theorem q557 : (Jvm.Cond.methodLinkNest "RockingHorse$Act" (7 : Nat) ({ cls := "RockingHorse$Node", name := "<init>", desc := "(LRockingHorse;)V" } : Jvm.MethodName) "RockingHorse") ∈ lw_tbl := lw_at lw_m2 211 rfl
theorem q558 : (Jvm.Cond.fieldLink "RockingHorse$Act" (13 : Nat) "RockingHorse$Act" "sign" "C") ∈ lw_all := lw_g (lw_at lw_m2 212 rfl) rfl
theorem q559 : (Jvm.Cond.fieldLink "RockingHorse$Act" (17 : Nat) "RockingHorse$Act" "left" "LRockingHorse$Node;") ∈ lw_all := lw_g (lw_at lw_m2 213 rfl) rfl
theorem q560 : (Jvm.Cond.fieldLink "RockingHorse$Act" (21 : Nat) "RockingHorse$Act" "right" "LRockingHorse$Node;") ∈ lw_all := lw_g (lw_at lw_m2 214 rfl) rfl
theorem q561 : (Jvm.Cond.fieldLink "RockingHorse$Act" (1 : Nat) "RockingHorse$Act" "this$0" "LRockingHorse;") ∈ lw_all := lw_g (lw_at lw_m2 215 rfl) rfl
theorem q562 : (Jvm.Cond.laysFinal "RockingHorse$Act" "RockingHorse$Act" "sign" "C") ∈ lw_all := lw_g (lw_at lw_m2 216 rfl) rfl
theorem q563 : (Jvm.Cond.soleField "RockingHorse$Act" "sign") ∈ lw_all := lw_g (lw_at lw_m2 217 rfl) rfl
theorem q564 : (Jvm.Cond.laysFinal "RockingHorse$Act" "RockingHorse$Act" "left" "LRockingHorse$Node;") ∈ lw_all := lw_g (lw_at lw_m2 218 rfl) rfl
theorem q565 : (Jvm.Cond.soleField "RockingHorse$Act" "left") ∈ lw_all := lw_g (lw_at lw_m2 219 rfl) rfl
theorem q566 : (Jvm.Cond.laysFinal "RockingHorse$Act" "RockingHorse$Act" "right" "LRockingHorse$Node;") ∈ lw_all := lw_g (lw_at lw_m2 220 rfl) rfl
theorem q567 : (Jvm.Cond.soleField "RockingHorse$Act" "right") ∈ lw_all := lw_g (lw_at lw_m2 221 rfl) rfl
theorem q568 : (Jvm.Cond.laysFinal "RockingHorse$Act" "RockingHorse$Act" "this$0" "LRockingHorse;") ∈ lw_all := lw_g (lw_at lw_m2 222 rfl) rfl
theorem q569 : (Jvm.Cond.soleField "RockingHorse$Act" "this$0") ∈ lw_all := lw_g (lw_at lw_m2 223 rfl) rfl
theorem q570 : (Jvm.Cond.laysFinal "RockingHorse$Act" "RockingHorse$Node" "this$0" "LRockingHorse;") ∈ lw_all := lw_g (lw_at lw_m2 224 rfl) rfl
theorem q571 : (Jvm.Cond.superclass "RockingHorse$Act" "RockingHorse$Node") ∈ lw_all := lw_g (lw_at lw_m2 225 rfl) rfl
theorem q588 : (Jvm.Cond.selects "RockingHorse$Act" ({ cls := "RockingHorse$Node", name := "value", desc := "()I" } : Jvm.MethodName) ({ cls := "RockingHorse$Act", name := "value", desc := "()I" } : Jvm.MethodName)) ∈ lw_all := lw_g (lw_at lw_m3 2 rfl) rfl
theorem q589 : (Jvm.Cond.instanceMethod ({ cls := "RockingHorse$Act", name := "value", desc := "()I" } : Jvm.MethodName)) ∈ lw_all := lw_g (lw_at lw_m3 3 rfl) rfl
theorem q590 : (Jvm.Cond.code ({ cls := "RockingHorse$Act", name := "value", desc := "()I" } : Jvm.MethodName) prog_2_method_2_code (3 : Nat) (Option.some Jvm.ClassFile.FieldType.int)) ∈ lw_all := lw_g (lw_at lw_m3 4 rfl) rfl
theorem q591 : (Jvm.Cond.methodLink "RockingHorse$Act" (24 : Nat) ({ cls := "RockingHorse$Node", name := "value", desc := "()I" } : Jvm.MethodName)) ∈ lw_all := lw_g (lw_at lw_m3 5 rfl) rfl
theorem q1683 : (Jvm.Cond.castable "RockingHorse$Act" "java/lang/Object") ∈ lw_tbl := lw_at lw_m7 137 rfl
theorem in_X8 : ∀ w ∈ wsX80, w ∈ lw_all := lw_in wsX80 [570, 562, 564, 566, 568] (by decide +kernel) (by decide +kernel)
