/-! RockingHorse$Less -/
set_option maxRecDepth 100000
def RX5 : String := "RockingHorse$Less"
def TX5 : u_T := fun k => match k with
  | 0 => ("RockingHorse$Node", "this$0", "LRockingHorse;", true)
  | 1 => ("RockingHorse$Less", "its", "LRockingHorse$Node;", true)
  | _ => ("RockingHorse$Less", "this$0", "LRockingHorse;", true)
def tyX5 : Nat → FieldType := fun k => match k with
  | 0 => .object "RockingHorse"
  | 1 => .object "RockingHorse$Node"
  | _ => .object "RockingHorse"
abbrev wsX50 : List Cond := u_ws RX5 TX5 3
-- two fields of one name: no nmX5
theorem tyX5_ok : ∀ k, k < 3 → parseFieldDescriptor (TX5 k).2.2.1 = some (tyX5 k) := by decide +kernel
abbrev cX5_init : ByteArray := prog_4_method_1_code
def yX5_init : MethodName := ⟨RX5, "<init>", "(LRockingHorse;LRockingHorse$Node;)V"⟩
def dkwX5_init_0 : List UInt8 := [42, 43, 181, 0, 1, 42, 43, 183, 0, 7, 42, 44, 181, 0, 13, 177]
abbrev dktX5_init_0 : List UInt8 := dkwX5_init_0 ++ []
theorem dksX5_init_0 : cX5_init.data.toList.drop 0 = dktX5_init_0 := by decide +kernel
theorem dX5_init_0 : decode cX5_init 0 = .ok (.aload_n 0, 1) := dk_42 (dk_at dksX5_init_0 0 rfl rfl)
theorem dX5_init_1 : decode cX5_init 1 = .ok (.aload_n 1, 1) := dk_43 (dk_at dksX5_init_0 1 rfl rfl)
theorem dX5_init_2 : decode cX5_init 2 = .ok (.putfield 1, 3) := dk_181 0 1 (dk_at dksX5_init_0 2 rfl rfl)
theorem dX5_init_5 : decode cX5_init 5 = .ok (.aload_n 0, 1) := dk_42 (dk_at dksX5_init_0 5 rfl rfl)
theorem dX5_init_6 : decode cX5_init 6 = .ok (.aload_n 1, 1) := dk_43 (dk_at dksX5_init_0 6 rfl rfl)
theorem dX5_init_7 : decode cX5_init 7 = .ok (.invokespecial 7, 3) := dk_183 0 7 (dk_at dksX5_init_0 7 rfl rfl)
theorem dX5_init_10 : decode cX5_init 10 = .ok (.aload_n 0, 1) := dk_42 (dk_at dksX5_init_0 10 rfl rfl)
theorem dX5_init_11 : decode cX5_init 11 = .ok (.aload_n 2, 1) := dk_44 (dk_at dksX5_init_0 11 rfl rfl)
theorem dX5_init_12 : decode cX5_init 12 = .ok (.putfield 13, 3) := dk_181 0 13 (dk_at dksX5_init_0 12 rfl rfl)
theorem dX5_init_15 : decode cX5_init 15 = .ok (.return_, 1) := dk_177 (dk_at dksX5_init_0 15 rfl rfl)
abbrev cX5_value : ByteArray := prog_4_method_2_code
def yX5_value : MethodName := ⟨RX5, "value", "()I"⟩
def dkwX5_value_0 : List UInt8 := [42, 180, 0, 13, 182, 0, 17, 116, 172]
abbrev dktX5_value_0 : List UInt8 := dkwX5_value_0 ++ []
theorem dksX5_value_0 : cX5_value.data.toList.drop 0 = dktX5_value_0 := by decide +kernel
theorem dX5_value_0 : decode cX5_value 0 = .ok (.aload_n 0, 1) := dk_42 (dk_at dksX5_value_0 0 rfl rfl)
theorem dX5_value_1 : decode cX5_value 1 = .ok (.getfield 13, 3) := dk_180 0 13 (dk_at dksX5_value_0 1 rfl rfl)
theorem dX5_value_4 : decode cX5_value 4 = .ok (.invokevirtual 17, 3) := dk_182 0 17 (dk_at dksX5_value_0 4 rfl rfl)
theorem dX5_value_7 : decode cX5_value 7 = .ok (.ineg, 1) := dk_116 (dk_at dksX5_value_0 7 rfl rfl)
theorem dX5_value_8 : decode cX5_value 8 = .ok (.ireturn, 1) := dk_172 (dk_at dksX5_value_0 8 rfl rfl)
theorem q117 : (Jvm.Cond.initialized "RockingHorse$Less") ∈ lw_all := lw_g (lw_at lw_m1 11 rfl) rfl
theorem q489 : (Jvm.Cond.instantiable "RockingHorse$Less" (3 : Nat)) ∈ lw_all := lw_g (lw_at lw_m2 143 rfl) rfl
theorem q491 : (Jvm.Cond.instanceMethod ({ cls := "RockingHorse$Less", name := "<init>", desc := "(LRockingHorse;LRockingHorse$Node;)V" } : Jvm.MethodName)) ∈ lw_all := lw_g (lw_at lw_m2 145 rfl) rfl
theorem q492 : (Jvm.Cond.code ({ cls := "RockingHorse$Less", name := "<init>", desc := "(LRockingHorse;LRockingHorse$Node;)V" } : Jvm.MethodName) prog_4_method_1_code (3 : Nat) (Option.none : Option Jvm.ClassFile.FieldType)) ∈ lw_all := lw_g (lw_at lw_m2 146 rfl) rfl
theorem q493 : (Jvm.Cond.methodLinkNest "RockingHorse$Less" (7 : Nat) ({ cls := "RockingHorse$Node", name := "<init>", desc := "(LRockingHorse;)V" } : Jvm.MethodName) "RockingHorse") ∈ lw_tbl := lw_at lw_m2 147 rfl
theorem q497 : (Jvm.Cond.fieldLink "RockingHorse$Less" (13 : Nat) "RockingHorse$Less" "its" "LRockingHorse$Node;") ∈ lw_all := lw_g (lw_at lw_m2 151 rfl) rfl
theorem q498 : (Jvm.Cond.fieldLink "RockingHorse$Less" (1 : Nat) "RockingHorse$Less" "this$0" "LRockingHorse;") ∈ lw_all := lw_g (lw_at lw_m2 152 rfl) rfl
theorem q500 : (Jvm.Cond.laysFinal "RockingHorse$Less" "RockingHorse$Less" "its" "LRockingHorse$Node;") ∈ lw_all := lw_g (lw_at lw_m2 154 rfl) rfl
theorem q501 : (Jvm.Cond.soleField "RockingHorse$Less" "its") ∈ lw_all := lw_g (lw_at lw_m2 155 rfl) rfl
theorem q502 : (Jvm.Cond.laysFinal "RockingHorse$Less" "RockingHorse$Less" "this$0" "LRockingHorse;") ∈ lw_all := lw_g (lw_at lw_m2 156 rfl) rfl
theorem q503 : (Jvm.Cond.soleField "RockingHorse$Less" "this$0") ∈ lw_all := lw_g (lw_at lw_m2 157 rfl) rfl
theorem q504 : (Jvm.Cond.laysFinal "RockingHorse$Less" "RockingHorse$Node" "this$0" "LRockingHorse;") ∈ lw_all := lw_g (lw_at lw_m2 158 rfl) rfl
theorem q506 : (Jvm.Cond.superclass "RockingHorse$Less" "RockingHorse$Node") ∈ lw_all := lw_g (lw_at lw_m2 160 rfl) rfl
theorem q592 : (Jvm.Cond.instanceMethod ({ cls := "RockingHorse$Less", name := "value", desc := "()I" } : Jvm.MethodName)) ∈ lw_all := lw_g (lw_at lw_m3 6 rfl) rfl
theorem q593 : (Jvm.Cond.code ({ cls := "RockingHorse$Less", name := "value", desc := "()I" } : Jvm.MethodName) prog_4_method_2_code (1 : Nat) (Option.some Jvm.ClassFile.FieldType.int)) ∈ lw_all := lw_g (lw_at lw_m3 7 rfl) rfl
theorem q594 : (Jvm.Cond.methodLink "RockingHorse$Less" (17 : Nat) ({ cls := "RockingHorse$Node", name := "value", desc := "()I" } : Jvm.MethodName)) ∈ lw_all := lw_g (lw_at lw_m3 8 rfl) rfl
theorem q605 : (Jvm.Cond.selects "RockingHorse$Less" ({ cls := "RockingHorse$Node", name := "value", desc := "()I" } : Jvm.MethodName) ({ cls := "RockingHorse$Less", name := "value", desc := "()I" } : Jvm.MethodName)) ∈ lw_all := lw_g (lw_at lw_m3 19 rfl) rfl
theorem q1680 : (Jvm.Cond.castable "RockingHorse$Less" "java/lang/Object") ∈ lw_tbl := lw_at lw_m7 134 rfl
theorem in_X5 : ∀ w ∈ wsX50, w ∈ lw_all := lw_in wsX50 [504, 500, 502] (by decide +kernel) (by decide +kernel)
