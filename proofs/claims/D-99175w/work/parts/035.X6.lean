/-! RockingHorse$Number -/
set_option maxRecDepth 100000
def RX6 : String := "RockingHorse$Number"
def TX6 : u_T := fun k => match k with
  | 0 => ("RockingHorse$Node", "this$0", "LRockingHorse;", true)
  | 1 => ("RockingHorse$Number", "v", "I", true)
  | _ => ("RockingHorse$Number", "this$0", "LRockingHorse;", true)
def tyX6 : Nat → FieldType := fun k => match k with
  | 0 => .object "RockingHorse"
  | 1 => .int
  | _ => .object "RockingHorse"
abbrev wsX60 : List Cond := u_ws RX6 TX6 3
-- two fields of one name: no nmX6
theorem tyX6_ok : ∀ k, k < 3 → parseFieldDescriptor (TX6 k).2.2.1 = some (tyX6 k) := by decide +kernel
abbrev cX6_init : ByteArray := prog_6_method_1_code
def yX6_init : MethodName := ⟨RX6, "<init>", "(LRockingHorse;I)V"⟩
def dkwX6_init_0 : List UInt8 := [42, 43, 181, 0, 1, 42, 43, 183, 0, 7, 42, 28, 181, 0, 13, 177]
abbrev dktX6_init_0 : List UInt8 := dkwX6_init_0 ++ []
theorem dksX6_init_0 : cX6_init.data.toList.drop 0 = dktX6_init_0 := by decide +kernel
theorem dX6_init_0 : decode cX6_init 0 = .ok (.aload_n 0, 1) := dk_42 (dk_at dksX6_init_0 0 rfl rfl)
theorem dX6_init_1 : decode cX6_init 1 = .ok (.aload_n 1, 1) := dk_43 (dk_at dksX6_init_0 1 rfl rfl)
theorem dX6_init_2 : decode cX6_init 2 = .ok (.putfield 1, 3) := dk_181 0 1 (dk_at dksX6_init_0 2 rfl rfl)
theorem dX6_init_5 : decode cX6_init 5 = .ok (.aload_n 0, 1) := dk_42 (dk_at dksX6_init_0 5 rfl rfl)
theorem dX6_init_6 : decode cX6_init 6 = .ok (.aload_n 1, 1) := dk_43 (dk_at dksX6_init_0 6 rfl rfl)
theorem dX6_init_7 : decode cX6_init 7 = .ok (.invokespecial 7, 3) := dk_183 0 7 (dk_at dksX6_init_0 7 rfl rfl)
theorem dX6_init_10 : decode cX6_init 10 = .ok (.aload_n 0, 1) := dk_42 (dk_at dksX6_init_0 10 rfl rfl)
theorem dX6_init_11 : decode cX6_init 11 = .ok (.iload_n 2, 1) := dk_28 (dk_at dksX6_init_0 11 rfl rfl)
theorem dX6_init_12 : decode cX6_init 12 = .ok (.putfield 13, 3) := dk_181 0 13 (dk_at dksX6_init_0 12 rfl rfl)
theorem dX6_init_15 : decode cX6_init 15 = .ok (.return_, 1) := dk_177 (dk_at dksX6_init_0 15 rfl rfl)
abbrev cX6_value : ByteArray := prog_6_method_2_code
def yX6_value : MethodName := ⟨RX6, "value", "()I"⟩
theorem dX6_value_0 : decode cX6_value 0 = .ok (.aload_n 0, 1) := by decide +kernel
theorem dX6_value_1 : decode cX6_value 1 = .ok (.getfield 13, 3) := by decide +kernel
theorem dX6_value_4 : decode cX6_value 4 = .ok (.ireturn, 1) := by decide +kernel
theorem q118 : (Jvm.Cond.initialized "RockingHorse$Number") ∈ lw_all := lw_g (lw_at lw_m1 12 rfl) rfl
theorem q514 : (Jvm.Cond.instantiable "RockingHorse$Number" (3 : Nat)) ∈ lw_all := lw_g (lw_at lw_m2 168 rfl) rfl
theorem q520 : (Jvm.Cond.instanceMethod ({ cls := "RockingHorse$Number", name := "<init>", desc := "(LRockingHorse;I)V" } : Jvm.MethodName)) ∈ lw_all := lw_g (lw_at lw_m2 174 rfl) rfl
theorem q521 : (Jvm.Cond.code ({ cls := "RockingHorse$Number", name := "<init>", desc := "(LRockingHorse;I)V" } : Jvm.MethodName) prog_6_method_1_code (3 : Nat) (Option.none : Option Jvm.ClassFile.FieldType)) ∈ lw_all := lw_g (lw_at lw_m2 175 rfl) rfl
theorem q522 : (Jvm.Cond.methodLinkNest "RockingHorse$Number" (7 : Nat) ({ cls := "RockingHorse$Node", name := "<init>", desc := "(LRockingHorse;)V" } : Jvm.MethodName) "RockingHorse") ∈ lw_tbl := lw_at lw_m2 176 rfl
theorem q523 : (Jvm.Cond.fieldLink "RockingHorse$Number" (13 : Nat) "RockingHorse$Number" "v" "I") ∈ lw_all := lw_g (lw_at lw_m2 177 rfl) rfl
theorem q524 : (Jvm.Cond.fieldLink "RockingHorse$Number" (1 : Nat) "RockingHorse$Number" "this$0" "LRockingHorse;") ∈ lw_all := lw_g (lw_at lw_m2 178 rfl) rfl
theorem q525 : (Jvm.Cond.laysFinal "RockingHorse$Number" "RockingHorse$Number" "v" "I") ∈ lw_all := lw_g (lw_at lw_m2 179 rfl) rfl
theorem q526 : (Jvm.Cond.soleField "RockingHorse$Number" "v") ∈ lw_all := lw_g (lw_at lw_m2 180 rfl) rfl
theorem q527 : (Jvm.Cond.laysFinal "RockingHorse$Number" "RockingHorse$Number" "this$0" "LRockingHorse;") ∈ lw_all := lw_g (lw_at lw_m2 181 rfl) rfl
theorem q528 : (Jvm.Cond.soleField "RockingHorse$Number" "this$0") ∈ lw_all := lw_g (lw_at lw_m2 182 rfl) rfl
theorem q529 : (Jvm.Cond.laysFinal "RockingHorse$Number" "RockingHorse$Node" "this$0" "LRockingHorse;") ∈ lw_all := lw_g (lw_at lw_m2 183 rfl) rfl
theorem q530 : (Jvm.Cond.superclass "RockingHorse$Number" "RockingHorse$Node") ∈ lw_all := lw_g (lw_at lw_m2 184 rfl) rfl
theorem q595 : (Jvm.Cond.instanceMethod ({ cls := "RockingHorse$Number", name := "value", desc := "()I" } : Jvm.MethodName)) ∈ lw_all := lw_g (lw_at lw_m3 9 rfl) rfl
theorem q596 : (Jvm.Cond.code ({ cls := "RockingHorse$Number", name := "value", desc := "()I" } : Jvm.MethodName) prog_6_method_2_code (1 : Nat) (Option.some Jvm.ClassFile.FieldType.int)) ∈ lw_all := lw_g (lw_at lw_m3 10 rfl) rfl
theorem q606 : (Jvm.Cond.selects "RockingHorse$Number" ({ cls := "RockingHorse$Node", name := "value", desc := "()I" } : Jvm.MethodName) ({ cls := "RockingHorse$Number", name := "value", desc := "()I" } : Jvm.MethodName)) ∈ lw_all := lw_g (lw_at lw_m3 20 rfl) rfl
theorem q1681 : (Jvm.Cond.castable "RockingHorse$Number" "java/lang/Object") ∈ lw_tbl := lw_at lw_m7 135 rfl
theorem in_X6 : ∀ w ∈ wsX60, w ∈ lw_all := lw_in wsX60 [529, 525, 527] (by decide +kernel) (by decide +kernel)
