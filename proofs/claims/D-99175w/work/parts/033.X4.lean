/-! RockingHorse$Node -/
set_option maxRecDepth 100000
def RX4 : String := "RockingHorse$Node"
abbrev cX4_init : ByteArray := prog_5_method_1_code
def yX4_init : MethodName := ⟨RX4, "<init>", "(LRockingHorse;)V"⟩
def dkwX4_init_0 : List UInt8 := [42, 43, 181, 0, 1, 42, 183, 0, 7, 177]
abbrev dktX4_init_0 : List UInt8 := dkwX4_init_0 ++ []
theorem dksX4_init_0 : cX4_init.data.toList.drop 0 = dktX4_init_0 := by decide +kernel
theorem dX4_init_0 : decode cX4_init 0 = .ok (.aload_n 0, 1) := dk_42 (dk_at dksX4_init_0 0 rfl rfl)
theorem dX4_init_1 : decode cX4_init 1 = .ok (.aload_n 1, 1) := dk_43 (dk_at dksX4_init_0 1 rfl rfl)
theorem dX4_init_2 : decode cX4_init 2 = .ok (.putfield 1, 3) := dk_181 0 1 (dk_at dksX4_init_0 2 rfl rfl)
theorem dX4_init_5 : decode cX4_init 5 = .ok (.aload_n 0, 1) := dk_42 (dk_at dksX4_init_0 5 rfl rfl)
theorem dX4_init_6 : decode cX4_init 6 = .ok (.invokespecial 7, 3) := dk_183 0 7 (dk_at dksX4_init_0 6 rfl rfl)
theorem dX4_init_9 : decode cX4_init 9 = .ok (.return_, 1) := dk_177 (dk_at dksX4_init_0 9 rfl rfl)
theorem q116 : (Jvm.Cond.initialized "RockingHorse$Node") ∈ lw_all := lw_g (lw_at lw_m1 10 rfl) rfl
theorem q494 : (Jvm.Cond.instanceMethod ({ cls := "RockingHorse$Node", name := "<init>", desc := "(LRockingHorse;)V" } : Jvm.MethodName)) ∈ lw_all := lw_g (lw_at lw_m2 148 rfl) rfl
theorem q495 : (Jvm.Cond.code ({ cls := "RockingHorse$Node", name := "<init>", desc := "(LRockingHorse;)V" } : Jvm.MethodName) prog_5_method_1_code (2 : Nat) (Option.none : Option Jvm.ClassFile.FieldType)) ∈ lw_all := lw_g (lw_at lw_m2 149 rfl) rfl
theorem q496 : (Jvm.Cond.methodLink "RockingHorse$Node" (7 : Nat) ({ cls := "java/lang/Object", name := "<init>", desc := "()V" } : Jvm.MethodName)) ∈ lw_all := lw_g (lw_at lw_m2 150 rfl) rfl
theorem q499 : (Jvm.Cond.fieldLink "RockingHorse$Node" (1 : Nat) "RockingHorse$Node" "this$0" "LRockingHorse;") ∈ lw_all := lw_g (lw_at lw_m2 153 rfl) rfl
theorem q505 : (Jvm.Cond.soleField "RockingHorse$Node" "this$0") ∈ lw_all := lw_g (lw_at lw_m2 159 rfl) rfl
theorem q586 : (Jvm.Cond.declares ({ cls := "RockingHorse$Node", name := "value", desc := "()I" } : Jvm.MethodName)) ∈ lw_tbl := lw_at lw_m3 0 rfl
theorem q587 : (Jvm.Cond.sameMethod "RockingHorse$Node" "RockingHorse$Node" "value" "()I") ∈ lw_all := lw_g (lw_at lw_m3 1 rfl) rfl
