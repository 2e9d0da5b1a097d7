theorem q168 : (Jvm.Cond.arrayClass Jvm.ClassFile.FieldType.int) ∈ lw_all := lw_g (lw_at lw_m1 62 rfl) rfl
set_option maxRecDepth 100000
theorem q169 : (Jvm.Cond.arrayOver (Jvm.ClassFile.FieldType.object "RockingHorse$Horse")) ∈ lw_tbl := lw_at lw_m1 63 rfl
theorem q337 : (Jvm.Cond.arrayClass Jvm.ClassFile.FieldType.long) ∈ lw_all := lw_g (lw_at lw_m1 231 rfl) rfl
theorem q471 : (Jvm.Cond.arrayClass Jvm.ClassFile.FieldType.byte) ∈ lw_all := lw_g (lw_at lw_m2 125 rfl) rfl
theorem q1210 : (Jvm.Cond.arrayClass Jvm.ClassFile.FieldType.boolean) ∈ lw_all := lw_g (lw_at lw_m5 144 rfl) rfl
