/-! RockingHorse$Horse -/
set_option maxRecDepth 100000
def RX2 : String := "RockingHorse$Horse"
def TX2 : u_T := fun k => match k with
  | 0 => ("RockingHorse$Horse", "rota", "[I", true)
  | 1 => ("RockingHorse$Horse", "tired", "[I", true)
  | 2 => ("RockingHorse$Horse", "ill", "I", false)
  | 3 => ("RockingHorse$Horse", "night", "I", false)
  | 4 => ("RockingHorse$Horse", "gaps", "I", false)
  | _ => ("RockingHorse$Horse", "ridden", "I", false)
def tyX2 : Nat → FieldType := fun k => match k with
  | 0 => .array .int
  | 1 => .array .int
  | 2 => .int
  | 3 => .int
  | 4 => .int
  | _ => .int
abbrev wsX20 : List Cond := u_ws RX2 TX2 6
theorem nmX2 : ∀ a, a < 6 → ∀ b, b < 6 → a ≠ b → (TX2 a).2.1 ≠ (TX2 b).2.1 := by decide +kernel
theorem tyX2_ok : ∀ k, k < 6 → parseFieldDescriptor (TX2 k).2.2.1 = some (tyX2 k) := by decide +kernel
abbrev cX2_init : ByteArray := prog_3_method_1_code
def yX2_init : MethodName := ⟨RX2, "<init>", "()V"⟩
def dkwX2_init_2 : List UInt8 := [16, 8, 188, 10, 181, 0, 15, 177]
abbrev dktX2_init_2 : List UInt8 := dkwX2_init_2 ++ []
def dkwX2_init_1 : List UInt8 := [79, 89, 7, 2, 79, 89, 8, 2, 79, 89, 16, 6, 2, 79, 89, 16, 7, 2, 79, 181, 0, 9, 42]
abbrev dktX2_init_1 : List UInt8 := dkwX2_init_1 ++ dktX2_init_2
def dkwX2_init_0 : List UInt8 := [42, 183, 0, 3, 42, 16, 8, 188, 10, 89, 3, 2, 79, 89, 4, 2, 79, 89, 5, 2, 79, 89, 6, 2]
abbrev dktX2_init_0 : List UInt8 := dkwX2_init_0 ++ dktX2_init_1
theorem dksX2_init_0 : cX2_init.data.toList.drop 0 = dktX2_init_0 := by decide +kernel
theorem dksX2_init_1 : cX2_init.data.toList.drop 24 = dktX2_init_1 := dk_seg dksX2_init_0 24 rfl rfl
theorem dksX2_init_2 : cX2_init.data.toList.drop 47 = dktX2_init_2 := dk_seg dksX2_init_1 23 rfl rfl
theorem dX2_init_0 : decode cX2_init 0 = .ok (.aload_n 0, 1) := dk_42 (dk_at dksX2_init_0 0 rfl rfl)
theorem dX2_init_1 : decode cX2_init 1 = .ok (.invokespecial 3, 3) := dk_183 0 3 (dk_at dksX2_init_0 1 rfl rfl)
theorem dX2_init_4 : decode cX2_init 4 = .ok (.aload_n 0, 1) := dk_42 (dk_at dksX2_init_0 4 rfl rfl)
theorem dX2_init_5 : decode cX2_init 5 = .ok (.bipush 8, 2) := dk_16 8 (dk_at dksX2_init_0 5 rfl rfl)
theorem dX2_init_7 : decode cX2_init 7 = .ok (.newarray .int, 2) := dk_188_10 (dk_at dksX2_init_0 7 rfl rfl)
theorem dX2_init_9 : decode cX2_init 9 = .ok (.dup, 1) := dk_89 (dk_at dksX2_init_0 9 rfl rfl)
theorem dX2_init_10 : decode cX2_init 10 = .ok (.iconst 0, 1) := dk_3 (dk_at dksX2_init_0 10 rfl rfl)
theorem dX2_init_11 : decode cX2_init 11 = .ok (.iconst (-1), 1) := dk_2 (dk_at dksX2_init_0 11 rfl rfl)
theorem dX2_init_12 : decode cX2_init 12 = .ok (.iastore, 1) := dk_79 (dk_at dksX2_init_0 12 rfl rfl)
theorem dX2_init_13 : decode cX2_init 13 = .ok (.dup, 1) := dk_89 (dk_at dksX2_init_0 13 rfl rfl)
theorem dX2_init_14 : decode cX2_init 14 = .ok (.iconst 1, 1) := dk_4 (dk_at dksX2_init_0 14 rfl rfl)
theorem dX2_init_15 : decode cX2_init 15 = .ok (.iconst (-1), 1) := dk_2 (dk_at dksX2_init_0 15 rfl rfl)
theorem dX2_init_16 : decode cX2_init 16 = .ok (.iastore, 1) := dk_79 (dk_at dksX2_init_0 16 rfl rfl)
theorem dX2_init_17 : decode cX2_init 17 = .ok (.dup, 1) := dk_89 (dk_at dksX2_init_0 17 rfl rfl)
theorem dX2_init_18 : decode cX2_init 18 = .ok (.iconst 2, 1) := dk_5 (dk_at dksX2_init_0 18 rfl rfl)
theorem dX2_init_19 : decode cX2_init 19 = .ok (.iconst (-1), 1) := dk_2 (dk_at dksX2_init_0 19 rfl rfl)
theorem dX2_init_20 : decode cX2_init 20 = .ok (.iastore, 1) := dk_79 (dk_at dksX2_init_0 20 rfl rfl)
theorem dX2_init_21 : decode cX2_init 21 = .ok (.dup, 1) := dk_89 (dk_at dksX2_init_0 21 rfl rfl)
theorem dX2_init_22 : decode cX2_init 22 = .ok (.iconst 3, 1) := dk_6 (dk_at dksX2_init_0 22 rfl rfl)
theorem dX2_init_23 : decode cX2_init 23 = .ok (.iconst (-1), 1) := dk_2 (dk_at dksX2_init_0 23 rfl rfl)
theorem dX2_init_24 : decode cX2_init 24 = .ok (.iastore, 1) := dk_79 (dk_at dksX2_init_1 0 rfl rfl)
theorem dX2_init_25 : decode cX2_init 25 = .ok (.dup, 1) := dk_89 (dk_at dksX2_init_1 1 rfl rfl)
theorem dX2_init_26 : decode cX2_init 26 = .ok (.iconst 4, 1) := dk_7 (dk_at dksX2_init_1 2 rfl rfl)
theorem dX2_init_27 : decode cX2_init 27 = .ok (.iconst (-1), 1) := dk_2 (dk_at dksX2_init_1 3 rfl rfl)
theorem dX2_init_28 : decode cX2_init 28 = .ok (.iastore, 1) := dk_79 (dk_at dksX2_init_1 4 rfl rfl)
theorem dX2_init_29 : decode cX2_init 29 = .ok (.dup, 1) := dk_89 (dk_at dksX2_init_1 5 rfl rfl)
theorem dX2_init_30 : decode cX2_init 30 = .ok (.iconst 5, 1) := dk_8 (dk_at dksX2_init_1 6 rfl rfl)
theorem dX2_init_31 : decode cX2_init 31 = .ok (.iconst (-1), 1) := dk_2 (dk_at dksX2_init_1 7 rfl rfl)
theorem dX2_init_32 : decode cX2_init 32 = .ok (.iastore, 1) := dk_79 (dk_at dksX2_init_1 8 rfl rfl)
theorem dX2_init_33 : decode cX2_init 33 = .ok (.dup, 1) := dk_89 (dk_at dksX2_init_1 9 rfl rfl)
theorem dX2_init_34 : decode cX2_init 34 = .ok (.bipush 6, 2) := dk_16 6 (dk_at dksX2_init_1 10 rfl rfl)
theorem dX2_init_36 : decode cX2_init 36 = .ok (.iconst (-1), 1) := dk_2 (dk_at dksX2_init_1 12 rfl rfl)
theorem dX2_init_37 : decode cX2_init 37 = .ok (.iastore, 1) := dk_79 (dk_at dksX2_init_1 13 rfl rfl)
theorem dX2_init_38 : decode cX2_init 38 = .ok (.dup, 1) := dk_89 (dk_at dksX2_init_1 14 rfl rfl)
theorem dX2_init_39 : decode cX2_init 39 = .ok (.bipush 7, 2) := dk_16 7 (dk_at dksX2_init_1 15 rfl rfl)
theorem dX2_init_41 : decode cX2_init 41 = .ok (.iconst (-1), 1) := dk_2 (dk_at dksX2_init_1 17 rfl rfl)
theorem dX2_init_42 : decode cX2_init 42 = .ok (.iastore, 1) := dk_79 (dk_at dksX2_init_1 18 rfl rfl)
theorem dX2_init_43 : decode cX2_init 43 = .ok (.putfield 9, 3) := dk_181 0 9 (dk_at dksX2_init_1 19 rfl rfl)
theorem dX2_init_46 : decode cX2_init 46 = .ok (.aload_n 0, 1) := dk_42 (dk_at dksX2_init_1 22 rfl rfl)
theorem dX2_init_47 : decode cX2_init 47 = .ok (.bipush 8, 2) := dk_16 8 (dk_at dksX2_init_2 0 rfl rfl)
theorem dX2_init_49 : decode cX2_init 49 = .ok (.newarray .int, 2) := dk_188_10 (dk_at dksX2_init_2 2 rfl rfl)
theorem dX2_init_51 : decode cX2_init 51 = .ok (.putfield 15, 3) := dk_181 0 15 (dk_at dksX2_init_2 4 rfl rfl)
theorem dX2_init_54 : decode cX2_init 54 = .ok (.return_, 1) := dk_177 (dk_at dksX2_init_2 7 rfl rfl)
abbrev cX2_becomes : ByteArray := prog_3_method_2_code
def yX2_becomes : MethodName := ⟨RX2, "becomes", "(LRockingHorse$Horse;)V"⟩
def dkwX2_becomes_2 : List UInt8 := [180, 0, 31, 181, 0, 31, 42, 43, 180, 0, 34, 181, 0, 34, 177]
abbrev dktX2_becomes_2 : List UInt8 := dkwX2_becomes_2 ++ []
def dkwX2_becomes_1 : List UInt8 := [3, 16, 8, 184, 0, 18, 42, 43, 180, 0, 24, 181, 0, 24, 42, 43, 180, 0, 28, 181, 0, 28, 42, 43]
abbrev dktX2_becomes_1 : List UInt8 := dkwX2_becomes_1 ++ dktX2_becomes_2
def dkwX2_becomes_0 : List UInt8 := [43, 180, 0, 9, 3, 42, 180, 0, 9, 3, 16, 8, 184, 0, 18, 43, 180, 0, 15, 3, 42, 180, 0, 15]
abbrev dktX2_becomes_0 : List UInt8 := dkwX2_becomes_0 ++ dktX2_becomes_1
theorem dksX2_becomes_0 : cX2_becomes.data.toList.drop 0 = dktX2_becomes_0 := by decide +kernel
theorem dksX2_becomes_1 : cX2_becomes.data.toList.drop 24 = dktX2_becomes_1 := dk_seg dksX2_becomes_0 24 rfl rfl
theorem dksX2_becomes_2 : cX2_becomes.data.toList.drop 48 = dktX2_becomes_2 := dk_seg dksX2_becomes_1 24 rfl rfl
theorem dX2_becomes_0 : decode cX2_becomes 0 = .ok (.aload_n 1, 1) := dk_43 (dk_at dksX2_becomes_0 0 rfl rfl)
theorem dX2_becomes_1 : decode cX2_becomes 1 = .ok (.getfield 9, 3) := dk_180 0 9 (dk_at dksX2_becomes_0 1 rfl rfl)
theorem dX2_becomes_4 : decode cX2_becomes 4 = .ok (.iconst 0, 1) := dk_3 (dk_at dksX2_becomes_0 4 rfl rfl)
theorem dX2_becomes_5 : decode cX2_becomes 5 = .ok (.aload_n 0, 1) := dk_42 (dk_at dksX2_becomes_0 5 rfl rfl)
theorem dX2_becomes_6 : decode cX2_becomes 6 = .ok (.getfield 9, 3) := dk_180 0 9 (dk_at dksX2_becomes_0 6 rfl rfl)
theorem dX2_becomes_9 : decode cX2_becomes 9 = .ok (.iconst 0, 1) := dk_3 (dk_at dksX2_becomes_0 9 rfl rfl)
theorem dX2_becomes_10 : decode cX2_becomes 10 = .ok (.bipush 8, 2) := dk_16 8 (dk_at dksX2_becomes_0 10 rfl rfl)
theorem dX2_becomes_12 : decode cX2_becomes 12 = .ok (.invokestatic 18, 3) := dk_184 0 18 (dk_at dksX2_becomes_0 12 rfl rfl)
theorem dX2_becomes_15 : decode cX2_becomes 15 = .ok (.aload_n 1, 1) := dk_43 (dk_at dksX2_becomes_0 15 rfl rfl)
theorem dX2_becomes_16 : decode cX2_becomes 16 = .ok (.getfield 15, 3) := dk_180 0 15 (dk_at dksX2_becomes_0 16 rfl rfl)
theorem dX2_becomes_19 : decode cX2_becomes 19 = .ok (.iconst 0, 1) := dk_3 (dk_at dksX2_becomes_0 19 rfl rfl)
theorem dX2_becomes_20 : decode cX2_becomes 20 = .ok (.aload_n 0, 1) := dk_42 (dk_at dksX2_becomes_0 20 rfl rfl)
theorem dX2_becomes_21 : decode cX2_becomes 21 = .ok (.getfield 15, 3) := dk_180 0 15 (dk_at dksX2_becomes_0 21 rfl rfl)
theorem dX2_becomes_24 : decode cX2_becomes 24 = .ok (.iconst 0, 1) := dk_3 (dk_at dksX2_becomes_1 0 rfl rfl)
theorem dX2_becomes_25 : decode cX2_becomes 25 = .ok (.bipush 8, 2) := dk_16 8 (dk_at dksX2_becomes_1 1 rfl rfl)
theorem dX2_becomes_27 : decode cX2_becomes 27 = .ok (.invokestatic 18, 3) := dk_184 0 18 (dk_at dksX2_becomes_1 3 rfl rfl)
theorem dX2_becomes_30 : decode cX2_becomes 30 = .ok (.aload_n 0, 1) := dk_42 (dk_at dksX2_becomes_1 6 rfl rfl)
theorem dX2_becomes_31 : decode cX2_becomes 31 = .ok (.aload_n 1, 1) := dk_43 (dk_at dksX2_becomes_1 7 rfl rfl)
theorem dX2_becomes_32 : decode cX2_becomes 32 = .ok (.getfield 24, 3) := dk_180 0 24 (dk_at dksX2_becomes_1 8 rfl rfl)
theorem dX2_becomes_35 : decode cX2_becomes 35 = .ok (.putfield 24, 3) := dk_181 0 24 (dk_at dksX2_becomes_1 11 rfl rfl)
theorem dX2_becomes_38 : decode cX2_becomes 38 = .ok (.aload_n 0, 1) := dk_42 (dk_at dksX2_becomes_1 14 rfl rfl)
theorem dX2_becomes_39 : decode cX2_becomes 39 = .ok (.aload_n 1, 1) := dk_43 (dk_at dksX2_becomes_1 15 rfl rfl)
theorem dX2_becomes_40 : decode cX2_becomes 40 = .ok (.getfield 28, 3) := dk_180 0 28 (dk_at dksX2_becomes_1 16 rfl rfl)
theorem dX2_becomes_43 : decode cX2_becomes 43 = .ok (.putfield 28, 3) := dk_181 0 28 (dk_at dksX2_becomes_1 19 rfl rfl)
theorem dX2_becomes_46 : decode cX2_becomes 46 = .ok (.aload_n 0, 1) := dk_42 (dk_at dksX2_becomes_1 22 rfl rfl)
theorem dX2_becomes_47 : decode cX2_becomes 47 = .ok (.aload_n 1, 1) := dk_43 (dk_at dksX2_becomes_1 23 rfl rfl)
theorem dX2_becomes_48 : decode cX2_becomes 48 = .ok (.getfield 31, 3) := dk_180 0 31 (dk_at dksX2_becomes_2 0 rfl rfl)
theorem dX2_becomes_51 : decode cX2_becomes 51 = .ok (.putfield 31, 3) := dk_181 0 31 (dk_at dksX2_becomes_2 3 rfl rfl)
theorem dX2_becomes_54 : decode cX2_becomes 54 = .ok (.aload_n 0, 1) := dk_42 (dk_at dksX2_becomes_2 6 rfl rfl)
theorem dX2_becomes_55 : decode cX2_becomes 55 = .ok (.aload_n 1, 1) := dk_43 (dk_at dksX2_becomes_2 7 rfl rfl)
theorem dX2_becomes_56 : decode cX2_becomes 56 = .ok (.getfield 34, 3) := dk_180 0 34 (dk_at dksX2_becomes_2 8 rfl rfl)
theorem dX2_becomes_59 : decode cX2_becomes 59 = .ok (.putfield 34, 3) := dk_181 0 34 (dk_at dksX2_becomes_2 11 rfl rfl)
theorem dX2_becomes_62 : decode cX2_becomes 62 = .ok (.return_, 1) := dk_177 (dk_at dksX2_becomes_2 14 rfl rfl)
abbrev cX2_hoursOf : ByteArray := prog_3_method_3_code
def yX2_hoursOf : MethodName := ⟨RX2, "hoursOf", "(I)I"⟩
def dkwX2_hoursOf_1 : List UInt8 := [167, 0, 4, 3, 128, 61, 132, 3, 1, 167, 255, 227, 28, 172]
abbrev dktX2_hoursOf_1 : List UInt8 := dkwX2_hoursOf_1 ++ []
def dkwX2_hoursOf_0 : List UInt8 := [3, 61, 3, 62, 29, 16, 8, 162, 0, 29, 28, 42, 180, 0, 9, 29, 46, 27, 160, 0, 9, 4, 29, 120]
abbrev dktX2_hoursOf_0 : List UInt8 := dkwX2_hoursOf_0 ++ dktX2_hoursOf_1
theorem dksX2_hoursOf_0 : cX2_hoursOf.data.toList.drop 0 = dktX2_hoursOf_0 := by decide +kernel
theorem dksX2_hoursOf_1 : cX2_hoursOf.data.toList.drop 24 = dktX2_hoursOf_1 := dk_seg dksX2_hoursOf_0 24 rfl rfl
theorem dX2_hoursOf_0 : decode cX2_hoursOf 0 = .ok (.iconst 0, 1) := dk_3 (dk_at dksX2_hoursOf_0 0 rfl rfl)
theorem dX2_hoursOf_1 : decode cX2_hoursOf 1 = .ok (.istore_n 2, 1) := dk_61 (dk_at dksX2_hoursOf_0 1 rfl rfl)
theorem dX2_hoursOf_2 : decode cX2_hoursOf 2 = .ok (.iconst 0, 1) := dk_3 (dk_at dksX2_hoursOf_0 2 rfl rfl)
theorem dX2_hoursOf_3 : decode cX2_hoursOf 3 = .ok (.istore_n 3, 1) := dk_62 (dk_at dksX2_hoursOf_0 3 rfl rfl)
theorem dX2_hoursOf_4 : decode cX2_hoursOf 4 = .ok (.iload_n 3, 1) := dk_29 (dk_at dksX2_hoursOf_0 4 rfl rfl)
theorem dX2_hoursOf_5 : decode cX2_hoursOf 5 = .ok (.bipush 8, 2) := dk_16 8 (dk_at dksX2_hoursOf_0 5 rfl rfl)
theorem dX2_hoursOf_7 : decode cX2_hoursOf 7 = .ok (.if_icmp .ge 29, 3) := dk_162 0 29 (dk_at dksX2_hoursOf_0 7 rfl rfl)
theorem dX2_hoursOf_10 : decode cX2_hoursOf 10 = .ok (.iload_n 2, 1) := dk_28 (dk_at dksX2_hoursOf_0 10 rfl rfl)
theorem dX2_hoursOf_11 : decode cX2_hoursOf 11 = .ok (.aload_n 0, 1) := dk_42 (dk_at dksX2_hoursOf_0 11 rfl rfl)
theorem dX2_hoursOf_12 : decode cX2_hoursOf 12 = .ok (.getfield 9, 3) := dk_180 0 9 (dk_at dksX2_hoursOf_0 12 rfl rfl)
theorem dX2_hoursOf_15 : decode cX2_hoursOf 15 = .ok (.iload_n 3, 1) := dk_29 (dk_at dksX2_hoursOf_0 15 rfl rfl)
theorem dX2_hoursOf_16 : decode cX2_hoursOf 16 = .ok (.iaload, 1) := dk_46 (dk_at dksX2_hoursOf_0 16 rfl rfl)
theorem dX2_hoursOf_17 : decode cX2_hoursOf 17 = .ok (.iload_n 1, 1) := dk_27 (dk_at dksX2_hoursOf_0 17 rfl rfl)
theorem dX2_hoursOf_18 : decode cX2_hoursOf 18 = .ok (.if_icmp .ne 9, 3) := dk_160 0 9 (dk_at dksX2_hoursOf_0 18 rfl rfl)
theorem dX2_hoursOf_21 : decode cX2_hoursOf 21 = .ok (.iconst 1, 1) := dk_4 (dk_at dksX2_hoursOf_0 21 rfl rfl)
theorem dX2_hoursOf_22 : decode cX2_hoursOf 22 = .ok (.iload_n 3, 1) := dk_29 (dk_at dksX2_hoursOf_0 22 rfl rfl)
theorem dX2_hoursOf_23 : decode cX2_hoursOf 23 = .ok (.ishl, 1) := dk_120 (dk_at dksX2_hoursOf_0 23 rfl rfl)
theorem dX2_hoursOf_24 : decode cX2_hoursOf 24 = .ok (.goto 4, 3) := dk_167 0 4 (dk_at dksX2_hoursOf_1 0 rfl rfl)
theorem dX2_hoursOf_27 : decode cX2_hoursOf 27 = .ok (.iconst 0, 1) := dk_3 (dk_at dksX2_hoursOf_1 3 rfl rfl)
theorem dX2_hoursOf_28 : decode cX2_hoursOf 28 = .ok (.ior, 1) := dk_128 (dk_at dksX2_hoursOf_1 4 rfl rfl)
theorem dX2_hoursOf_29 : decode cX2_hoursOf 29 = .ok (.istore_n 2, 1) := dk_61 (dk_at dksX2_hoursOf_1 5 rfl rfl)
theorem dX2_hoursOf_30 : decode cX2_hoursOf 30 = .ok (.iinc 3 1, 3) := dk_132 3 1 (dk_at dksX2_hoursOf_1 6 rfl rfl)
theorem dX2_hoursOf_33 : decode cX2_hoursOf 33 = .ok (.goto (-29), 3) := dk_167 255 227 (dk_at dksX2_hoursOf_1 9 rfl rfl)
theorem dX2_hoursOf_36 : decode cX2_hoursOf 36 = .ok (.iload_n 2, 1) := dk_28 (dk_at dksX2_hoursOf_1 12 rfl rfl)
theorem dX2_hoursOf_37 : decode cX2_hoursOf 37 = .ok (.ireturn, 1) := dk_172 (dk_at dksX2_hoursOf_1 13 rfl rfl)
theorem q108 : (Jvm.Cond.initialized "RockingHorse$Horse") ∈ lw_all := lw_g (lw_at lw_m1 2 rfl) rfl
theorem q136 : (Jvm.Cond.instantiable "RockingHorse$Horse" (6 : Nat)) ∈ lw_all := lw_g (lw_at lw_m1 30 rfl) rfl
theorem q138 : (Jvm.Cond.instanceMethod ({ cls := "RockingHorse$Horse", name := "<init>", desc := "()V" } : Jvm.MethodName)) ∈ lw_all := lw_g (lw_at lw_m1 32 rfl) rfl
theorem q139 : (Jvm.Cond.code ({ cls := "RockingHorse$Horse", name := "<init>", desc := "()V" } : Jvm.MethodName) prog_3_method_1_code (1 : Nat) (Option.none : Option Jvm.ClassFile.FieldType)) ∈ lw_all := lw_g (lw_at lw_m1 33 rfl) rfl
theorem q140 : (Jvm.Cond.methodLink "RockingHorse$Horse" (3 : Nat) ({ cls := "java/lang/Object", name := "<init>", desc := "()V" } : Jvm.MethodName)) ∈ lw_all := lw_g (lw_at lw_m1 34 rfl) rfl
theorem q141 : (Jvm.Cond.fieldLink "RockingHorse$Horse" (9 : Nat) "RockingHorse$Horse" "rota" "[I") ∈ lw_all := lw_g (lw_at lw_m1 35 rfl) rfl
theorem q143 : (Jvm.Cond.fieldLink "RockingHorse$Horse" (15 : Nat) "RockingHorse$Horse" "tired" "[I") ∈ lw_all := lw_g (lw_at lw_m1 37 rfl) rfl
theorem q146 : (Jvm.Cond.fieldLink "RockingHorse$Horse" (24 : Nat) "RockingHorse$Horse" "ill" "I") ∈ lw_all := lw_g (lw_at lw_m1 40 rfl) rfl
theorem q148 : (Jvm.Cond.fieldLink "RockingHorse$Horse" (28 : Nat) "RockingHorse$Horse" "night" "I") ∈ lw_all := lw_g (lw_at lw_m1 42 rfl) rfl
theorem q151 : (Jvm.Cond.fieldLink "RockingHorse$Horse" (31 : Nat) "RockingHorse$Horse" "gaps" "I") ∈ lw_all := lw_g (lw_at lw_m1 45 rfl) rfl
theorem q153 : (Jvm.Cond.fieldLink "RockingHorse$Horse" (34 : Nat) "RockingHorse$Horse" "ridden" "I") ∈ lw_all := lw_g (lw_at lw_m1 47 rfl) rfl
theorem q155 : (Jvm.Cond.laysFinal "RockingHorse$Horse" "RockingHorse$Horse" "rota" "[I") ∈ lw_all := lw_g (lw_at lw_m1 49 rfl) rfl
theorem q156 : (Jvm.Cond.soleField "RockingHorse$Horse" "rota") ∈ lw_all := lw_g (lw_at lw_m1 50 rfl) rfl
theorem q157 : (Jvm.Cond.laysFinal "RockingHorse$Horse" "RockingHorse$Horse" "tired" "[I") ∈ lw_all := lw_g (lw_at lw_m1 51 rfl) rfl
theorem q158 : (Jvm.Cond.soleField "RockingHorse$Horse" "tired") ∈ lw_all := lw_g (lw_at lw_m1 52 rfl) rfl
theorem q159 : (Jvm.Cond.lays "RockingHorse$Horse" "RockingHorse$Horse" "ill" "I") ∈ lw_all := lw_g (lw_at lw_m1 53 rfl) rfl
theorem q160 : (Jvm.Cond.soleField "RockingHorse$Horse" "ill") ∈ lw_all := lw_g (lw_at lw_m1 54 rfl) rfl
theorem q161 : (Jvm.Cond.lays "RockingHorse$Horse" "RockingHorse$Horse" "night" "I") ∈ lw_all := lw_g (lw_at lw_m1 55 rfl) rfl
theorem q162 : (Jvm.Cond.soleField "RockingHorse$Horse" "night") ∈ lw_all := lw_g (lw_at lw_m1 56 rfl) rfl
theorem q163 : (Jvm.Cond.lays "RockingHorse$Horse" "RockingHorse$Horse" "gaps" "I") ∈ lw_all := lw_g (lw_at lw_m1 57 rfl) rfl
theorem q164 : (Jvm.Cond.soleField "RockingHorse$Horse" "gaps") ∈ lw_all := lw_g (lw_at lw_m1 58 rfl) rfl
theorem q165 : (Jvm.Cond.lays "RockingHorse$Horse" "RockingHorse$Horse" "ridden" "I") ∈ lw_all := lw_g (lw_at lw_m1 59 rfl) rfl
theorem q166 : (Jvm.Cond.soleField "RockingHorse$Horse" "ridden") ∈ lw_all := lw_g (lw_at lw_m1 60 rfl) rfl
theorem q167 : (Jvm.Cond.superclass "RockingHorse$Horse" "java/lang/Object") ∈ lw_all := lw_g (lw_at lw_m1 61 rfl) rfl
theorem q629 : (Jvm.Cond.instanceMethod ({ cls := "RockingHorse$Horse", name := "becomes", desc := "(LRockingHorse$Horse;)V" } : Jvm.MethodName)) ∈ lw_all := lw_g (lw_at lw_m3 43 rfl) rfl
theorem q630 : (Jvm.Cond.selects "RockingHorse$Horse" ({ cls := "RockingHorse$Horse", name := "becomes", desc := "(LRockingHorse$Horse;)V" } : Jvm.MethodName) ({ cls := "RockingHorse$Horse", name := "becomes", desc := "(LRockingHorse$Horse;)V" } : Jvm.MethodName)) ∈ lw_all := lw_g (lw_at lw_m3 44 rfl) rfl
theorem q631 : (Jvm.Cond.code ({ cls := "RockingHorse$Horse", name := "becomes", desc := "(LRockingHorse$Horse;)V" } : Jvm.MethodName) prog_3_method_2_code (2 : Nat) (Option.none : Option Jvm.ClassFile.FieldType)) ∈ lw_all := lw_g (lw_at lw_m3 45 rfl) rfl
theorem q632 : (Jvm.Cond.methodLink "RockingHorse$Horse" (18 : Nat) ({ cls := "java/lang/System", name := "arraycopy", desc := "(Ljava/lang/Object;ILjava/lang/Object;II)V" } : Jvm.MethodName)) ∈ lw_all := lw_g (lw_at lw_m3 46 rfl) rfl
theorem q1039 : (Jvm.Cond.instanceMethod ({ cls := "RockingHorse$Horse", name := "hoursOf", desc := "(I)I" } : Jvm.MethodName)) ∈ lw_all := lw_g (lw_at lw_m4 213 rfl) rfl
theorem q1040 : (Jvm.Cond.selects "RockingHorse$Horse" ({ cls := "RockingHorse$Horse", name := "hoursOf", desc := "(I)I" } : Jvm.MethodName) ({ cls := "RockingHorse$Horse", name := "hoursOf", desc := "(I)I" } : Jvm.MethodName)) ∈ lw_all := lw_g (lw_at lw_m4 214 rfl) rfl
theorem q1041 : (Jvm.Cond.code ({ cls := "RockingHorse$Horse", name := "hoursOf", desc := "(I)I" } : Jvm.MethodName) prog_3_method_3_code (4 : Nat) (Option.some Jvm.ClassFile.FieldType.int)) ∈ lw_all := lw_g (lw_at lw_m4 215 rfl) rfl
theorem q1678 : (Jvm.Cond.castable "RockingHorse$Horse" "java/lang/Object") ∈ lw_tbl := lw_at lw_m7 132 rfl
theorem in_X2 : ∀ w ∈ wsX20, w ∈ lw_all := lw_in wsX20 [155, 157, 159, 161, 163, 165] (by decide +kernel) (by decide +kernel)
