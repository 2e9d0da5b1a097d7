set_option maxRecDepth 100000
/-! RockingHorseModel.power(JI)J -/
abbrev mi_X3_power : Mi := (cX3_power, 6, "RockingHorseModel", 0, some .long, "power")
def f_X3_power_b5 (v0 : Int64) (v2 : Int32) (k0 : Int64 → Hp → Option (Int64 × Hp)) (ag : (Int64 × Int32) → Hp → Option (Int64 × Hp)) (a : Int64 × Int32) (σ : Hp) : Option (Int64 × Hp) :=
  if v2 ≤ a.2 then
    k0 a.1 σ
  else
    ag ((a.1 * v0), (a.2 + 1)) σ
def f_X3_power (v0 : Int64) (v2 : Int32) (σ : Hp) : Option (Int64 × Hp) :=
  lp 2000 (f_X3_power_b5 v0 v2 (fun (a1 : Int64) σ =>
      some (a1, σ))) (1, 0) σ
theorem ok_X3_power_b5 (X : Mx) (v0 : Int64) (v2 : Int32) {k0 : Int64 → Hp → Option (Int64 × Hp)} (hk0 : ∀ (a : Int64) (σ : Hp), GG X mi_X3_power (QM X rL) 21 [(3, vL a)] [] σ (k0 a σ)) : ∀ (m : Nat) (a : Int64 × Int32) (σ : Hp), GG X mi_X3_power (QM X rL) 5 [(0, vL v0), (2, vI v2), (3, vL a.1), (5, vI a.2)] [] σ (lp m (f_X3_power_b5 v0 v2 k0) a σ) := by
  refine g_lp (fun (a : Int64 × Int32) => [(0, vL v0), (2, vI v2), (3, vL a.1), (5, vI a.2)]) ?_
  intro ag hag a σ
  unfold f_X3_power_b5
  refine g_iload dX3_power_5 rfl ?_
  refine g_iload_n 2 dX3_power_7 rfl rfl ?_
  refine g_icmp_ge 21 dX3_power_8 (by decide) ?_ ?_
  · exact g_jmp (hk0 _ _) rfl
  · refine g_lload_n 3 dX3_power_11 rfl rfl ?_
    refine g_lload_n 0 dX3_power_12 rfl rfl ?_
    refine g_lmul dX3_power_13 ?_
    refine g_lstore_n 3 dX3_power_14 rfl (lt_b rfl) ?_
    refine g_iinc 1 dX3_power_15 (by decide) rfl (lt_b rfl) ?_
    refine g_goto 5 dX3_power_18 (by decide) ?_
    exact g_jmp (hag _ _) rfl
theorem mm_X3_power (v0 : Int64) (v2 : Int32) (σ : Hp) : MM yX3_power mi_X3_power rL [vL v0, vI v2] σ (f_X3_power v0 v2 σ) := by
  refine mm_of (by decide +kernel) rfl rfl (Nat.le_of_ble_eq_true rfl) ?_
  intro X
  unfold f_X3_power
  refine g_lconst 1 dX3_power_0 (by decide) ?_
  refine g_lstore_n 3 dX3_power_1 rfl (lt_b rfl) ?_
  refine g_iconst 0 dX3_power_2 (by decide) ?_
  refine g_istore dX3_power_3 (lt_b rfl) ?_
  refine g_jmp (ok_X3_power_b5 X v0 v2 ?_ _ _ _) rfl
  · intro a1 σ
    refine g_lload_n 3 dX3_power_21 rfl rfl ?_
    exact g_lret rfl dX3_power_22
theorem dd_X3_power : yX3_power.cls ≠ "java/lang/invoke/MethodHandle" ∧ yX3_power.cls ≠ "java/lang/invoke/VarHandle" ∧ (parseMethodDescriptor yX3_power.desc).map (fun d => d.parameters.length) = some 2 := by decide +kernel
/-! RockingHorseModel.firstGets(III)I -/
abbrev mi_X3_firstGets : Mi := (cX3_firstGets, 3, "RockingHorseModel", 0, some .int, "firstGets")
def f_X3_firstGets (v0 : Int32) (v1 : Int32) (v2 : Int32) (σ : Hp) : Option (Int32 × Hp) :=
  if v0 < v1 then
    some (0, σ)
  else
    some ((v2 - v1), σ)
theorem mm_X3_firstGets (v0 : Int32) (v1 : Int32) (v2 : Int32) (σ : Hp) : MM yX3_firstGets mi_X3_firstGets rI [vI v0, vI v1, vI v2] σ (f_X3_firstGets v0 v1 v2 σ) := by
  refine mm_of (by decide +kernel) rfl rfl (Nat.le_of_ble_eq_true rfl) ?_
  intro X
  unfold f_X3_firstGets
  refine g_iload_n 0 dX3_firstGets_0 rfl rfl ?_
  refine g_iload_n 1 dX3_firstGets_1 rfl rfl ?_
  refine g_icmp_lt 11 dX3_firstGets_2 (by decide) ?_ ?_
  · refine g_iconst 0 dX3_firstGets_11 (by decide) ?_
    exact g_iret rfl dX3_firstGets_12
  · refine g_iload_n 2 dX3_firstGets_5 rfl rfl ?_
    refine g_iload_n 1 dX3_firstGets_6 rfl rfl ?_
    refine g_isub dX3_firstGets_7 ?_
    refine g_goto 12 dX3_firstGets_8 (by decide) ?_
    exact g_iret rfl dX3_firstGets_12
theorem dd_X3_firstGets : yX3_firstGets.cls ≠ "java/lang/invoke/MethodHandle" ∧ yX3_firstGets.cls ≠ "java/lang/invoke/VarHandle" ∧ (parseMethodDescriptor yX3_firstGets.desc).map (fun d => d.parameters.length) = some 3 := by decide +kernel
/-! RockingHorseModel.otherGets(III)I -/
abbrev mi_X3_otherGets : Mi := (cX3_otherGets, 3, "RockingHorseModel", 0, some .int, "otherGets")
def f_X3_otherGets (v0 : Int32) (v1 : Int32) (v2 : Int32) (σ : Hp) : Option (Int32 × Hp) :=
  if v1 ≤ v0 then
    some (0, σ)
  else
    some ((v2 - v0), σ)
theorem mm_X3_otherGets (v0 : Int32) (v1 : Int32) (v2 : Int32) (σ : Hp) : MM yX3_otherGets mi_X3_otherGets rI [vI v0, vI v1, vI v2] σ (f_X3_otherGets v0 v1 v2 σ) := by
  refine mm_of (by decide +kernel) rfl rfl (Nat.le_of_ble_eq_true rfl) ?_
  intro X
  unfold f_X3_otherGets
  refine g_iload_n 1 dX3_otherGets_0 rfl rfl ?_
  refine g_iload_n 0 dX3_otherGets_1 rfl rfl ?_
  refine g_icmp_le 11 dX3_otherGets_2 (by decide) ?_ ?_
  · refine g_iconst 0 dX3_otherGets_11 (by decide) ?_
    exact g_iret rfl dX3_otherGets_12
  · refine g_iload_n 2 dX3_otherGets_5 rfl rfl ?_
    refine g_iload_n 0 dX3_otherGets_6 rfl rfl ?_
    refine g_isub dX3_otherGets_7 ?_
    refine g_goto 12 dX3_otherGets_8 (by decide) ?_
    exact g_iret rfl dX3_otherGets_12
theorem dd_X3_otherGets : yX3_otherGets.cls ≠ "java/lang/invoke/MethodHandle" ∧ yX3_otherGets.cls ≠ "java/lang/invoke/VarHandle" ∧ (parseMethodDescriptor yX3_otherGets.desc).map (fun d => d.parameters.length) = some 3 := by decide +kernel
/-! RockingHorseModel.draw(I)I -/
abbrev mi_X3_draw : Mi := (cX3_draw, 2, "RockingHorseModel", 0, some .int, "draw")
def f_X3_draw (v0 : Option Nat) (v1 : Int32) (σ : Hp) : Option (Int32 × Hp) :=
  gI 2 46 σ v0 fun x1 =>
  pI 0 2 46 σ v0 ((x1 * 1103515245) + 12345) fun σ =>
  gI 2 46 σ v0 fun x2 =>
  idv v1 <|
  some ((irm (ush x2 16) v1), σ)
theorem mm_X3_draw (v0 : Option Nat) (v1 : Int32) (σ : Hp) : MM yX3_draw mi_X3_draw rI [vA v0, vI v1] σ (f_X3_draw v0 v1 σ) := by
  refine mm_of (by decide +kernel) rfl rfl (Nat.le_of_ble_eq_true rfl) ?_
  intro X
  unfold f_X3_draw
  refine g_aload_n 0 dX3_draw_0 rfl rfl ?_
  refine g_aload_n 0 dX3_draw_1 rfl rfl ?_
  refine g_getI fo_2_46 (by decide) q1102 dX3_draw_2 fun x1 => ?_
  refine g_ldc_w dX3_draw_5 q1659 ?_
  refine g_imul dX3_draw_8 ?_
  refine g_sipush 12345 dX3_draw_9 (by decide) ?_
  refine g_iadd dX3_draw_12 ?_
  refine g_putI fo_2_46 (by decide) rfl q1102 dX3_draw_13 fun σ => ?_
  refine g_aload_n 0 dX3_draw_16 rfl rfl ?_
  refine g_getI fo_2_46 (by decide) q1102 dX3_draw_17 fun x2 => ?_
  refine g_bipush 16 dX3_draw_20 (by decide) ?_
  refine g_iushr dX3_draw_22 ?_
  refine g_iload_n 1 dX3_draw_23 rfl rfl ?_
  refine g_irem dX3_draw_24 ?_
  exact g_iret rfl dX3_draw_25
theorem dd_X3_draw : yX3_draw.cls ≠ "java/lang/invoke/MethodHandle" ∧ yX3_draw.cls ≠ "java/lang/invoke/VarHandle" ∧ (parseMethodDescriptor yX3_draw.desc).map (fun d => d.parameters.length) = some 1 := by decide +kernel
theorem dv_X3_draw : yX3_draw.cls = RX3 ∧ yX3_draw.cls ≠ "java/lang/invoke/MethodHandle" ∧ yX3_draw.cls ≠ "java/lang/invoke/VarHandle" ∧ (parseMethodDescriptor yX3_draw.desc).map (fun d => d.parameters.length) = some 1 := ⟨rfl, dd_X3_draw⟩
/-! RockingHorseModel.keep(I)Z -/
abbrev mi_X3_keep : Mi := (cX3_keep, 2, "RockingHorseModel", 1, some .boolean, "keep")
def f_X3_keep (v0 : Option Nat) (v1 : Int32) (σ : Hp) : Option (Int32 × Hp) :=
  pI 0 2 11 σ v0 0 fun σ =>
  bnd (f_X3_in v1 0 1 σ) fun x1 σ =>
  if x1 = 0 then
    rz1 0 σ
  else
    gR 2 49 σ v0 fun y2 =>
    sZ σ y2 v1 1 fun σ =>
    gR 2 50 σ v0 fun y3 =>
    gI 2 47 σ v0 fun x4 =>
    sI σ y3 v1 x4 fun σ =>
    gR 2 0 σ v0 fun y5 =>
    gR 2 48 σ v0 fun y6 =>
    bnd (f_X3_lay y5 y6 (27 * v1) σ) fun _ σ =>
    rz1 1 σ
theorem mm_X3_keep (v0 : Option Nat) (v1 : Int32) (σ : Hp) : MM yX3_keep mi_X3_keep rI [vA v0, vI v1] σ (f_X3_keep v0 v1 σ) := by
  refine mm_of (by decide +kernel) rfl rfl (Nat.le_of_ble_eq_true rfl) ?_
  intro X
  unfold f_X3_keep
  refine g_aload_n 0 dX3_keep_0 rfl rfl ?_
  refine g_iconst 0 dX3_keep_1 (by decide) ?_
  refine g_putI fo_2_11 (by decide) rfl q1067 dX3_keep_2 fun σ => ?_
  refine g_iload_n 1 dX3_keep_5 rfl rfl ?_
  refine g_iconst 0 dX3_keep_6 (by decide) ?_
  refine g_iconst 1 dX3_keep_7 (by decide) ?_
  refine g_callS_I (mm_X3_in _ _ _ _) rfl q1223 q1224 q109 q1225 dd_X3_in rfl (Nat.le_of_ble_eq_true rfl) (Nat.le_of_ble_eq_true rfl) (Nat.le_of_ble_eq_true rfl) dX3_keep_8 fun x1 σ => ?_
  refine g_if_ne 16 dX3_keep_11 (by decide) ?_ ?_
  · refine g_aload_n 0 dX3_keep_16 rfl rfl ?_
    refine g_getR fo_2_49 q1105 dX3_keep_17 fun y2 => ?_
    refine g_iload_n 1 dX3_keep_20 rfl rfl ?_
    refine g_iconst 1 dX3_keep_21 (by decide) ?_
    refine g_zastore dX3_keep_22 fun σ => ?_
    refine g_aload_n 0 dX3_keep_23 rfl rfl ?_
    refine g_getR fo_2_50 q1106 dX3_keep_24 fun y3 => ?_
    refine g_iload_n 1 dX3_keep_27 rfl rfl ?_
    refine g_aload_n 0 dX3_keep_28 rfl rfl ?_
    refine g_getI fo_2_47 (by decide) q1103 dX3_keep_29 fun x4 => ?_
    refine g_iastore dX3_keep_32 fun σ => ?_
    refine g_aload_n 0 dX3_keep_33 rfl rfl ?_
    refine g_getR fo_2_0 q1056 dX3_keep_34 fun y5 => ?_
    refine g_aload_n 0 dX3_keep_37 rfl rfl ?_
    refine g_getR fo_2_48 q1104 dX3_keep_38 fun y6 => ?_
    refine g_bipush 27 dX3_keep_41 (by decide) ?_
    refine g_iload_n 1 dX3_keep_43 rfl rfl ?_
    refine g_imul dX3_keep_44 ?_
    refine g_callS_V (mm_X3_lay _ _ _ _) rfl q1347 q1348 q109 q1349 dd_X3_lay rfl (Nat.le_of_ble_eq_true rfl) (Nat.le_of_ble_eq_true rfl) (Nat.le_of_ble_eq_true rfl) dX3_keep_45 fun _ σ => ?_
    refine g_iconst 1 dX3_keep_48 (by decide) ?_
    exact g_zret rfl dX3_keep_49
  · refine g_iconst 0 dX3_keep_14 (by decide) ?_
    exact g_zret rfl dX3_keep_15
theorem dd_X3_keep : yX3_keep.cls ≠ "java/lang/invoke/MethodHandle" ∧ yX3_keep.cls ≠ "java/lang/invoke/VarHandle" ∧ (parseMethodDescriptor yX3_keep.desc).map (fun d => d.parameters.length) = some 1 := by decide +kernel
theorem dv_X3_keep : yX3_keep.cls = RX3 ∧ yX3_keep.cls ≠ "java/lang/invoke/MethodHandle" ∧ yX3_keep.cls ≠ "java/lang/invoke/VarHandle" ∧ (parseMethodDescriptor yX3_keep.desc).map (fun d => d.parameters.length) = some 1 := ⟨rfl, dd_X3_keep⟩
/-! RockingHorseModel.again(I)Z -/
abbrev mi_X3_again : Mi := (cX3_again, 3, "RockingHorseModel", 1, some .boolean, "again")
def f_X3_again_b40 (v0 : Option Nat) (v1 : Int32) (k0 : Unit → Hp → Option (Int32 × Hp)) (ag : Int32 → Hp → Option (Int32 × Hp)) (a : Int32) (σ : Hp) : Option (Int32 × Hp) :=
  if 27 ≤ a then
    k0 () σ
  else
    gR 2 0 σ v0 fun y7 =>
    gR 2 48 σ v0 fun y8 =>
    lI 100 σ y8 ((27 * v1) + a) fun x9 =>
    sI σ y7 a x9 fun σ =>
    ag (a + 1) σ
def f_X3_again (v0 : Option Nat) (v1 : Int32) (σ : Hp) : Option (Int32 × Hp) :=
  pI 0 2 11 σ v0 0 fun σ =>
  bnd (f_X3_in v1 0 1 σ) fun x1 σ =>
  if x1 = 0 then
    rz1 0 σ
  else
    gR 2 49 σ v0 fun y2 =>
    lI 102 σ y2 v1 fun x3 =>
    if x3 = 0 then
      rz1 0 σ
    else
      gR 2 50 σ v0 fun y4 =>
      lI 100 σ y4 v1 fun x5 =>
      gI 2 47 σ v0 fun x6 =>
      if x5 = x6 then
        lp 2000 (f_X3_again_b40 v0 v1 (fun (a10 : Unit) σ =>
            pI 0 2 24 σ v0 0 fun σ =>
            rz1 1 σ)) 0 σ
      else
        rz1 0 σ
theorem ok_X3_again_b40 (X : Mx) (v0 : Option Nat) (v1 : Int32) {k0 : Unit → Hp → Option (Int32 × Hp)} (hk0 : ∀ (a : Unit) (σ : Hp), GG X mi_X3_again (QM X rI) 69 [(0, vA v0)] [] σ (k0 a σ)) : ∀ (m : Nat) (a : Int32) (σ : Hp), GG X mi_X3_again (QM X rI) 40 [(0, vA v0), (1, vI v1), (2, vI a)] [] σ (lp m (f_X3_again_b40 v0 v1 k0) a σ) := by
  refine g_lp (fun (a : Int32) => [(0, vA v0), (1, vI v1), (2, vI a)]) ?_
  intro ag hag a σ
  unfold f_X3_again_b40
  refine g_iload_n 2 dX3_again_40 rfl rfl ?_
  refine g_bipush 27 dX3_again_41 (by decide) ?_
  refine g_icmp_ge 69 dX3_again_43 (by decide) ?_ ?_
  · exact g_jmp (hk0 _ _) rfl
  · refine g_aload_n 0 dX3_again_46 rfl rfl ?_
    refine g_getR fo_2_0 q1056 dX3_again_47 fun y7 => ?_
    refine g_iload_n 2 dX3_again_50 rfl rfl ?_
    refine g_aload_n 0 dX3_again_51 rfl rfl ?_
    refine g_getR fo_2_48 q1104 dX3_again_52 fun y8 => ?_
    refine g_bipush 27 dX3_again_55 (by decide) ?_
    refine g_iload_n 1 dX3_again_57 rfl rfl ?_
    refine g_imul dX3_again_58 ?_
    refine g_iload_n 2 dX3_again_59 rfl rfl ?_
    refine g_iadd dX3_again_60 ?_
    refine g_iaload dX3_again_61 fun x9 => ?_
    refine g_iastore dX3_again_62 fun σ => ?_
    refine g_iinc 1 dX3_again_63 (by decide) rfl (lt_b rfl) ?_
    refine g_goto 40 dX3_again_66 (by decide) ?_
    exact g_jmp (hag _ _) rfl
theorem mm_X3_again (v0 : Option Nat) (v1 : Int32) (σ : Hp) : MM yX3_again mi_X3_again rI [vA v0, vI v1] σ (f_X3_again v0 v1 σ) := by
  refine mm_of (by decide +kernel) rfl rfl (Nat.le_of_ble_eq_true rfl) ?_
  intro X
  unfold f_X3_again
  refine g_aload_n 0 dX3_again_0 rfl rfl ?_
  refine g_iconst 0 dX3_again_1 (by decide) ?_
  refine g_putI fo_2_11 (by decide) rfl q1067 dX3_again_2 fun σ => ?_
  refine g_iload_n 1 dX3_again_5 rfl rfl ?_
  refine g_iconst 0 dX3_again_6 (by decide) ?_
  refine g_iconst 1 dX3_again_7 (by decide) ?_
  refine g_callS_I (mm_X3_in _ _ _ _) rfl q1223 q1224 q109 q1225 dd_X3_in rfl (Nat.le_of_ble_eq_true rfl) (Nat.le_of_ble_eq_true rfl) (Nat.le_of_ble_eq_true rfl) dX3_again_8 fun x1 σ => ?_
  refine g_if_eq 36 dX3_again_11 (by decide) ?_ ?_
  · refine g_iconst 0 dX3_again_36 (by decide) ?_
    exact g_zret rfl dX3_again_37
  · refine g_aload_n 0 dX3_again_14 rfl rfl ?_
    refine g_getR fo_2_49 q1105 dX3_again_15 fun y2 => ?_
    refine g_iload_n 1 dX3_again_18 rfl rfl ?_
    refine g_zaload dX3_again_19 fun x3 => ?_
    refine g_if_eq 36 dX3_again_20 (by decide) ?_ ?_
    · refine g_iconst 0 dX3_again_36 (by decide) ?_
      exact g_zret rfl dX3_again_37
    · refine g_aload_n 0 dX3_again_23 rfl rfl ?_
      refine g_getR fo_2_50 q1106 dX3_again_24 fun y4 => ?_
      refine g_iload_n 1 dX3_again_27 rfl rfl ?_
      refine g_iaload dX3_again_28 fun x5 => ?_
      refine g_aload_n 0 dX3_again_29 rfl rfl ?_
      refine g_getI fo_2_47 (by decide) q1103 dX3_again_30 fun x6 => ?_
      refine g_icmp_eq 38 dX3_again_33 (by decide) ?_ ?_
      · refine g_iconst 0 dX3_again_38 (by decide) ?_
        refine g_istore_n 2 dX3_again_39 rfl (lt_b rfl) ?_
        refine g_jmp (ok_X3_again_b40 X v0 v1 ?_ _ _ _) rfl
        · intro a10 σ
          refine g_aload_n 0 dX3_again_69 rfl rfl ?_
          refine g_iconst 0 dX3_again_70 (by decide) ?_
          refine g_putI fo_2_24 (by decide) rfl q1080 dX3_again_71 fun σ => ?_
          refine g_iconst 1 dX3_again_74 (by decide) ?_
          exact g_zret rfl dX3_again_75
      · refine g_iconst 0 dX3_again_36 (by decide) ?_
        exact g_zret rfl dX3_again_37
theorem dd_X3_again : yX3_again.cls ≠ "java/lang/invoke/MethodHandle" ∧ yX3_again.cls ≠ "java/lang/invoke/VarHandle" ∧ (parseMethodDescriptor yX3_again.desc).map (fun d => d.parameters.length) = some 1 := by decide +kernel
theorem dv_X3_again : yX3_again.cls = RX3 ∧ yX3_again.cls ≠ "java/lang/invoke/MethodHandle" ∧ yX3_again.cls ≠ "java/lang/invoke/VarHandle" ∧ (parseMethodDescriptor yX3_again.desc).map (fun d => d.parameters.length) = some 1 := ⟨rfl, dd_X3_again⟩
/-! RockingHorseModel.count(I)I -/
abbrev mi_X3_count : Mi := (cX3_count, 2, "RockingHorseModel", 1, some .int, "count")
def f_X3_count (v0 : Option Nat) (v1 : Int32) (σ : Hp) : Option (Int32 × Hp) :=
  pI 0 2 11 σ v0 0 fun σ =>
  bnd (f_X3_in v1 20 27 σ) fun x1 σ =>
  if x1 = 0 then
    if v1 = 0 then
      gI 2 1 σ v0 fun x18 =>
      some (x18, σ)
    else
    if v1 = 1 then
      gI 2 2 σ v0 fun x17 =>
      some (x17, σ)
    else
    if v1 = 2 then
      gI 2 3 σ v0 fun x16 =>
      some (x16, σ)
    else
    if v1 = 3 then
      gR 2 0 σ v0 fun y14 =>
      ob 2 σ v0 fun _ => bnd (f_X3_illBits v0 y14 σ) fun x15 σ =>
      some (x15, σ)
    else
    if v1 = 4 then
      gR 2 0 σ v0 fun y12 =>
      lI 100 σ y12 24 fun x13 =>
      some (x13, σ)
    else
    if v1 = 5 then
      gR 2 0 σ v0 fun y10 =>
      lI 100 σ y10 25 fun x11 =>
      some (x11, σ)
    else
    if v1 = 6 then
      gR 2 0 σ v0 fun y8 =>
      lI 100 σ y8 26 fun x9 =>
      some (x9, σ)
    else
    if v1 = 7 then
      gR 2 0 σ v0 fun y6 =>
      ob 2 σ v0 fun _ => bnd (f_X3_tired v0 y6 σ) fun x7 σ =>
      some (x7, σ)
    else
    if v1 = 8 then
      gI 2 45 σ v0 fun x5 =>
      some (x5, σ)
    else
    if v1 = 9 then
      gI 2 24 σ v0 fun x4 =>
      some (x4, σ)
    else
    if v1 = 10 then
      gI 2 10 σ v0 fun x3 =>
      some (x3, σ)
    else
    if v1 = 11 then
      gI 2 8 σ v0 fun x2 =>
      some (x2, σ)
    else
    some ((-100), σ)
  else
    gR 2 0 σ v0 fun y19 =>
    lI 100 σ y19 (v1 - 20) fun x20 =>
    some (x20, σ)
theorem mm_X3_count (v0 : Option Nat) (v1 : Int32) (σ : Hp) : MM yX3_count mi_X3_count rI [vA v0, vI v1] σ (f_X3_count v0 v1 σ) := by
  refine mm_of (by decide +kernel) rfl rfl (Nat.le_of_ble_eq_true rfl) ?_
  intro X
  unfold f_X3_count
  refine g_aload_n 0 dX3_count_0 rfl rfl ?_
  refine g_iconst 0 dX3_count_1 (by decide) ?_
  refine g_putI fo_2_11 (by decide) rfl q1067 dX3_count_2 fun σ => ?_
  refine g_iload_n 1 dX3_count_5 rfl rfl ?_
  refine g_bipush 20 dX3_count_6 (by decide) ?_
  refine g_bipush 27 dX3_count_8 (by decide) ?_
  refine g_callS_I (mm_X3_in _ _ _ _) rfl q1223 q1224 q109 q1225 dd_X3_in rfl (Nat.le_of_ble_eq_true rfl) (Nat.le_of_ble_eq_true rfl) (Nat.le_of_ble_eq_true rfl) dX3_count_10 fun x1 σ => ?_
  refine g_if_eq 26 dX3_count_13 (by decide) ?_ ?_
  · refine g_iload_n 1 dX3_count_26 rfl rfl ?_
    refine g_case (fun h1 => ?_) (fun h1 => ?_)
    · refine g_tableIn (off := 61) 88 dX3_count_27 (by rw [h1]; decide) (by rw [h1]; decide) (by rw [h1]; try rfl) (by decide) ?_
      refine g_aload_n 0 dX3_count_88 rfl rfl ?_
      refine g_getI fo_2_1 (by decide) q1057 dX3_count_89 fun x18 => ?_
      exact g_iret rfl dX3_count_92
    · refine g_case (fun h2 => ?_) (fun h2 => ?_)
      · refine g_tableIn (off := 66) 93 dX3_count_27 (by rw [h2]; decide) (by rw [h2]; decide) (by rw [h2]; try rfl) (by decide) ?_
        refine g_aload_n 0 dX3_count_93 rfl rfl ?_
        refine g_getI fo_2_2 (by decide) q1058 dX3_count_94 fun x17 => ?_
        exact g_iret rfl dX3_count_97
      · refine g_case (fun h3 => ?_) (fun h3 => ?_)
        · refine g_tableIn (off := 71) 98 dX3_count_27 (by rw [h3]; decide) (by rw [h3]; decide) (by rw [h3]; try rfl) (by decide) ?_
          refine g_aload_n 0 dX3_count_98 rfl rfl ?_
          refine g_getI fo_2_3 (by decide) q1059 dX3_count_99 fun x16 => ?_
          exact g_iret rfl dX3_count_102
        · refine g_case (fun h4 => ?_) (fun h4 => ?_)
          · refine g_tableIn (off := 76) 103 dX3_count_27 (by rw [h4]; decide) (by rw [h4]; decide) (by rw [h4]; try rfl) (by decide) ?_
            refine g_aload_n 0 dX3_count_103 rfl rfl ?_
            refine g_aload_n 0 dX3_count_104 rfl rfl ?_
            refine g_getR fo_2_0 q1056 dX3_count_105 fun y14 => ?_
            refine g_callV_I (mm_X3_illBits _ _ _) rfl zc_2 q1362 q1364 qs72 q109 q1365 dv_X3_illBits rfl (Nat.le_of_ble_eq_true rfl) (Nat.le_of_ble_eq_true rfl) (Nat.le_of_ble_eq_true rfl) dX3_count_108 fun x15 σ => ?_
            exact g_iret rfl dX3_count_111
          · refine g_case (fun h5 => ?_) (fun h5 => ?_)
            · refine g_tableIn (off := 85) 112 dX3_count_27 (by rw [h5]; decide) (by rw [h5]; decide) (by rw [h5]; try rfl) (by decide) ?_
              refine g_aload_n 0 dX3_count_112 rfl rfl ?_
              refine g_getR fo_2_0 q1056 dX3_count_113 fun y12 => ?_
              refine g_bipush 24 dX3_count_116 (by decide) ?_
              refine g_iaload dX3_count_118 fun x13 => ?_
              exact g_iret rfl dX3_count_119
            · refine g_case (fun h6 => ?_) (fun h6 => ?_)
              · refine g_tableIn (off := 93) 120 dX3_count_27 (by rw [h6]; decide) (by rw [h6]; decide) (by rw [h6]; try rfl) (by decide) ?_
                refine g_aload_n 0 dX3_count_120 rfl rfl ?_
                refine g_getR fo_2_0 q1056 dX3_count_121 fun y10 => ?_
                refine g_bipush 25 dX3_count_124 (by decide) ?_
                refine g_iaload dX3_count_126 fun x11 => ?_
                exact g_iret rfl dX3_count_127
              · refine g_case (fun h7 => ?_) (fun h7 => ?_)
                · refine g_tableIn (off := 101) 128 dX3_count_27 (by rw [h7]; decide) (by rw [h7]; decide) (by rw [h7]; try rfl) (by decide) ?_
                  refine g_aload_n 0 dX3_count_128 rfl rfl ?_
                  refine g_getR fo_2_0 q1056 dX3_count_129 fun y8 => ?_
                  refine g_bipush 26 dX3_count_132 (by decide) ?_
                  refine g_iaload dX3_count_134 fun x9 => ?_
                  exact g_iret rfl dX3_count_135
                · refine g_case (fun h8 => ?_) (fun h8 => ?_)
                  · refine g_tableIn (off := 109) 136 dX3_count_27 (by rw [h8]; decide) (by rw [h8]; decide) (by rw [h8]; try rfl) (by decide) ?_
                    refine g_aload_n 0 dX3_count_136 rfl rfl ?_
                    refine g_aload_n 0 dX3_count_137 rfl rfl ?_
                    refine g_getR fo_2_0 q1056 dX3_count_138 fun y6 => ?_
                    refine g_callV_I (mm_X3_tired _ _ _) rfl zc_2 q1386 q1388 qs76 q109 q1389 dv_X3_tired rfl (Nat.le_of_ble_eq_true rfl) (Nat.le_of_ble_eq_true rfl) (Nat.le_of_ble_eq_true rfl) dX3_count_141 fun x7 σ => ?_
                    exact g_iret rfl dX3_count_144
                  · refine g_case (fun h9 => ?_) (fun h9 => ?_)
                    · refine g_tableIn (off := 118) 145 dX3_count_27 (by rw [h9]; decide) (by rw [h9]; decide) (by rw [h9]; try rfl) (by decide) ?_
                      refine g_aload_n 0 dX3_count_145 rfl rfl ?_
                      refine g_getI fo_2_45 (by decide) q1101 dX3_count_146 fun x5 => ?_
                      exact g_iret rfl dX3_count_149
                    · refine g_case (fun h10 => ?_) (fun h10 => ?_)
                      · refine g_tableIn (off := 123) 150 dX3_count_27 (by rw [h10]; decide) (by rw [h10]; decide) (by rw [h10]; try rfl) (by decide) ?_
                        refine g_aload_n 0 dX3_count_150 rfl rfl ?_
                        refine g_getI fo_2_24 (by decide) q1080 dX3_count_151 fun x4 => ?_
                        exact g_iret rfl dX3_count_154
                      · refine g_case (fun h11 => ?_) (fun h11 => ?_)
                        · refine g_tableIn (off := 128) 155 dX3_count_27 (by rw [h11]; decide) (by rw [h11]; decide) (by rw [h11]; try rfl) (by decide) ?_
                          refine g_aload_n 0 dX3_count_155 rfl rfl ?_
                          refine g_getI fo_2_10 (by decide) q1066 dX3_count_156 fun x3 => ?_
                          exact g_iret rfl dX3_count_159
                        · refine g_case (fun h12 => ?_) (fun h12 => ?_)
                          · refine g_tableIn (off := 133) 160 dX3_count_27 (by rw [h12]; decide) (by rw [h12]; decide) (by rw [h12]; try rfl) (by decide) ?_
                            refine g_aload_n 0 dX3_count_160 rfl rfl ?_
                            refine g_getI fo_2_8 (by decide) q1064 dX3_count_161 fun x2 => ?_
                            exact g_iret rfl dX3_count_164
                          · refine g_tableOut 165 dX3_count_27 (by have := lv_neT h1 (a := 0) (by decide); have := lv_neT h2 (a := 1) (by decide); have := lv_neT h3 (a := 2) (by decide); have := lv_neT h4 (a := 3) (by decide); have := lv_neT h5 (a := 4) (by decide); have := lv_neT h6 (a := 5) (by decide); have := lv_neT h7 (a := 6) (by decide); have := lv_neT h8 (a := 7) (by decide); have := lv_neT h9 (a := 8) (by decide); have := lv_neT h10 (a := 9) (by decide); have := lv_neT h11 (a := 10) (by decide); have := lv_neT h12 (a := 11) (by decide); omega) (by decide) ?_
                            refine g_bipush (-100) dX3_count_165 (by decide) ?_
                            exact g_iret rfl dX3_count_167
  · refine g_aload_n 0 dX3_count_16 rfl rfl ?_
    refine g_getR fo_2_0 q1056 dX3_count_17 fun y19 => ?_
    refine g_iload_n 1 dX3_count_20 rfl rfl ?_
    refine g_bipush 20 dX3_count_21 (by decide) ?_
    refine g_isub dX3_count_23 ?_
    refine g_iaload dX3_count_24 fun x20 => ?_
    exact g_iret rfl dX3_count_25
theorem dd_X3_count : yX3_count.cls ≠ "java/lang/invoke/MethodHandle" ∧ yX3_count.cls ≠ "java/lang/invoke/VarHandle" ∧ (parseMethodDescriptor yX3_count.desc).map (fun d => d.parameters.length) = some 1 := by decide +kernel
theorem dv_X3_count : yX3_count.cls = RX3 ∧ yX3_count.cls ≠ "java/lang/invoke/MethodHandle" ∧ yX3_count.cls ≠ "java/lang/invoke/VarHandle" ∧ (parseMethodDescriptor yX3_count.desc).map (fun d => d.parameters.length) = some 1 := ⟨rfl, dd_X3_count⟩
/-! RockingHorseModel.row(I)J -/
abbrev mi_X3_row : Mi := (cX3_row, 2, "RockingHorseModel", 1, some .long, "row")
def f_X3_row (v0 : Option Nat) (v1 : Int32) (σ : Hp) : Option (Int64 × Hp) :=
  pI 0 2 11 σ v0 0 fun σ =>
  gI 2 10 σ v0 fun x1 =>
  bnd (f_X3_in v1 0 (x1 - 1) σ) fun x2 σ =>
  if x2 = 0 then
    ob 2 σ v0 fun _ => bnd (f_X3_lost v0 σ) fun x3 σ =>
    some ((Int32.toInt64 x3), σ)
  else
    gR 2 9 σ v0 fun y4 =>
    lL σ y4 v1 fun x5 =>
    some (x5, σ)
theorem mm_X3_row (v0 : Option Nat) (v1 : Int32) (σ : Hp) : MM yX3_row mi_X3_row rL [vA v0, vI v1] σ (f_X3_row v0 v1 σ) := by
  refine mm_of (by decide +kernel) rfl rfl (Nat.le_of_ble_eq_true rfl) ?_
  intro X
  unfold f_X3_row
  refine g_aload_n 0 dX3_row_0 rfl rfl ?_
  refine g_iconst 0 dX3_row_1 (by decide) ?_
  refine g_putI fo_2_11 (by decide) rfl q1067 dX3_row_2 fun σ => ?_
  refine g_iload_n 1 dX3_row_5 rfl rfl ?_
  refine g_iconst 0 dX3_row_6 (by decide) ?_
  refine g_aload_n 0 dX3_row_7 rfl rfl ?_
  refine g_getI fo_2_10 (by decide) q1066 dX3_row_8 fun x1 => ?_
  refine g_iconst 1 dX3_row_11 (by decide) ?_
  refine g_isub dX3_row_12 ?_
  refine g_callS_I (mm_X3_in _ _ _ _) rfl q1223 q1224 q109 q1225 dd_X3_in rfl (Nat.le_of_ble_eq_true rfl) (Nat.le_of_ble_eq_true rfl) (Nat.le_of_ble_eq_true rfl) dX3_row_13 fun x2 σ => ?_
  refine g_if_eq 28 dX3_row_16 (by decide) ?_ ?_
  · refine g_aload_n 0 dX3_row_28 rfl rfl ?_
    refine g_callV_I (mm_X3_lost _ _) rfl zc_2 q1309 q1311 qs67 q109 q1312 dv_X3_lost rfl (Nat.le_of_ble_eq_true rfl) (Nat.le_of_ble_eq_true rfl) (Nat.le_of_ble_eq_true rfl) dX3_row_29 fun x3 σ => ?_
    refine g_i2l dX3_row_32 ?_
    exact g_lret rfl dX3_row_33
  · refine g_aload_n 0 dX3_row_19 rfl rfl ?_
    refine g_getR fo_2_9 q1065 dX3_row_20 fun y4 => ?_
    refine g_iload_n 1 dX3_row_23 rfl rfl ?_
    refine g_laload dX3_row_24 fun x5 => ?_
    refine g_goto 33 dX3_row_25 (by decide) ?_
    exact g_lret rfl dX3_row_33
theorem dd_X3_row : yX3_row.cls ≠ "java/lang/invoke/MethodHandle" ∧ yX3_row.cls ≠ "java/lang/invoke/VarHandle" ∧ (parseMethodDescriptor yX3_row.desc).map (fun d => d.parameters.length) = some 1 := by decide +kernel
theorem dv_X3_row : yX3_row.cls = RX3 ∧ yX3_row.cls ≠ "java/lang/invoke/MethodHandle" ∧ yX3_row.cls ≠ "java/lang/invoke/VarHandle" ∧ (parseMethodDescriptor yX3_row.desc).map (fun d => d.parameters.length) = some 1 := ⟨rfl, dd_X3_row⟩
/-! RockingHorse$Node.<init>(LRockingHorse;)V -/
abbrev mi_X4_init : Mi := (cX4_init, 2, "RockingHorse$Node", 1, none, "<init>")
def f_X4_init (v0 : Option Nat) (v1 : Option Nat) (σ : Hp) : Option (Unit × Hp) :=
  ndc σ v0 v1 <|
  nn v0 <|
  some ((), σ)
theorem mm_X4_init (v0 : Option Nat) (v1 : Option Nat) (σ : Hp) : MM yX4_init mi_X4_init rV [vA v0, vA v1] σ (f_X4_init v0 v1 σ) := by
  refine mm_of (by decide +kernel) rfl rfl (Nat.le_of_ble_eq_true rfl) ?_
  intro X
  unfold f_X4_init
  refine g_aload_n 0 dX4_init_0 rfl rfl ?_
  refine g_aload_n 1 dX4_init_1 rfl rfl ?_
  refine g_putNode q499 rfl rfl dX4_init_2 ?_
  refine g_aload_n 0 dX4_init_5 rfl rfl ?_
  refine g_objInit q496 (by decide) (Nat.le_of_ble_eq_true rfl) dX4_init_6 ?_
  exact g_vret rfl dX4_init_9
theorem dd_X4_init : yX4_init.cls ≠ "java/lang/invoke/MethodHandle" ∧ yX4_init.cls ≠ "java/lang/invoke/VarHandle" ∧ (parseMethodDescriptor yX4_init.desc).map (fun d => d.parameters.length) = some 1 := by decide +kernel
theorem dv_X4_init : yX4_init.cls = RX4 ∧ yX4_init.cls ≠ "java/lang/invoke/MethodHandle" ∧ yX4_init.cls ≠ "java/lang/invoke/VarHandle" ∧ (parseMethodDescriptor yX4_init.desc).map (fun d => d.parameters.length) = some 1 := ⟨rfl, dd_X4_init⟩
/-! RockingHorse$Less.<init>(LRockingHorse;LRockingHorse$Node;)V -/
abbrev mi_X5_init : Mi := (cX5_init, 3, "RockingHorse$Less", 2, none, "<init>")
def f_X5_init (v0 : Option Nat) (v1 : Option Nat) (v2 : Option Nat) (σ : Hp) : Option (Unit × Hp) :=
  pR 3 1 σ v0 v1 fun σ =>
  nn v0 <| bnd (f_X4_init v0 v1 σ) fun _ σ =>
  pR 3 0 σ v0 v2 fun σ =>
  some ((), σ)
theorem mm_X5_init (v0 : Option Nat) (v1 : Option Nat) (v2 : Option Nat) (σ : Hp) : MM yX5_init mi_X5_init rV [vA v0, vA v1, vA v2] σ (f_X5_init v0 v1 v2 σ) := by
  refine mm_of (by decide +kernel) rfl rfl (Nat.le_of_ble_eq_true rfl) ?_
  intro X
  unfold f_X5_init
  refine g_aload_n 0 dX5_init_0 rfl rfl ?_
  refine g_aload_n 1 dX5_init_1 rfl rfl ?_
  refine g_putRF rfl fo_3_1 rfl rfl q498 dX5_init_2 fun σ => ?_
  refine g_aload_n 0 dX5_init_5 rfl rfl ?_
  refine g_aload_n 1 dX5_init_6 rfl rfl ?_
  refine g_callIN_V (mm_X4_init _ _ _) rfl rfl nm_493 q494 q116 q495 rfl dd_X4_init rfl (Nat.le_of_ble_eq_true rfl) (Nat.le_of_ble_eq_true rfl) (Nat.le_of_ble_eq_true rfl) dX5_init_7 fun _ σ => ?_
  refine g_aload_n 0 dX5_init_10 rfl rfl ?_
  refine g_aload_n 2 dX5_init_11 rfl rfl ?_
  refine g_putRF rfl fo_3_0 rfl rfl q497 dX5_init_12 fun σ => ?_
  exact g_vret rfl dX5_init_15
theorem dd_X5_init : yX5_init.cls ≠ "java/lang/invoke/MethodHandle" ∧ yX5_init.cls ≠ "java/lang/invoke/VarHandle" ∧ (parseMethodDescriptor yX5_init.desc).map (fun d => d.parameters.length) = some 2 := by decide +kernel
theorem dv_X5_init : yX5_init.cls = RX5 ∧ yX5_init.cls ≠ "java/lang/invoke/MethodHandle" ∧ yX5_init.cls ≠ "java/lang/invoke/VarHandle" ∧ (parseMethodDescriptor yX5_init.desc).map (fun d => d.parameters.length) = some 2 := ⟨rfl, dd_X5_init⟩
/-! RockingHorse$Number.<init>(LRockingHorse;I)V -/
abbrev mi_X6_init : Mi := (cX6_init, 3, "RockingHorse$Number", 2, none, "<init>")
def f_X6_init (v0 : Option Nat) (v1 : Option Nat) (v2 : Int32) (σ : Hp) : Option (Unit × Hp) :=
  pR 4 1 σ v0 v1 fun σ =>
  nn v0 <| bnd (f_X4_init v0 v1 σ) fun _ σ =>
  pI 0 4 0 σ v0 v2 fun σ =>
  some ((), σ)
theorem mm_X6_init (v0 : Option Nat) (v1 : Option Nat) (v2 : Int32) (σ : Hp) : MM yX6_init mi_X6_init rV [vA v0, vA v1, vI v2] σ (f_X6_init v0 v1 v2 σ) := by
  refine mm_of (by decide +kernel) rfl rfl (Nat.le_of_ble_eq_true rfl) ?_
  intro X
  unfold f_X6_init
  refine g_aload_n 0 dX6_init_0 rfl rfl ?_
  refine g_aload_n 1 dX6_init_1 rfl rfl ?_
  refine g_putRF rfl fo_4_1 rfl rfl q524 dX6_init_2 fun σ => ?_
  refine g_aload_n 0 dX6_init_5 rfl rfl ?_
  refine g_aload_n 1 dX6_init_6 rfl rfl ?_
  refine g_callIN_V (mm_X4_init _ _ _) rfl rfl nm_522 q494 q116 q495 rfl dd_X4_init rfl (Nat.le_of_ble_eq_true rfl) (Nat.le_of_ble_eq_true rfl) (Nat.le_of_ble_eq_true rfl) dX6_init_7 fun _ σ => ?_
  refine g_aload_n 0 dX6_init_10 rfl rfl ?_
  refine g_iload_n 2 dX6_init_11 rfl rfl ?_
  refine g_putIF rfl fo_4_0 rfl (by decide) rfl q523 dX6_init_12 fun σ => ?_
  exact g_vret rfl dX6_init_15
theorem dd_X6_init : yX6_init.cls ≠ "java/lang/invoke/MethodHandle" ∧ yX6_init.cls ≠ "java/lang/invoke/VarHandle" ∧ (parseMethodDescriptor yX6_init.desc).map (fun d => d.parameters.length) = some 2 := by decide +kernel
theorem dv_X6_init : yX6_init.cls = RX6 ∧ yX6_init.cls ≠ "java/lang/invoke/MethodHandle" ∧ yX6_init.cls ≠ "java/lang/invoke/VarHandle" ∧ (parseMethodDescriptor yX6_init.desc).map (fun d => d.parameters.length) = some 2 := ⟨rfl, dd_X6_init⟩
/-! RockingHorse$Sign.<init>(LRockingHorse;I)V -/
abbrev mi_X7_init : Mi := (cX7_init, 3, "RockingHorse$Sign", 2, none, "<init>")
def f_X7_init (v0 : Option Nat) (v1 : Option Nat) (v2 : Int32) (σ : Hp) : Option (Unit × Hp) :=
  pR 5 1 σ v0 v1 fun σ =>
  nn v0 <| bnd (f_X4_init v0 v1 σ) fun _ σ =>
  pI 0 5 0 σ v0 v2 fun σ =>
  some ((), σ)
theorem mm_X7_init (v0 : Option Nat) (v1 : Option Nat) (v2 : Int32) (σ : Hp) : MM yX7_init mi_X7_init rV [vA v0, vA v1, vI v2] σ (f_X7_init v0 v1 v2 σ) := by
  refine mm_of (by decide +kernel) rfl rfl (Nat.le_of_ble_eq_true rfl) ?_
  intro X
  unfold f_X7_init
  refine g_aload_n 0 dX7_init_0 rfl rfl ?_
  refine g_aload_n 1 dX7_init_1 rfl rfl ?_
  refine g_putRF rfl fo_5_1 rfl rfl q539 dX7_init_2 fun σ => ?_
  refine g_aload_n 0 dX7_init_5 rfl rfl ?_
  refine g_aload_n 1 dX7_init_6 rfl rfl ?_
  refine g_callIN_V (mm_X4_init _ _ _) rfl rfl nm_537 q494 q116 q495 rfl dd_X4_init rfl (Nat.le_of_ble_eq_true rfl) (Nat.le_of_ble_eq_true rfl) (Nat.le_of_ble_eq_true rfl) dX7_init_7 fun _ σ => ?_
  refine g_aload_n 0 dX7_init_10 rfl rfl ?_
  refine g_iload_n 2 dX7_init_11 rfl rfl ?_
  refine g_putIF rfl fo_5_0 rfl (by decide) rfl q538 dX7_init_12 fun σ => ?_
  exact g_vret rfl dX7_init_15
theorem dd_X7_init : yX7_init.cls ≠ "java/lang/invoke/MethodHandle" ∧ yX7_init.cls ≠ "java/lang/invoke/VarHandle" ∧ (parseMethodDescriptor yX7_init.desc).map (fun d => d.parameters.length) = some 2 := by decide +kernel
theorem dv_X7_init : yX7_init.cls = RX7 ∧ yX7_init.cls ≠ "java/lang/invoke/MethodHandle" ∧ yX7_init.cls ≠ "java/lang/invoke/VarHandle" ∧ (parseMethodDescriptor yX7_init.desc).map (fun d => d.parameters.length) = some 2 := ⟨rfl, dd_X7_init⟩
/-! RockingHorse$Act.<init>(LRockingHorse;CLRockingHorse$Node;LRockingHorse$Node;)V -/
abbrev mi_X8_init : Mi := (cX8_init, 5, "RockingHorse$Act", 2, none, "<init>")
def f_X8_init (v0 : Option Nat) (v1 : Option Nat) (v2 : Int32) (v3 : Option Nat) (v4 : Option Nat) (σ : Hp) : Option (Unit × Hp) :=
  pR 6 3 σ v0 v1 fun σ =>
  nn v0 <| bnd (f_X4_init v0 v1 σ) fun _ σ =>
  pI 3 6 0 σ v0 v2 fun σ =>
  pR 6 1 σ v0 v3 fun σ =>
  pR 6 2 σ v0 v4 fun σ =>
  some ((), σ)
theorem mm_X8_init (v0 : Option Nat) (v1 : Option Nat) (v2 : Int32) (v3 : Option Nat) (v4 : Option Nat) (σ : Hp) : MM yX8_init mi_X8_init rV [vA v0, vA v1, vI v2, vA v3, vA v4] σ (f_X8_init v0 v1 v2 v3 v4 σ) := by
  refine mm_of (by decide +kernel) rfl rfl (Nat.le_of_ble_eq_true rfl) ?_
  intro X
  unfold f_X8_init
  refine g_aload_n 0 dX8_init_0 rfl rfl ?_
  refine g_aload_n 1 dX8_init_1 rfl rfl ?_
  refine g_putRF rfl fo_6_3 rfl rfl q561 dX8_init_2 fun σ => ?_
  refine g_aload_n 0 dX8_init_5 rfl rfl ?_
  refine g_aload_n 1 dX8_init_6 rfl rfl ?_
  refine g_callIN_V (mm_X4_init _ _ _) rfl rfl nm_557 q494 q116 q495 rfl dd_X4_init rfl (Nat.le_of_ble_eq_true rfl) (Nat.le_of_ble_eq_true rfl) (Nat.le_of_ble_eq_true rfl) dX8_init_7 fun _ σ => ?_
  refine g_aload_n 0 dX8_init_10 rfl rfl ?_
  refine g_iload_n 2 dX8_init_11 rfl rfl ?_
  refine g_putIF rfl fo_6_0 rfl (by decide) rfl q558 dX8_init_12 fun σ => ?_
  refine g_aload_n 0 dX8_init_15 rfl rfl ?_
  refine g_aload_n 3 dX8_init_16 rfl rfl ?_
  refine g_putRF rfl fo_6_1 rfl rfl q559 dX8_init_17 fun σ => ?_
  refine g_aload_n 0 dX8_init_20 rfl rfl ?_
  refine g_aload dX8_init_21 rfl ?_
  refine g_putRF rfl fo_6_2 rfl rfl q560 dX8_init_23 fun σ => ?_
  exact g_vret rfl dX8_init_26
theorem dd_X8_init : yX8_init.cls ≠ "java/lang/invoke/MethodHandle" ∧ yX8_init.cls ≠ "java/lang/invoke/VarHandle" ∧ (parseMethodDescriptor yX8_init.desc).map (fun d => d.parameters.length) = some 4 := by decide +kernel
theorem dv_X8_init : yX8_init.cls = RX8 ∧ yX8_init.cls ≠ "java/lang/invoke/MethodHandle" ∧ yX8_init.cls ≠ "java/lang/invoke/VarHandle" ∧ (parseMethodDescriptor yX8_init.desc).map (fun d => d.parameters.length) = some 4 := ⟨rfl, dd_X8_init⟩
/-! java/lang/String.isLatin1()Z -/
abbrev mi_J1_isLatin1 : Mi := (cJ1_isLatin1, 1, "java/lang/String", 0, some .boolean, "isLatin1")
def f_J1_isLatin1 (v0 : Nat) (σ : Hp) : Option (Int32 × Hp) :=
  if (1 : Int32) = 0 then
    rz1 0 σ
  else
    sV v0 <|
    if (0 : Int32) = 0 then
      rz1 1 σ
    else
      rz1 0 σ
theorem mm_J1_isLatin1 (v0 : Nat) (σ : Hp) : MM yJ1_isLatin1 mi_J1_isLatin1 rI [vS v0] σ (f_J1_isLatin1 v0 σ) := by
  refine mm_of (by decide +kernel) rfl rfl (Nat.le_of_ble_eq_true rfl) ?_
  intro X
  unfold f_J1_isLatin1
  refine g_compact q385 dJ1_isLatin1_0 ?_
  refine g_if_eq 17 dJ1_isLatin1_3 (by decide) ?_ ?_
  · refine g_iconst 0 dJ1_isLatin1_17 (by decide) ?_
    exact g_zret rfl dJ1_isLatin1_18
  · refine g_aload_nS 0 dJ1_isLatin1_6 rfl rfl ?_
    refine g_strCoder q1687 dJ1_isLatin1_7 ?_
    refine g_if_ne 17 dJ1_isLatin1_10 (by decide) ?_ ?_
    · refine g_iconst 0 dJ1_isLatin1_17 (by decide) ?_
      exact g_zret rfl dJ1_isLatin1_18
    · refine g_iconst 1 dJ1_isLatin1_13 (by decide) ?_
      refine g_goto 18 dJ1_isLatin1_14 (by decide) ?_
      exact g_zret rfl dJ1_isLatin1_18
theorem dd_J1_isLatin1 : yJ1_isLatin1.cls ≠ "java/lang/invoke/MethodHandle" ∧ yJ1_isLatin1.cls ≠ "java/lang/invoke/VarHandle" ∧ (parseMethodDescriptor yJ1_isLatin1.desc).map (fun d => d.parameters.length) = some 0 := by decide +kernel
theorem dv_J1_isLatin1 : yJ1_isLatin1.cls = RJ1 ∧ yJ1_isLatin1.cls ≠ "java/lang/invoke/MethodHandle" ∧ yJ1_isLatin1.cls ≠ "java/lang/invoke/VarHandle" ∧ (parseMethodDescriptor yJ1_isLatin1.desc).map (fun d => d.parameters.length) = some 0 := ⟨rfl, dd_J1_isLatin1⟩
/-! java/lang/String.coder()B -/
abbrev mi_J1_coder : Mi := (cJ1_coder, 1, "java/lang/String", 0, some .byte, "coder")
def f_J1_coder (v0 : Nat) (σ : Hp) : Option (Int32 × Hp) :=
  if (1 : Int32) = 0 then
    rz1 1 σ
  else
    sV v0 <|
    rz1 (0 : Int32) σ
theorem mm_J1_coder (v0 : Nat) (σ : Hp) : MM yJ1_coder mi_J1_coder rI [vS v0] σ (f_J1_coder v0 σ) := by
  refine mm_of (by decide +kernel) rfl rfl (Nat.le_of_ble_eq_true rfl) ?_
  intro X
  unfold f_J1_coder
  refine g_compact q385 dJ1_coder_0 ?_
  refine g_if_eq 13 dJ1_coder_3 (by decide) ?_ ?_
  · refine g_iconst 1 dJ1_coder_13 (by decide) ?_
    exact g_bret rfl dJ1_coder_14
  · refine g_aload_nS 0 dJ1_coder_6 rfl rfl ?_
    refine g_strCoder q1687 dJ1_coder_7 ?_
    refine g_goto 14 dJ1_coder_10 (by decide) ?_
    exact g_bret rfl dJ1_coder_14
theorem dd_J1_coder : yJ1_coder.cls ≠ "java/lang/invoke/MethodHandle" ∧ yJ1_coder.cls ≠ "java/lang/invoke/VarHandle" ∧ (parseMethodDescriptor yJ1_coder.desc).map (fun d => d.parameters.length) = some 0 := by decide +kernel
theorem dv_J1_coder : yJ1_coder.cls = RJ1 ∧ yJ1_coder.cls ≠ "java/lang/invoke/MethodHandle" ∧ yJ1_coder.cls ≠ "java/lang/invoke/VarHandle" ∧ (parseMethodDescriptor yJ1_coder.desc).map (fun d => d.parameters.length) = some 0 := ⟨rfl, dd_J1_coder⟩
/-! java/lang/StringLatin1.canEncode(I)Z -/
abbrev mi_J2_canEncode : Mi := (cJ2_canEncode, 1, "java/lang/StringLatin1", 0, some .boolean, "canEncode")
def f_J2_canEncode (v0 : Int32) (σ : Hp) : Option (Int32 × Hp) :=
  if v0 < 0 then
    rz1 0 σ
  else
    if 255 < v0 then
      rz1 0 σ
    else
      rz1 1 σ
theorem mm_J2_canEncode (v0 : Int32) (σ : Hp) : MM yJ2_canEncode mi_J2_canEncode rI [vI v0] σ (f_J2_canEncode v0 σ) := by
  refine mm_of (by decide +kernel) rfl rfl (Nat.le_of_ble_eq_true rfl) ?_
  intro X
  unfold f_J2_canEncode
  refine g_iload_n 0 dJ2_canEncode_0 rfl rfl ?_
  refine g_if_lt 15 dJ2_canEncode_1 (by decide) ?_ ?_
  · refine g_iconst 0 dJ2_canEncode_15 (by decide) ?_
    exact g_zret rfl dJ2_canEncode_16
  · refine g_iload_n 0 dJ2_canEncode_4 rfl rfl ?_
    refine g_sipush 255 dJ2_canEncode_5 (by decide) ?_
    refine g_icmp_gt 15 dJ2_canEncode_8 (by decide) ?_ ?_
    · refine g_iconst 0 dJ2_canEncode_15 (by decide) ?_
      exact g_zret rfl dJ2_canEncode_16
    · refine g_iconst 1 dJ2_canEncode_11 (by decide) ?_
      refine g_goto 16 dJ2_canEncode_12 (by decide) ?_
      exact g_zret rfl dJ2_canEncode_16
theorem dd_J2_canEncode : yJ2_canEncode.cls ≠ "java/lang/invoke/MethodHandle" ∧ yJ2_canEncode.cls ≠ "java/lang/invoke/VarHandle" ∧ (parseMethodDescriptor yJ2_canEncode.desc).map (fun d => d.parameters.length) = some 1 := by decide +kernel
/-! java/lang/StringLatin1.indexOfChar([BIII)I -/
abbrev mi_J2_indexOfChar : Mi := (cJ2_indexOfChar, 6, "java/lang/StringLatin1", 0, some .int, "indexOfChar")
def f_J2_indexOfChar_b7 (v0 : Nat) (v3 : Int32) (v4 : Int32) (k0 : Unit → Hp → Option (Int32 × Hp)) (ag : Int32 → Hp → Option (Int32 × Hp)) (a : Int32) (σ : Hp) : Option (Int32 × Hp) :=
  if v3 ≤ a then
    k0 () σ
  else
    lS v0 a fun x1 =>
    if x1 = v4 then
      some (a, σ)
    else
      ag (a + 1) σ
def f_J2_indexOfChar (v0 : Nat) (v1 : Int32) (v2 : Int32) (v3 : Int32) (σ : Hp) : Option (Int32 × Hp) :=
  lp 2000 (f_J2_indexOfChar_b7 v0 v3 (i2b v1) (fun (a2 : Unit) σ =>
      some ((-1), σ))) v2 σ
theorem ok_J2_indexOfChar_b7 (X : Mx) (v0 : Nat) (v3 : Int32) (v4 : Int32) {k0 : Unit → Hp → Option (Int32 × Hp)} (hk0 : ∀ (a : Unit) (σ : Hp), GG X mi_J2_indexOfChar (QM X rI) 31 [] [] σ (k0 a σ)) : ∀ (m : Nat) (a : Int32) (σ : Hp), GG X mi_J2_indexOfChar (QM X rI) 7 [(0, vS v0), (3, vI v3), (4, vI v4), (5, vI a)] [] σ (lp m (f_J2_indexOfChar_b7 v0 v3 v4 k0) a σ) := by
  refine g_lp (fun (a : Int32) => [(0, vS v0), (3, vI v3), (4, vI v4), (5, vI a)]) ?_
  intro ag hag a σ
  unfold f_J2_indexOfChar_b7
  refine g_iload dJ2_indexOfChar_7 rfl ?_
  refine g_iload_n 3 dJ2_indexOfChar_9 rfl rfl ?_
  refine g_icmp_ge 31 dJ2_indexOfChar_10 (by decide) ?_ ?_
  · exact g_jmp (hk0 _ _) rfl
  · refine g_aload_nS 0 dJ2_indexOfChar_13 rfl rfl ?_
    refine g_iload dJ2_indexOfChar_14 rfl ?_
    refine g_baloadS dJ2_indexOfChar_16 fun x1 => ?_
    refine g_iload dJ2_indexOfChar_17 rfl ?_
    refine g_icmp_ne 25 dJ2_indexOfChar_19 (by decide) ?_ ?_
    · refine g_iinc 1 dJ2_indexOfChar_25 (by decide) rfl (lt_b rfl) ?_
      refine g_goto 7 dJ2_indexOfChar_28 (by decide) ?_
      exact g_jmp (hag _ _) rfl
    · refine g_iload dJ2_indexOfChar_22 rfl ?_
      exact g_iret rfl dJ2_indexOfChar_24
theorem mm_J2_indexOfChar (v0 : Nat) (v1 : Int32) (v2 : Int32) (v3 : Int32) (σ : Hp) : MM yJ2_indexOfChar mi_J2_indexOfChar rI [vS v0, vI v1, vI v2, vI v3] σ (f_J2_indexOfChar v0 v1 v2 v3 σ) := by
  refine mm_of (by decide +kernel) rfl rfl (Nat.le_of_ble_eq_true rfl) ?_
  intro X
  unfold f_J2_indexOfChar
  refine g_iload_n 1 dJ2_indexOfChar_0 rfl rfl ?_
  refine g_i2b dJ2_indexOfChar_1 ?_
  refine g_istore dJ2_indexOfChar_2 (lt_b rfl) ?_
  refine g_iload_n 2 dJ2_indexOfChar_4 rfl rfl ?_
  refine g_istore dJ2_indexOfChar_5 (lt_b rfl) ?_
  refine g_jmp (ok_J2_indexOfChar_b7 X v0 v3 (i2b v1) ?_ _ _ _) rfl
  · intro a2 σ
    refine g_iconst (-1) dJ2_indexOfChar_31 (by decide) ?_
    exact g_iret rfl dJ2_indexOfChar_32
theorem dd_J2_indexOfChar : yJ2_indexOfChar.cls ≠ "java/lang/invoke/MethodHandle" ∧ yJ2_indexOfChar.cls ≠ "java/lang/invoke/VarHandle" ∧ (parseMethodDescriptor yJ2_indexOfChar.desc).map (fun d => d.parameters.length) = some 4 := by decide +kernel
/-! java/lang/Integer.bitCount(I)I -/
abbrev mi_J10_bitCount : Mi := (cJ10_bitCount, 1, "java/lang/Integer", 0, some .int, "bitCount")
def f_J10_bitCount (v0 : Int32) (σ : Hp) : Option (Int32 × Hp) :=
  some (((((((((v0 - ((ush v0 1) &&& 1431655765)) &&& 858993459) + ((ush (v0 - ((ush v0 1) &&& 1431655765)) 2) &&& 858993459)) + (ush (((v0 - ((ush v0 1) &&& 1431655765)) &&& 858993459) + ((ush (v0 - ((ush v0 1) &&& 1431655765)) 2) &&& 858993459)) 4)) &&& 252645135) + (ush (((((v0 - ((ush v0 1) &&& 1431655765)) &&& 858993459) + ((ush (v0 - ((ush v0 1) &&& 1431655765)) 2) &&& 858993459)) + (ush (((v0 - ((ush v0 1) &&& 1431655765)) &&& 858993459) + ((ush (v0 - ((ush v0 1) &&& 1431655765)) 2) &&& 858993459)) 4)) &&& 252645135) 8)) + (ush ((((((v0 - ((ush v0 1) &&& 1431655765)) &&& 858993459) + ((ush (v0 - ((ush v0 1) &&& 1431655765)) 2) &&& 858993459)) + (ush (((v0 - ((ush v0 1) &&& 1431655765)) &&& 858993459) + ((ush (v0 - ((ush v0 1) &&& 1431655765)) 2) &&& 858993459)) 4)) &&& 252645135) + (ush (((((v0 - ((ush v0 1) &&& 1431655765)) &&& 858993459) + ((ush (v0 - ((ush v0 1) &&& 1431655765)) 2) &&& 858993459)) + (ush (((v0 - ((ush v0 1) &&& 1431655765)) &&& 858993459) + ((ush (v0 - ((ush v0 1) &&& 1431655765)) 2) &&& 858993459)) 4)) &&& 252645135) 8)) 16)) &&& 63), σ)
theorem mm_J10_bitCount (v0 : Int32) (σ : Hp) : MM yJ10_bitCount mi_J10_bitCount rI [vI v0] σ (f_J10_bitCount v0 σ) := by
  refine mm_of (by decide +kernel) rfl rfl (Nat.le_of_ble_eq_true rfl) ?_
  intro X
  unfold f_J10_bitCount
  refine g_iload_n 0 dJ10_bitCount_0 rfl rfl ?_
  refine g_iload_n 0 dJ10_bitCount_1 rfl rfl ?_
  refine g_iconst 1 dJ10_bitCount_2 (by decide) ?_
  refine g_iushr dJ10_bitCount_3 ?_
  refine g_ldc_w dJ10_bitCount_4 q602 ?_
  refine g_iand dJ10_bitCount_7 ?_
  refine g_isub dJ10_bitCount_8 ?_
  refine g_istore_n 0 dJ10_bitCount_9 rfl (lt_b rfl) ?_
  refine g_iload_n 0 dJ10_bitCount_10 rfl rfl ?_
  refine g_ldc_w dJ10_bitCount_11 q603 ?_
  refine g_iand dJ10_bitCount_14 ?_
  refine g_iload_n 0 dJ10_bitCount_15 rfl rfl ?_
  refine g_iconst 2 dJ10_bitCount_16 (by decide) ?_
  refine g_iushr dJ10_bitCount_17 ?_
  refine g_ldc_w dJ10_bitCount_18 q603 ?_
  refine g_iand dJ10_bitCount_21 ?_
  refine g_iadd dJ10_bitCount_22 ?_
  refine g_istore_n 0 dJ10_bitCount_23 rfl (lt_b rfl) ?_
  refine g_iload_n 0 dJ10_bitCount_24 rfl rfl ?_
  refine g_iload_n 0 dJ10_bitCount_25 rfl rfl ?_
  refine g_iconst 4 dJ10_bitCount_26 (by decide) ?_
  refine g_iushr dJ10_bitCount_27 ?_
  refine g_iadd dJ10_bitCount_28 ?_
  refine g_ldc_w dJ10_bitCount_29 q604 ?_
  refine g_iand dJ10_bitCount_32 ?_
  refine g_istore_n 0 dJ10_bitCount_33 rfl (lt_b rfl) ?_
  refine g_iload_n 0 dJ10_bitCount_34 rfl rfl ?_
  refine g_iload_n 0 dJ10_bitCount_35 rfl rfl ?_
  refine g_bipush 8 dJ10_bitCount_36 (by decide) ?_
  refine g_iushr dJ10_bitCount_38 ?_
  refine g_iadd dJ10_bitCount_39 ?_
  refine g_istore_n 0 dJ10_bitCount_40 rfl (lt_b rfl) ?_
  refine g_iload_n 0 dJ10_bitCount_41 rfl rfl ?_
  refine g_iload_n 0 dJ10_bitCount_42 rfl rfl ?_
  refine g_bipush 16 dJ10_bitCount_43 (by decide) ?_
  refine g_iushr dJ10_bitCount_45 ?_
  refine g_iadd dJ10_bitCount_46 ?_
  refine g_istore_n 0 dJ10_bitCount_47 rfl (lt_b rfl) ?_
  refine g_iload_n 0 dJ10_bitCount_48 rfl rfl ?_
  refine g_bipush 63 dJ10_bitCount_49 (by decide) ?_
  refine g_iand dJ10_bitCount_51 ?_
  exact g_iret rfl dJ10_bitCount_52
theorem dd_J10_bitCount : yJ10_bitCount.cls ≠ "java/lang/invoke/MethodHandle" ∧ yJ10_bitCount.cls ≠ "java/lang/invoke/VarHandle" ∧ (parseMethodDescriptor yJ10_bitCount.desc).map (fun d => d.parameters.length) = some 1 := by decide +kernel
/-! java/lang/Integer.numberOfTrailingZeros(I)I -/
abbrev mi_J10_numberOfTrailingZeros : Mi := (cJ10_numberOfTrailingZeros, 2, "java/lang/Integer", 0, some .int, "numberOfTrailingZeros")
def f_J10_numberOfTrailingZeros (v0 : Int32) (σ : Hp) : Option (Int32 × Hp) :=
  if 0 < ((v0 ^^^ (-1)) &&& (v0 - 1)) then
    jn (fun (a1 : Int32 × Int32) σ =>
        jn (fun (a3 : Int32 × Int32) σ =>
            jn (fun (a5 : Int32 × Int32) σ =>
                jn (fun (a7 : Int32 × Int32) σ =>
                    some ((a7.2 + (ush a7.1 1)), σ)) fun j8 =>
                if a5.1 ≤ 4 then
                  j8 (a5.1, a5.2) σ
                else
                  j8 ((ush a5.1 2), (a5.2 + 2)) σ) fun j6 =>
            if a3.1 ≤ 16 then
              j6 (a3.1, a3.2) σ
            else
              j6 ((ush a3.1 4), (a3.2 + 4)) σ) fun j4 =>
        if a1.1 ≤ 256 then
          j4 (a1.1, a1.2) σ
        else
          j4 ((ush a1.1 8), (a1.2 + 8)) σ) fun j2 =>
    if ((v0 ^^^ (-1)) &&& (v0 - 1)) ≤ 65536 then
      j2 (((v0 ^^^ (-1)) &&& (v0 - 1)), 1) σ
    else
      j2 ((ush ((v0 ^^^ (-1)) &&& (v0 - 1)) 16), (1 + 16)) σ
  else
    some ((((v0 ^^^ (-1)) &&& (v0 - 1)) &&& 32), σ)
theorem mm_J10_numberOfTrailingZeros (v0 : Int32) (σ : Hp) : MM yJ10_numberOfTrailingZeros mi_J10_numberOfTrailingZeros rI [vI v0] σ (f_J10_numberOfTrailingZeros v0 σ) := by
  refine mm_of (by decide +kernel) rfl rfl (Nat.le_of_ble_eq_true rfl) ?_
  intro X
  unfold f_J10_numberOfTrailingZeros
  refine g_iload_n 0 dJ10_numberOfTrailingZeros_0 rfl rfl ?_
  refine g_iconst (-1) dJ10_numberOfTrailingZeros_1 (by decide) ?_
  refine g_ixor dJ10_numberOfTrailingZeros_2 ?_
  refine g_iload_n 0 dJ10_numberOfTrailingZeros_3 rfl rfl ?_
  refine g_iconst 1 dJ10_numberOfTrailingZeros_4 (by decide) ?_
  refine g_isub dJ10_numberOfTrailingZeros_5 ?_
  refine g_iand dJ10_numberOfTrailingZeros_6 ?_
  refine g_istore_n 0 dJ10_numberOfTrailingZeros_7 rfl (lt_b rfl) ?_
  refine g_iload_n 0 dJ10_numberOfTrailingZeros_8 rfl rfl ?_
  refine g_if_gt 17 dJ10_numberOfTrailingZeros_9 (by decide) ?_ ?_
  · refine g_iconst 1 dJ10_numberOfTrailingZeros_17 (by decide) ?_
    refine g_istore_n 1 dJ10_numberOfTrailingZeros_18 rfl (lt_b rfl) ?_
    refine g_iload_n 0 dJ10_numberOfTrailingZeros_19 rfl rfl ?_
    refine g_ldc_w dJ10_numberOfTrailingZeros_20 q720 ?_
    refine g_jn (fun j2 => ∀ (a1 : Int32 × Int32) (σ : Hp), GG X mi_J10_numberOfTrailingZeros (QM X rI) 34 [(0, vI a1.1), (1, vI a1.2)] [] σ (j2 a1 σ)) ?_ ?_
    · intro a1 σ
      refine g_iload_n 0 dJ10_numberOfTrailingZeros_34 rfl rfl ?_
      refine g_sipush 256 dJ10_numberOfTrailingZeros_35 (by decide) ?_
      refine g_jn (fun j4 => ∀ (a3 : Int32 × Int32) (σ : Hp), GG X mi_J10_numberOfTrailingZeros (QM X rI) 49 [(0, vI a3.1), (1, vI a3.2)] [] σ (j4 a3 σ)) ?_ ?_
      · intro a3 σ
        refine g_iload_n 0 dJ10_numberOfTrailingZeros_49 rfl rfl ?_
        refine g_bipush 16 dJ10_numberOfTrailingZeros_50 (by decide) ?_
        refine g_jn (fun j6 => ∀ (a5 : Int32 × Int32) (σ : Hp), GG X mi_J10_numberOfTrailingZeros (QM X rI) 62 [(0, vI a5.1), (1, vI a5.2)] [] σ (j6 a5 σ)) ?_ ?_
        · intro a5 σ
          refine g_iload_n 0 dJ10_numberOfTrailingZeros_62 rfl rfl ?_
          refine g_iconst 4 dJ10_numberOfTrailingZeros_63 (by decide) ?_
          refine g_jn (fun j8 => ∀ (a7 : Int32 × Int32) (σ : Hp), GG X mi_J10_numberOfTrailingZeros (QM X rI) 74 [(0, vI a7.1), (1, vI a7.2)] [] σ (j8 a7 σ)) ?_ ?_
          · intro a7 σ
            refine g_iload_n 1 dJ10_numberOfTrailingZeros_74 rfl rfl ?_
            refine g_iload_n 0 dJ10_numberOfTrailingZeros_75 rfl rfl ?_
            refine g_iconst 1 dJ10_numberOfTrailingZeros_76 (by decide) ?_
            refine g_iushr dJ10_numberOfTrailingZeros_77 ?_
            refine g_iadd dJ10_numberOfTrailingZeros_78 ?_
            exact g_iret rfl dJ10_numberOfTrailingZeros_79
          · intro j8 hj8
            refine g_icmp_le 74 dJ10_numberOfTrailingZeros_64 (by decide) ?_ ?_
            · exact g_jmp (hj8 _ _) rfl
            · refine g_iinc 2 dJ10_numberOfTrailingZeros_67 (by decide) rfl (lt_b rfl) ?_
              refine g_iload_n 0 dJ10_numberOfTrailingZeros_70 rfl rfl ?_
              refine g_iconst 2 dJ10_numberOfTrailingZeros_71 (by decide) ?_
              refine g_iushr dJ10_numberOfTrailingZeros_72 ?_
              refine g_istore_n 0 dJ10_numberOfTrailingZeros_73 rfl (lt_b rfl) ?_
              exact g_jmp (hj8 _ _) rfl
        · intro j6 hj6
          refine g_icmp_le 62 dJ10_numberOfTrailingZeros_52 (by decide) ?_ ?_
          · exact g_jmp (hj6 _ _) rfl
          · refine g_iinc 4 dJ10_numberOfTrailingZeros_55 (by decide) rfl (lt_b rfl) ?_
            refine g_iload_n 0 dJ10_numberOfTrailingZeros_58 rfl rfl ?_
            refine g_iconst 4 dJ10_numberOfTrailingZeros_59 (by decide) ?_
            refine g_iushr dJ10_numberOfTrailingZeros_60 ?_
            refine g_istore_n 0 dJ10_numberOfTrailingZeros_61 rfl (lt_b rfl) ?_
            exact g_jmp (hj6 _ _) rfl
      · intro j4 hj4
        refine g_icmp_le 49 dJ10_numberOfTrailingZeros_38 (by decide) ?_ ?_
        · exact g_jmp (hj4 _ _) rfl
        · refine g_iinc 8 dJ10_numberOfTrailingZeros_41 (by decide) rfl (lt_b rfl) ?_
          refine g_iload_n 0 dJ10_numberOfTrailingZeros_44 rfl rfl ?_
          refine g_bipush 8 dJ10_numberOfTrailingZeros_45 (by decide) ?_
          refine g_iushr dJ10_numberOfTrailingZeros_47 ?_
          refine g_istore_n 0 dJ10_numberOfTrailingZeros_48 rfl (lt_b rfl) ?_
          exact g_jmp (hj4 _ _) rfl
    · intro j2 hj2
      refine g_icmp_le 34 dJ10_numberOfTrailingZeros_23 (by decide) ?_ ?_
      · exact g_jmp (hj2 _ _) rfl
      · refine g_iinc 16 dJ10_numberOfTrailingZeros_26 (by decide) rfl (lt_b rfl) ?_
        refine g_iload_n 0 dJ10_numberOfTrailingZeros_29 rfl rfl ?_
        refine g_bipush 16 dJ10_numberOfTrailingZeros_30 (by decide) ?_
        refine g_iushr dJ10_numberOfTrailingZeros_32 ?_
        refine g_istore_n 0 dJ10_numberOfTrailingZeros_33 rfl (lt_b rfl) ?_
        exact g_jmp (hj2 _ _) rfl
  · refine g_iload_n 0 dJ10_numberOfTrailingZeros_12 rfl rfl ?_
    refine g_bipush 32 dJ10_numberOfTrailingZeros_13 (by decide) ?_
    refine g_iand dJ10_numberOfTrailingZeros_15 ?_
    exact g_iret rfl dJ10_numberOfTrailingZeros_16
theorem dd_J10_numberOfTrailingZeros : yJ10_numberOfTrailingZeros.cls ≠ "java/lang/invoke/MethodHandle" ∧ yJ10_numberOfTrailingZeros.cls ≠ "java/lang/invoke/VarHandle" ∧ (parseMethodDescriptor yJ10_numberOfTrailingZeros.desc).map (fun d => d.parameters.length) = some 1 := by decide +kernel
abbrev mi_X1_smoothsFrom (n : Nat) : Mi := (cX1_smoothsFrom, 4, "RockingHorse", 0 + n, none, "smoothsFrom")
theorem dd_X1_smoothsFrom : yX1_smoothsFrom.cls ≠ "java/lang/invoke/MethodHandle" ∧ yX1_smoothsFrom.cls ≠ "java/lang/invoke/VarHandle" ∧ (parseMethodDescriptor yX1_smoothsFrom.desc).map (fun d => d.parameters.length) = some 2 := by decide +kernel
theorem dv_X1_smoothsFrom : yX1_smoothsFrom.cls = RX1 ∧ yX1_smoothsFrom.cls ≠ "java/lang/invoke/MethodHandle" ∧ yX1_smoothsFrom.cls ≠ "java/lang/invoke/VarHandle" ∧ (parseMethodDescriptor yX1_smoothsFrom.desc).map (fun d => d.parameters.length) = some 2 := ⟨rfl, dd_X1_smoothsFrom⟩
/-! RockingHorse.smoothsFrom(II)V -/
def f_X1_smoothsFrom_b40 (rc0 : (Option Nat) → Int32 → Int32 → Hp → Option (Unit × Hp)) (v0 : Option Nat) (v1 : Int32) (v2 : Int32) (k0 : Unit → Hp → Option (Unit × Hp)) (ag : Int32 → Hp → Option (Unit × Hp)) (a : Int32) (σ : Hp) : Option (Unit × Hp) :=
  gI 0 5 σ v0 fun x3 =>
  if x3 ≤ a then
    k0 () σ
  else
    gR 0 35 σ v0 fun y4 =>
    lI 100 σ y4 a fun x5 =>
    bnd (f_X1_has x5 v1 σ) fun x6 σ =>
    jn (fun (a7 : Unit) σ =>
        ag (a + 1) σ) fun j8 =>
    if x6 = 0 then
      j8 () σ
    else
      gR 0 26 σ v0 fun y9 =>
      lI 100 σ y9 a fun x10 =>
      gR 0 2 σ v0 fun y11 =>
      lI 100 σ y11 a fun x12 =>
      if x10 = x12 then
        j8 () σ
      else
        gR 0 26 σ v0 fun y13 =>
        lI 100 σ y13 a fun x14 =>
        sI σ y13 a (x14 + 1) fun σ =>
        gR 0 30 σ v0 fun y15 =>
        sI σ y15 v1 a fun σ =>
        jn (fun (a16 : Int32) σ =>
            ob 0 σ v0 fun _ => bnd (rc0 v0 (v1 + 1) (v2 + a16) σ) fun _ σ =>
            gR 0 26 σ v0 fun y18 =>
            lI 100 σ y18 a fun x19 =>
            sI σ y18 a (x19 - 1) fun σ =>
            j8 () σ) fun j17 =>
        if v1 = 0 then
          j17 0 σ
        else
          gR 0 3 σ v0 fun y20 =>
          lI 100 σ y20 a fun x21 =>
          gR 0 3 σ v0 fun y22 =>
          gR 0 30 σ v0 fun y23 =>
          lI 100 σ y23 (v1 - 1) fun x24 =>
          lI 100 σ y22 x24 fun x25 =>
          j17 (iabs (x21 - x25)) σ
def fb_X1_smoothsFrom (rc0 : (Option Nat) → Int32 → Int32 → Hp → Option (Unit × Hp)) (v0 : Option Nat) (v1 : Int32) (v2 : Int32) (σ : Hp) : Option (Unit × Hp) :=
  gI 0 43 σ v0 fun x1 =>
  if v2 < x1 then
    gI 0 6 σ v0 fun x2 =>
    if v1 = x2 then
      pI 0 0 43 σ v0 v2 fun σ =>
      gR 0 30 σ v0 fun y27 =>
      gR 0 40 σ v0 fun y28 =>
      cpA σ y27 0 y28 0 8 fun σ =>
      some ((), σ)
    else
      lp 2000 (f_X1_smoothsFrom_b40 rc0 v0 v1 v2 (fun (a26 : Unit) σ =>
          some ((), σ))) 0 σ
  else
    some ((), σ)
theorem ok_X1_smoothsFrom_b40 (n : Nat) (rc0 : (Option Nat) → Int32 → Int32 → Hp → Option (Unit × Hp)) (ih0 : ∀ (v0 : Option Nat) (v1 : Int32) (v2 : Int32) (σ : Hp), MM yX1_smoothsFrom (mi_X1_smoothsFrom n) rV [vA v0, vI v1, vI v2] σ (rc0 v0 v1 v2 σ)) (X : Mx) (v0 : Option Nat) (v1 : Int32) (v2 : Int32) {k0 : Unit → Hp → Option (Unit × Hp)} (hk0 : ∀ (a : Unit) (σ : Hp), GG X (mi_X1_smoothsFrom (n + 1)) (QM X rV) 152 [] [] σ (k0 a σ)) : ∀ (m : Nat) (a : Int32) (σ : Hp), GG X (mi_X1_smoothsFrom (n + 1)) (QM X rV) 40 [(0, vA v0), (1, vI v1), (2, vI v2), (3, vI a)] [] σ (lp m (f_X1_smoothsFrom_b40 rc0 v0 v1 v2 k0) a σ) := by
  refine g_lp (fun (a : Int32) => [(0, vA v0), (1, vI v1), (2, vI v2), (3, vI a)]) ?_
  intro ag hag a σ
  unfold f_X1_smoothsFrom_b40
  refine g_iload_n 3 dX1_smoothsFrom_40 rfl rfl ?_
  refine g_aload_n 0 dX1_smoothsFrom_41 rfl rfl ?_
  refine g_getI fo_0_5 (by decide) q179 dX1_smoothsFrom_42 fun x3 => ?_
  refine g_icmp_ge 152 dX1_smoothsFrom_45 (by decide) ?_ ?_
  · exact g_jmp (hk0 _ _) rfl
  · refine g_aload_n 0 dX1_smoothsFrom_48 rfl rfl ?_
    refine g_getR fo_0_35 q212 dX1_smoothsFrom_49 fun y4 => ?_
    refine g_iload_n 3 dX1_smoothsFrom_52 rfl rfl ?_
    refine g_iaload dX1_smoothsFrom_53 fun x5 => ?_
    refine g_iload_n 1 dX1_smoothsFrom_54 rfl rfl ?_
    refine g_callS_I (mm_X1_has _ _ _) rfl q677 q678 q107 q679 dd_X1_has rfl (by show 0 + 1 ≤ 0 + (n + 1); omega) (Nat.le_of_ble_eq_true rfl) (Nat.le_of_ble_eq_true rfl) dX1_smoothsFrom_55 fun x6 σ => ?_
    refine g_jn (fun j8 => ∀ (a7 : Unit) (σ : Hp), GG X (mi_X1_smoothsFrom (n + 1)) (QM X rV) 146 [(0, vA v0), (1, vI v1), (2, vI v2), (3, vI a)] [] σ (j8 a7 σ)) ?_ ?_
    · intro a7 σ
      refine g_iinc 1 dX1_smoothsFrom_146 (by decide) rfl (lt_b rfl) ?_
      refine g_goto 40 dX1_smoothsFrom_149 (by decide) ?_
      exact g_jmp (hag _ _) rfl
    · intro j8 hj8
      refine g_if_eq 146 dX1_smoothsFrom_58 (by decide) ?_ ?_
      · exact g_jmp (hj8 _ _) rfl
      · refine g_aload_n 0 dX1_smoothsFrom_61 rfl rfl ?_
        refine g_getR fo_0_26 q203 dX1_smoothsFrom_62 fun y9 => ?_
        refine g_iload_n 3 dX1_smoothsFrom_65 rfl rfl ?_
        refine g_iaload dX1_smoothsFrom_66 fun x10 => ?_
        refine g_aload_n 0 dX1_smoothsFrom_67 rfl rfl ?_
        refine g_getR fo_0_2 q173 dX1_smoothsFrom_68 fun y11 => ?_
        refine g_iload_n 3 dX1_smoothsFrom_71 rfl rfl ?_
        refine g_iaload dX1_smoothsFrom_72 fun x12 => ?_
        refine g_icmp_ne 79 dX1_smoothsFrom_73 (by decide) ?_ ?_
        · refine g_aload_n 0 dX1_smoothsFrom_79 rfl rfl ?_
          refine g_getR fo_0_26 q203 dX1_smoothsFrom_80 fun y13 => ?_
          refine g_iload_n 3 dX1_smoothsFrom_83 rfl rfl ?_
          refine g_dup2 dX1_smoothsFrom_84 rfl rfl ?_
          refine g_iaload dX1_smoothsFrom_85 fun x14 => ?_
          refine g_iconst 1 dX1_smoothsFrom_86 (by decide) ?_
          refine g_iadd dX1_smoothsFrom_87 ?_
          refine g_iastore dX1_smoothsFrom_88 fun σ => ?_
          refine g_aload_n 0 dX1_smoothsFrom_89 rfl rfl ?_
          refine g_getR fo_0_30 q207 dX1_smoothsFrom_90 fun y15 => ?_
          refine g_iload_n 1 dX1_smoothsFrom_93 rfl rfl ?_
          refine g_iload_n 3 dX1_smoothsFrom_94 rfl rfl ?_
          refine g_iastore dX1_smoothsFrom_95 fun σ => ?_
          refine g_aload_n 0 dX1_smoothsFrom_96 rfl rfl ?_
          refine g_iload_n 1 dX1_smoothsFrom_97 rfl rfl ?_
          refine g_iconst 1 dX1_smoothsFrom_98 (by decide) ?_
          refine g_iadd dX1_smoothsFrom_99 ?_
          refine g_iload_n 2 dX1_smoothsFrom_100 rfl rfl ?_
          refine g_iload_n 1 dX1_smoothsFrom_101 rfl rfl ?_
          refine g_jn (fun j17 => ∀ (a16 : Int32) (σ : Hp), GG X (mi_X1_smoothsFrom (n + 1)) (QM X rV) 132 [(0, vA v0), (1, vI v1), (2, vI v2), (3, vI a)] [vI a16, vI v2, vI (v1 + 1), vA v0] σ (j17 a16 σ)) ?_ ?_
          · intro a16 σ
            refine g_iadd dX1_smoothsFrom_132 ?_
            refine g_callV_V (ih0 _ _ _ _) rfl zc_0 q859 q861 qs41 q107 q862 dv_X1_smoothsFrom rfl (Nat.le_refl _) (Nat.le_of_ble_eq_true rfl) (Nat.le_of_ble_eq_true rfl) dX1_smoothsFrom_133 fun _ σ => ?_
            refine g_aload_n 0 dX1_smoothsFrom_136 rfl rfl ?_
            refine g_getR fo_0_26 q203 dX1_smoothsFrom_137 fun y18 => ?_
            refine g_iload_n 3 dX1_smoothsFrom_140 rfl rfl ?_
            refine g_dup2 dX1_smoothsFrom_141 rfl rfl ?_
            refine g_iaload dX1_smoothsFrom_142 fun x19 => ?_
            refine g_iconst 1 dX1_smoothsFrom_143 (by decide) ?_
            refine g_isub dX1_smoothsFrom_144 ?_
            refine g_iastore dX1_smoothsFrom_145 fun σ => ?_
            exact g_jmp (hj8 _ _) rfl
          · intro j17 hj17
            refine g_if_ne 109 dX1_smoothsFrom_102 (by decide) ?_ ?_
            · refine g_aload_n 0 dX1_smoothsFrom_109 rfl rfl ?_
              refine g_getR fo_0_3 q175 dX1_smoothsFrom_110 fun y20 => ?_
              refine g_iload_n 3 dX1_smoothsFrom_113 rfl rfl ?_
              refine g_iaload dX1_smoothsFrom_114 fun x21 => ?_
              refine g_aload_n 0 dX1_smoothsFrom_115 rfl rfl ?_
              refine g_getR fo_0_3 q175 dX1_smoothsFrom_116 fun y22 => ?_
              refine g_aload_n 0 dX1_smoothsFrom_119 rfl rfl ?_
              refine g_getR fo_0_30 q207 dX1_smoothsFrom_120 fun y23 => ?_
              refine g_iload_n 1 dX1_smoothsFrom_123 rfl rfl ?_
              refine g_iconst 1 dX1_smoothsFrom_124 (by decide) ?_
              refine g_isub dX1_smoothsFrom_125 ?_
              refine g_iaload dX1_smoothsFrom_126 fun x24 => ?_
              refine g_iaload dX1_smoothsFrom_127 fun x25 => ?_
              refine g_isub dX1_smoothsFrom_128 ?_
              refine g_mabs q680 (by show 1 ≤ 0 + (n + 1); omega) (Nat.le_of_ble_eq_true rfl) dX1_smoothsFrom_129 ?_
              exact g_jmp (hj17 _ _) rfl
            · refine g_iconst 0 dX1_smoothsFrom_105 (by decide) ?_
              refine g_goto 132 dX1_smoothsFrom_106 (by decide) ?_
              exact g_jmp (hj17 _ _) rfl
        · refine g_goto 146 dX1_smoothsFrom_76 (by decide) ?_
          exact g_jmp (hj8 _ _) rfl
theorem mb_X1_smoothsFrom (n : Nat) (rc0 : (Option Nat) → Int32 → Int32 → Hp → Option (Unit × Hp)) (ih0 : ∀ (v0 : Option Nat) (v1 : Int32) (v2 : Int32) (σ : Hp), MM yX1_smoothsFrom (mi_X1_smoothsFrom n) rV [vA v0, vI v1, vI v2] σ (rc0 v0 v1 v2 σ)) : ∀ (v0 : Option Nat) (v1 : Int32) (v2 : Int32) (σ : Hp), MM yX1_smoothsFrom (mi_X1_smoothsFrom (n + 1)) rV [vA v0, vI v1, vI v2] σ (fb_X1_smoothsFrom rc0 v0 v1 v2 σ) := by
  intro v0 v1 v2 σ
  refine mm_of (by decide +kernel) rfl rfl (Nat.le_of_ble_eq_true rfl) ?_
  intro X
  unfold fb_X1_smoothsFrom
  refine g_iload_n 2 dX1_smoothsFrom_0 rfl rfl ?_
  refine g_aload_n 0 dX1_smoothsFrom_1 rfl rfl ?_
  refine g_getI fo_0_43 (by decide) q220 dX1_smoothsFrom_2 fun x1 => ?_
  refine g_icmp_lt 9 dX1_smoothsFrom_5 (by decide) ?_ ?_
  · refine g_iload_n 1 dX1_smoothsFrom_9 rfl rfl ?_
    refine g_aload_n 0 dX1_smoothsFrom_10 rfl rfl ?_
    refine g_getI fo_0_6 (by decide) q180 dX1_smoothsFrom_11 fun x2 => ?_
    refine g_icmp_ne 38 dX1_smoothsFrom_14 (by decide) ?_ ?_
    · refine g_iconst 0 dX1_smoothsFrom_38 (by decide) ?_
      refine g_istore_n 3 dX1_smoothsFrom_39 rfl (lt_b rfl) ?_
      refine g_jmp (ok_X1_smoothsFrom_b40 n rc0 ih0 X v0 v1 v2 ?_ _ _ _) rfl
      · intro a26 σ
        exact g_vret rfl dX1_smoothsFrom_152
    · refine g_aload_n 0 dX1_smoothsFrom_17 rfl rfl ?_
      refine g_iload_n 2 dX1_smoothsFrom_18 rfl rfl ?_
      refine g_putI fo_0_43 (by decide) rfl q220 dX1_smoothsFrom_19 fun σ => ?_
      refine g_aload_n 0 dX1_smoothsFrom_22 rfl rfl ?_
      refine g_getR fo_0_30 q207 dX1_smoothsFrom_23 fun y27 => ?_
      refine g_iconst 0 dX1_smoothsFrom_26 (by decide) ?_
      refine g_aload_n 0 dX1_smoothsFrom_27 rfl rfl ?_
      refine g_getR fo_0_40 q217 dX1_smoothsFrom_28 fun y28 => ?_
      refine g_iconst 0 dX1_smoothsFrom_31 (by decide) ?_
      refine g_bipush 8 dX1_smoothsFrom_32 (by decide) ?_
      refine g_arraycopy q765 (by show 1 ≤ 0 + (n + 1); omega) (Nat.le_of_ble_eq_true rfl) dX1_smoothsFrom_34 fun σ => ?_
      exact g_vret rfl dX1_smoothsFrom_37
  · exact g_vret rfl dX1_smoothsFrom_8
def g_smooths : Nat → ((Option Nat) → Int32 → Int32 → Hp → Option (Unit × Hp))
  | 0 => fun _ _ _ _ => none
  | n + 1 => fb_X1_smoothsFrom (g_smooths n)
def f_X1_smoothsFrom (n : Nat) (v0 : Option Nat) (v1 : Int32) (v2 : Int32) (σ : Hp) : Option (Unit × Hp) := (g_smooths n) v0 v1 v2 σ
theorem gm_smooths : ∀ n : Nat, (∀ (v0 : Option Nat) (v1 : Int32) (v2 : Int32) (σ : Hp), MM yX1_smoothsFrom (mi_X1_smoothsFrom n) rV [vA v0, vI v1, vI v2] σ (f_X1_smoothsFrom n v0 v1 v2 σ)) := by
  intro n
  induction n with
  | zero => exact ((fun _ _ _ σ r σf h => (nomatch (show (none : Option (Unit × Hp)) = some (r, σf) from h))))
  | succ n ih => exact (mb_X1_smoothsFrom n _ ih)
theorem mm_X1_smoothsFrom (n : Nat) (v0 : Option Nat) (v1 : Int32) (v2 : Int32) (σ : Hp) : MM yX1_smoothsFrom (mi_X1_smoothsFrom n) rV [vA v0, vI v1, vI v2] σ (f_X1_smoothsFrom n v0 v1 v2 σ) := (gm_smooths n) v0 v1 v2 σ
abbrev mi_X3_goSmooth (n : Nat) : Mi := (cX3_goSmooth, 6, "RockingHorseModel", 0 + n, some .boolean, "goSmooth")
theorem dd_X3_goSmooth : yX3_goSmooth.cls ≠ "java/lang/invoke/MethodHandle" ∧ yX3_goSmooth.cls ≠ "java/lang/invoke/VarHandle" ∧ (parseMethodDescriptor yX3_goSmooth.desc).map (fun d => d.parameters.length) = some 2 := by decide +kernel
theorem dv_X3_goSmooth : yX3_goSmooth.cls = RX3 ∧ yX3_goSmooth.cls ≠ "java/lang/invoke/MethodHandle" ∧ yX3_goSmooth.cls ≠ "java/lang/invoke/VarHandle" ∧ (parseMethodDescriptor yX3_goSmooth.desc).map (fun d => d.parameters.length) = some 2 := ⟨rfl, dd_X3_goSmooth⟩
/-! RockingHorseModel.goSmooth(II)Z -/
def f_X3_goSmooth_b12 (rc0 : (Option Nat) → Int32 → Int32 → Hp → Option (Int32 × Hp)) (v0 : Option Nat) (v1 : Int32) (v2 : Int32) (k0 : Unit → Hp → Option (Int32 × Hp)) (ag : Int32 → Hp → Option (Int32 × Hp)) (a : Int32) (σ : Hp) : Option (Int32 × Hp) :=
  gI 2 3 σ v0 fun x2 =>
  if x2 ≤ a then
    k0 () σ
  else
    gR 2 32 σ v0 fun y3 =>
    lI 100 σ y3 a fun x4 =>
    bnd (f_X3_has x4 v1 σ) fun x5 σ =>
    jn (fun (a6 : Unit) σ =>
        ag (a + 1) σ) fun j7 =>
    if x5 = 0 then
      j7 () σ
    else
      gR 2 29 σ v0 fun y8 =>
      lI 100 σ y8 a fun x9 =>
      gR 2 4 σ v0 fun y10 =>
      lI 100 σ y10 a fun x11 =>
      if x9 = x11 then
        j7 () σ
      else
        jn (fun (a12 : Int32) σ =>
            if a12 ≤ v2 then
              gR 2 40 σ v0 fun y14 =>
              sI σ y14 v1 a fun σ =>
              gR 2 29 σ v0 fun y15 =>
              lI 100 σ y15 a fun x16 =>
              sI σ y15 a (x16 + 1) fun σ =>
              ob 2 σ v0 fun _ => bnd (rc0 v0 (v1 + 1) (v2 - a12) σ) fun x17 σ =>
              gR 2 29 σ v0 fun y18 =>
              lI 100 σ y18 a fun x19 =>
              sI σ y18 a (x19 - 1) fun σ =>
              if x17 = 0 then
                j7 () σ
              else
                rz1 1 σ
            else
              j7 () σ) fun j13 =>
        if v1 = 0 then
          j13 0 σ
        else
          gR 2 5 σ v0 fun y20 =>
          lI 100 σ y20 a fun x21 =>
          gR 2 5 σ v0 fun y22 =>
          gR 2 40 σ v0 fun y23 =>
          lI 100 σ y23 (v1 - 1) fun x24 =>
          lI 100 σ y22 x24 fun x25 =>
          j13 (iabs (x21 - x25)) σ
def fb_X3_goSmooth (rc0 : (Option Nat) → Int32 → Int32 → Hp → Option (Int32 × Hp)) (v0 : Option Nat) (v1 : Int32) (v2 : Int32) (σ : Hp) : Option (Int32 × Hp) :=
  gI 2 1 σ v0 fun x1 =>
  if v1 = x1 then
    rz1 1 σ
  else
    lp 2000 (f_X3_goSmooth_b12 rc0 v0 v1 v2 (fun (a26 : Unit) σ =>
        rz1 0 σ)) 0 σ
theorem ok_X3_goSmooth_b12 (n : Nat) (rc0 : (Option Nat) → Int32 → Int32 → Hp → Option (Int32 × Hp)) (ih0 : ∀ (v0 : Option Nat) (v1 : Int32) (v2 : Int32) (σ : Hp), MM yX3_goSmooth (mi_X3_goSmooth n) rI [vA v0, vI v1, vI v2] σ (rc0 v0 v1 v2 σ)) (X : Mx) (v0 : Option Nat) (v1 : Int32) (v2 : Int32) {k0 : Unit → Hp → Option (Int32 × Hp)} (hk0 : ∀ (a : Unit) (σ : Hp), GG X (mi_X3_goSmooth (n + 1)) (QM X rI) 146 [] [] σ (k0 a σ)) : ∀ (m : Nat) (a : Int32) (σ : Hp), GG X (mi_X3_goSmooth (n + 1)) (QM X rI) 12 [(0, vA v0), (1, vI v1), (2, vI v2), (3, vI a)] [] σ (lp m (f_X3_goSmooth_b12 rc0 v0 v1 v2 k0) a σ) := by
  refine g_lp (fun (a : Int32) => [(0, vA v0), (1, vI v1), (2, vI v2), (3, vI a)]) ?_
  intro ag hag a σ
  unfold f_X3_goSmooth_b12
  refine g_iload_n 3 dX3_goSmooth_12 rfl rfl ?_
  refine g_aload_n 0 dX3_goSmooth_13 rfl rfl ?_
  refine g_getI fo_2_3 (by decide) q1059 dX3_goSmooth_14 fun x2 => ?_
  refine g_icmp_ge 146 dX3_goSmooth_17 (by decide) ?_ ?_
  · exact g_jmp (hk0 _ _) rfl
  · refine g_aload_n 0 dX3_goSmooth_20 rfl rfl ?_
    refine g_getR fo_2_32 q1088 dX3_goSmooth_21 fun y3 => ?_
    refine g_iload_n 3 dX3_goSmooth_24 rfl rfl ?_
    refine g_iaload dX3_goSmooth_25 fun x4 => ?_
    refine g_iload_n 1 dX3_goSmooth_26 rfl rfl ?_
    refine g_callS_I (mm_X3_has _ _ _) rfl q1378 q1379 q109 q1380 dd_X3_has rfl (by show 0 + 1 ≤ 0 + (n + 1); omega) (Nat.le_of_ble_eq_true rfl) (Nat.le_of_ble_eq_true rfl) dX3_goSmooth_27 fun x5 σ => ?_
    refine g_jn (fun j7 => ∀ (a6 : Unit) (σ : Hp), GG X (mi_X3_goSmooth (n + 1)) (QM X rI) 140 [(0, vA v0), (1, vI v1), (2, vI v2), (3, vI a)] [] σ (j7 a6 σ)) ?_ ?_
    · intro a6 σ
      refine g_iinc 1 dX3_goSmooth_140 (by decide) rfl (lt_b rfl) ?_
      refine g_goto 12 dX3_goSmooth_143 (by decide) ?_
      exact g_jmp (hag _ _) rfl
    · intro j7 hj7
      refine g_if_eq 140 dX3_goSmooth_30 (by decide) ?_ ?_
      · exact g_jmp (hj7 _ _) rfl
      · refine g_aload_n 0 dX3_goSmooth_33 rfl rfl ?_
        refine g_getR fo_2_29 q1085 dX3_goSmooth_34 fun y8 => ?_
        refine g_iload_n 3 dX3_goSmooth_37 rfl rfl ?_
        refine g_iaload dX3_goSmooth_38 fun x9 => ?_
        refine g_aload_n 0 dX3_goSmooth_39 rfl rfl ?_
        refine g_getR fo_2_4 q1060 dX3_goSmooth_40 fun y10 => ?_
        refine g_iload_n 3 dX3_goSmooth_43 rfl rfl ?_
        refine g_iaload dX3_goSmooth_44 fun x11 => ?_
        refine g_icmp_ne 51 dX3_goSmooth_45 (by decide) ?_ ?_
        · refine g_iload_n 1 dX3_goSmooth_51 rfl rfl ?_
          refine g_jn (fun j13 => ∀ (a12 : Int32) (σ : Hp), GG X (mi_X3_goSmooth (n + 1)) (QM X rI) 82 [(0, vA v0), (1, vI v1), (2, vI v2), (3, vI a)] [vI a12] σ (j13 a12 σ)) ?_ ?_
          · intro a12 σ
            refine g_istore dX3_goSmooth_82 (lt_b rfl) ?_
            refine g_iload dX3_goSmooth_84 rfl ?_
            refine g_iload_n 2 dX3_goSmooth_86 rfl rfl ?_
            refine g_icmp_le 93 dX3_goSmooth_87 (by decide) ?_ ?_
            · refine g_aload_n 0 dX3_goSmooth_93 rfl rfl ?_
              refine g_getR fo_2_40 q1096 dX3_goSmooth_94 fun y14 => ?_
              refine g_iload_n 1 dX3_goSmooth_97 rfl rfl ?_
              refine g_iload_n 3 dX3_goSmooth_98 rfl rfl ?_
              refine g_iastore dX3_goSmooth_99 fun σ => ?_
              refine g_aload_n 0 dX3_goSmooth_100 rfl rfl ?_
              refine g_getR fo_2_29 q1085 dX3_goSmooth_101 fun y15 => ?_
              refine g_iload_n 3 dX3_goSmooth_104 rfl rfl ?_
              refine g_dup2 dX3_goSmooth_105 rfl rfl ?_
              refine g_iaload dX3_goSmooth_106 fun x16 => ?_
              refine g_iconst 1 dX3_goSmooth_107 (by decide) ?_
              refine g_iadd dX3_goSmooth_108 ?_
              refine g_iastore dX3_goSmooth_109 fun σ => ?_
              refine g_aload_n 0 dX3_goSmooth_110 rfl rfl ?_
              refine g_iload_n 1 dX3_goSmooth_111 rfl rfl ?_
              refine g_iconst 1 dX3_goSmooth_112 (by decide) ?_
              refine g_iadd dX3_goSmooth_113 ?_
              refine g_iload_n 2 dX3_goSmooth_114 rfl rfl ?_
              refine g_iload dX3_goSmooth_115 rfl ?_
              refine g_isub dX3_goSmooth_117 ?_
              refine g_callV_I (ih0 _ _ _ _) rfl zc_2 q1567 q1569 qs98 q109 q1570 dv_X3_goSmooth rfl (Nat.le_refl _) (Nat.le_of_ble_eq_true rfl) (Nat.le_of_ble_eq_true rfl) dX3_goSmooth_118 fun x17 σ => ?_
              refine g_istore dX3_goSmooth_121 (lt_b rfl) ?_
              refine g_aload_n 0 dX3_goSmooth_123 rfl rfl ?_
              refine g_getR fo_2_29 q1085 dX3_goSmooth_124 fun y18 => ?_
              refine g_iload_n 3 dX3_goSmooth_127 rfl rfl ?_
              refine g_dup2 dX3_goSmooth_128 rfl rfl ?_
              refine g_iaload dX3_goSmooth_129 fun x19 => ?_
              refine g_iconst 1 dX3_goSmooth_130 (by decide) ?_
              refine g_isub dX3_goSmooth_131 ?_
              refine g_iastore dX3_goSmooth_132 fun σ => ?_
              refine g_iload dX3_goSmooth_133 rfl ?_
              refine g_if_eq 140 dX3_goSmooth_135 (by decide) ?_ ?_
              · exact g_jmp (hj7 _ _) rfl
              · refine g_iconst 1 dX3_goSmooth_138 (by decide) ?_
                exact g_zret rfl dX3_goSmooth_139
            · refine g_goto 140 dX3_goSmooth_90 (by decide) ?_
              exact g_jmp (hj7 _ _) rfl
          · intro j13 hj13
            refine g_if_ne 59 dX3_goSmooth_52 (by decide) ?_ ?_
            · refine g_aload_n 0 dX3_goSmooth_59 rfl rfl ?_
              refine g_getR fo_2_5 q1061 dX3_goSmooth_60 fun y20 => ?_
              refine g_iload_n 3 dX3_goSmooth_63 rfl rfl ?_
              refine g_iaload dX3_goSmooth_64 fun x21 => ?_
              refine g_aload_n 0 dX3_goSmooth_65 rfl rfl ?_
              refine g_getR fo_2_5 q1061 dX3_goSmooth_66 fun y22 => ?_
              refine g_aload_n 0 dX3_goSmooth_69 rfl rfl ?_
              refine g_getR fo_2_40 q1096 dX3_goSmooth_70 fun y23 => ?_
              refine g_iload_n 1 dX3_goSmooth_73 rfl rfl ?_
              refine g_iconst 1 dX3_goSmooth_74 (by decide) ?_
              refine g_isub dX3_goSmooth_75 ?_
              refine g_iaload dX3_goSmooth_76 fun x24 => ?_
              refine g_iaload dX3_goSmooth_77 fun x25 => ?_
              refine g_isub dX3_goSmooth_78 ?_
              refine g_mabs q1381 (by show 1 ≤ 0 + (n + 1); omega) (Nat.le_of_ble_eq_true rfl) dX3_goSmooth_79 ?_
              exact g_jmp (hj13 _ _) rfl
            · refine g_iconst 0 dX3_goSmooth_55 (by decide) ?_
              refine g_goto 82 dX3_goSmooth_56 (by decide) ?_
              exact g_jmp (hj13 _ _) rfl
        · refine g_goto 140 dX3_goSmooth_48 (by decide) ?_
          exact g_jmp (hj7 _ _) rfl
theorem mb_X3_goSmooth (n : Nat) (rc0 : (Option Nat) → Int32 → Int32 → Hp → Option (Int32 × Hp)) (ih0 : ∀ (v0 : Option Nat) (v1 : Int32) (v2 : Int32) (σ : Hp), MM yX3_goSmooth (mi_X3_goSmooth n) rI [vA v0, vI v1, vI v2] σ (rc0 v0 v1 v2 σ)) : ∀ (v0 : Option Nat) (v1 : Int32) (v2 : Int32) (σ : Hp), MM yX3_goSmooth (mi_X3_goSmooth (n + 1)) rI [vA v0, vI v1, vI v2] σ (fb_X3_goSmooth rc0 v0 v1 v2 σ) := by
  intro v0 v1 v2 σ
  refine mm_of (by decide +kernel) rfl rfl (Nat.le_of_ble_eq_true rfl) ?_
  intro X
  unfold fb_X3_goSmooth
  refine g_iload_n 1 dX3_goSmooth_0 rfl rfl ?_
  refine g_aload_n 0 dX3_goSmooth_1 rfl rfl ?_
  refine g_getI fo_2_1 (by decide) q1057 dX3_goSmooth_2 fun x1 => ?_
  refine g_icmp_ne 10 dX3_goSmooth_5 (by decide) ?_ ?_
  · refine g_iconst 0 dX3_goSmooth_10 (by decide) ?_
    refine g_istore_n 3 dX3_goSmooth_11 rfl (lt_b rfl) ?_
    refine g_jmp (ok_X3_goSmooth_b12 n rc0 ih0 X v0 v1 v2 ?_ _ _ _) rfl
    · intro a26 σ
      refine g_iconst 0 dX3_goSmooth_146 (by decide) ?_
      exact g_zret rfl dX3_goSmooth_147
  · refine g_iconst 1 dX3_goSmooth_8 (by decide) ?_
    exact g_zret rfl dX3_goSmooth_9
def g_gosm : Nat → ((Option Nat) → Int32 → Int32 → Hp → Option (Int32 × Hp))
  | 0 => fun _ _ _ _ => none
  | n + 1 => fb_X3_goSmooth (g_gosm n)
def f_X3_goSmooth (n : Nat) (v0 : Option Nat) (v1 : Int32) (v2 : Int32) (σ : Hp) : Option (Int32 × Hp) := (g_gosm n) v0 v1 v2 σ
theorem gm_gosm : ∀ n : Nat, (∀ (v0 : Option Nat) (v1 : Int32) (v2 : Int32) (σ : Hp), MM yX3_goSmooth (mi_X3_goSmooth n) rI [vA v0, vI v1, vI v2] σ (f_X3_goSmooth n v0 v1 v2 σ)) := by
  intro n
  induction n with
  | zero => exact ((fun _ _ _ σ r σf h => (nomatch (show (none : Option (Int32 × Hp)) = some (r, σf) from h))))
  | succ n ih => exact (mb_X3_goSmooth n _ ih)
theorem mm_X3_goSmooth (n : Nat) (v0 : Option Nat) (v1 : Int32) (v2 : Int32) (σ : Hp) : MM yX3_goSmooth (mi_X3_goSmooth n) rI [vA v0, vI v1, vI v2] σ (f_X3_goSmooth n v0 v1 v2 σ) := (gm_gosm n) v0 v1 v2 σ
abbrev mi_X5_value (n : Nat) : Mi := (cX5_value, 1, "RockingHorse$Less", 0 + n, some .int, "value")
theorem dd_X5_value : yX5_value.cls ≠ "java/lang/invoke/MethodHandle" ∧ yX5_value.cls ≠ "java/lang/invoke/VarHandle" ∧ (parseMethodDescriptor yX5_value.desc).map (fun d => d.parameters.length) = some 0 := by decide +kernel
theorem dv_X5_value : yX5_value.cls = RX5 ∧ yX5_value.cls ≠ "java/lang/invoke/MethodHandle" ∧ yX5_value.cls ≠ "java/lang/invoke/VarHandle" ∧ (parseMethodDescriptor yX5_value.desc).map (fun d => d.parameters.length) = some 0 := ⟨rfl, dd_X5_value⟩
abbrev mi_X6_value (n : Nat) : Mi := (cX6_value, 1, "RockingHorse$Number", 0 + n, some .int, "value")
theorem dd_X6_value : yX6_value.cls ≠ "java/lang/invoke/MethodHandle" ∧ yX6_value.cls ≠ "java/lang/invoke/VarHandle" ∧ (parseMethodDescriptor yX6_value.desc).map (fun d => d.parameters.length) = some 0 := by decide +kernel
theorem dv_X6_value : yX6_value.cls = RX6 ∧ yX6_value.cls ≠ "java/lang/invoke/MethodHandle" ∧ yX6_value.cls ≠ "java/lang/invoke/VarHandle" ∧ (parseMethodDescriptor yX6_value.desc).map (fun d => d.parameters.length) = some 0 := ⟨rfl, dd_X6_value⟩
abbrev mi_X7_value (n : Nat) : Mi := (cX7_value, 1, "RockingHorse$Sign", 0 + n, some .int, "value")
theorem dd_X7_value : yX7_value.cls ≠ "java/lang/invoke/MethodHandle" ∧ yX7_value.cls ≠ "java/lang/invoke/VarHandle" ∧ (parseMethodDescriptor yX7_value.desc).map (fun d => d.parameters.length) = some 0 := by decide +kernel
theorem dv_X7_value : yX7_value.cls = RX7 ∧ yX7_value.cls ≠ "java/lang/invoke/MethodHandle" ∧ yX7_value.cls ≠ "java/lang/invoke/VarHandle" ∧ (parseMethodDescriptor yX7_value.desc).map (fun d => d.parameters.length) = some 0 := ⟨rfl, dd_X7_value⟩
abbrev mi_X8_value (n : Nat) : Mi := (cX8_value, 3, "RockingHorse$Act", 0 + n, some .int, "value")
theorem dd_X8_value : yX8_value.cls ≠ "java/lang/invoke/MethodHandle" ∧ yX8_value.cls ≠ "java/lang/invoke/VarHandle" ∧ (parseMethodDescriptor yX8_value.desc).map (fun d => d.parameters.length) = some 0 := by decide +kernel
theorem dv_X8_value : yX8_value.cls = RX8 ∧ yX8_value.cls ≠ "java/lang/invoke/MethodHandle" ∧ yX8_value.cls ≠ "java/lang/invoke/VarHandle" ∧ (parseMethodDescriptor yX8_value.desc).map (fun d => d.parameters.length) = some 0 := ⟨rfl, dd_X8_value⟩
/-! RockingHorse$Less.value()I -/
def fb_X5_value (rv : Option Nat → Hp → Option (Int32 × Hp)) (v0 : Option Nat) (σ : Hp) : Option (Int32 × Hp) :=
  gR 3 0 σ v0 fun y1 =>
  bnd (rv y1 σ) fun x2 σ =>
  some ((-x2), σ)
theorem mb_X5_value (n : Nat) (rv : Option Nat → Hp → Option (Int32 × Hp)) (ih : ∀ (x : Option Nat) (σ : Hp), MV (0 + n) x σ (rv x σ)) : ∀ (v0 : Option Nat) (σ : Hp), MM yX5_value (mi_X5_value (n + 1)) rI [vA v0] σ (fb_X5_value rv v0 σ) := by
  intro v0 σ
  refine mm_of (by decide +kernel) rfl rfl (Nat.le_of_ble_eq_true rfl) ?_
  intro X
  unfold fb_X5_value
  refine g_aload_n 0 dX5_value_0 rfl rfl ?_
  refine g_getR fo_3_0 q497 dX5_value_1 fun y1 => ?_
  refine g_callNode (ih _ _) q594 (Nat.le_refl _) (Nat.le_of_ble_eq_true rfl) dX5_value_4 fun x2 σ => ?_
  refine g_ineg dX5_value_7 ?_
  exact g_iret rfl dX5_value_8
/-! RockingHorse$Number.value()I -/
def fb_X6_value (rv : Option Nat → Hp → Option (Int32 × Hp)) (v0 : Option Nat) (σ : Hp) : Option (Int32 × Hp) :=
  gI 4 0 σ v0 fun x1 =>
  some (x1, σ)
theorem mb_X6_value (n : Nat) (rv : Option Nat → Hp → Option (Int32 × Hp)) (ih : ∀ (x : Option Nat) (σ : Hp), MV (0 + n) x σ (rv x σ)) : ∀ (v0 : Option Nat) (σ : Hp), MM yX6_value (mi_X6_value (n + 1)) rI [vA v0] σ (fb_X6_value rv v0 σ) := by
  intro v0 σ
  refine mm_of (by decide +kernel) rfl rfl (Nat.le_of_ble_eq_true rfl) ?_
  intro X
  unfold fb_X6_value
  refine g_aload_n 0 dX6_value_0 rfl rfl ?_
  refine g_getI fo_4_0 (by decide) q523 dX6_value_1 fun x1 => ?_
  exact g_iret rfl dX6_value_4
/-! RockingHorse$Sign.value()I -/
def fb_X7_value (rv : Option Nat → Hp → Option (Int32 × Hp)) (v0 : Option Nat) (σ : Hp) : Option (Int32 × Hp) :=
  gI 5 0 σ v0 fun x1 =>
  if x1 = 104 then
    gR 5 1 σ v0 fun y89 =>
    gI 0 20 σ y89 fun x90 =>
    some (x90, σ)
  else
  if x1 = 105 then
    gR 5 1 σ v0 fun y87 =>
    gI 0 19 σ y87 fun x88 =>
    some (x88, σ)
  else
  if x1 = 106 then
    gR 5 1 σ v0 fun y81 =>
    gR 0 4 σ y81 fun y82 =>
    gR 5 1 σ v0 fun y83 =>
    gI 0 19 σ y83 fun x84 =>
    lI 100 σ y82 x84 fun x85 =>
    bnd (f_J10_bitCount x85 σ) fun x86 σ =>
    some (x86, σ)
  else
  if x1 = 107 then
    gR 5 1 σ v0 fun y75 =>
    gR 0 4 σ y75 fun y76 =>
    gR 5 1 σ v0 fun y77 =>
    gI 0 19 σ y77 fun x78 =>
    lI 100 σ y76 x78 fun x79 =>
    bnd (f_J10_bitCount x79 σ) fun x80 σ =>
    some (x80, σ)
  else
  if x1 = 108 then
    gR 5 1 σ v0 fun y69 =>
    gR 0 4 σ y69 fun y70 =>
    gR 5 1 σ v0 fun y71 =>
    gI 0 19 σ y71 fun x72 =>
    lI 100 σ y70 x72 fun x73 =>
    bnd (f_J10_bitCount x73 σ) fun x74 σ =>
    some (x74, σ)
  else
  if x1 = 109 then
    gR 5 1 σ v0 fun y64 =>
    gR 0 2 σ y64 fun y65 =>
    gR 5 1 σ v0 fun y66 =>
    gI 0 19 σ y66 fun x67 =>
    lI 100 σ y65 x67 fun x68 =>
    some (x68, σ)
  else
  if x1 = 110 then
    gR 5 1 σ v0 fun y61 =>
    gR 0 18 σ y61 fun y62 =>
    gI 1 3 σ y62 fun x63 =>
    idv 7 <|
    some ((irm x63 7), σ)
  else
  if x1 = 111 then
    gR 5 1 σ v0 fun y55 =>
    gR 0 4 σ y55 fun y56 =>
    gR 5 1 σ v0 fun y57 =>
    gI 0 19 σ y57 fun x58 =>
    lI 100 σ y56 x58 fun x59 =>
    bnd (f_J10_bitCount x59 σ) fun x60 σ =>
    some (x60, σ)
  else
  if x1 = 112 then
    gR 5 1 σ v0 fun y49 =>
    gR 0 4 σ y49 fun y50 =>
    gR 5 1 σ v0 fun y51 =>
    gI 0 19 σ y51 fun x52 =>
    lI 100 σ y50 x52 fun x53 =>
    bnd (f_J10_bitCount x53 σ) fun x54 σ =>
    some (x54, σ)
  else
  if x1 = 113 then
    gR 5 1 σ v0 fun y43 =>
    gR 0 4 σ y43 fun y44 =>
    gR 5 1 σ v0 fun y45 =>
    gI 0 19 σ y45 fun x46 =>
    lI 100 σ y44 x46 fun x47 =>
    bnd (f_J10_bitCount x47 σ) fun x48 σ =>
    some (x48, σ)
  else
  if x1 = 114 then
    gR 5 1 σ v0 fun y37 =>
    gR 0 4 σ y37 fun y38 =>
    gR 5 1 σ v0 fun y39 =>
    gI 0 19 σ y39 fun x40 =>
    lI 100 σ y38 x40 fun x41 =>
    bnd (f_J10_bitCount x41 σ) fun x42 σ =>
    some (x42, σ)
  else
  if x1 = 115 then
    gR 5 1 σ v0 fun y31 =>
    gR 0 4 σ y31 fun y32 =>
    gR 5 1 σ v0 fun y33 =>
    gI 0 19 σ y33 fun x34 =>
    lI 100 σ y32 x34 fun x35 =>
    bnd (f_J10_bitCount x35 σ) fun x36 σ =>
    some (x36, σ)
  else
  if x1 = 116 then
    gR 5 1 σ v0 fun y25 =>
    gR 0 18 σ y25 fun y26 =>
    gR 1 1 σ y26 fun y27 =>
    gR 5 1 σ v0 fun y28 =>
    gI 0 19 σ y28 fun x29 =>
    lI 100 σ y27 x29 fun x30 =>
    some (x30, σ)
  else
  if x1 = 117 then
    gR 5 1 σ v0 fun y19 =>
    gR 0 4 σ y19 fun y20 =>
    gR 5 1 σ v0 fun y21 =>
    gI 0 19 σ y21 fun x22 =>
    lI 100 σ y20 x22 fun x23 =>
    bnd (f_J10_bitCount x23 σ) fun x24 σ =>
    some (x24, σ)
  else
  if x1 = 118 then
    gR 5 1 σ v0 fun y13 =>
    gR 0 4 σ y13 fun y14 =>
    gR 5 1 σ v0 fun y15 =>
    gI 0 19 σ y15 fun x16 =>
    lI 100 σ y14 x16 fun x17 =>
    bnd (f_J10_bitCount x17 σ) fun x18 σ =>
    some (x18, σ)
  else
  if x1 = 119 then
    gR 5 1 σ v0 fun y8 =>
    gR 0 3 σ y8 fun y9 =>
    gR 5 1 σ v0 fun y10 =>
    gI 0 19 σ y10 fun x11 =>
    lI 100 σ y9 x11 fun x12 =>
    some (x12, σ)
  else
  gR 5 1 σ v0 fun y2 =>
  gR 0 4 σ y2 fun y3 =>
  gR 5 1 σ v0 fun y4 =>
  gI 0 19 σ y4 fun x5 =>
  lI 100 σ y3 x5 fun x6 =>
  bnd (f_J10_bitCount x6 σ) fun x7 σ =>
  some (x7, σ)
theorem mb_X7_value (n : Nat) (rv : Option Nat → Hp → Option (Int32 × Hp)) (ih : ∀ (x : Option Nat) (σ : Hp), MV (0 + n) x σ (rv x σ)) : ∀ (v0 : Option Nat) (σ : Hp), MM yX7_value (mi_X7_value (n + 1)) rI [vA v0] σ (fb_X7_value rv v0 σ) := by
  intro v0 σ
  refine mm_of (by decide +kernel) rfl rfl (Nat.le_of_ble_eq_true rfl) ?_
  intro X
  unfold fb_X7_value
  refine g_aload_n 0 dX7_value_0 rfl rfl ?_
  refine g_getI fo_5_0 (by decide) q538 dX7_value_1 fun x1 => ?_
  refine g_case (fun h1 => ?_) (fun h1 => ?_)
  · refine g_tableIn (off := 80) 84 dX7_value_4 (by rw [h1]; decide) (by rw [h1]; decide) (by rw [h1]; try rfl) (by decide) ?_
    refine g_aload_n 0 dX7_value_84 rfl rfl ?_
    refine g_getR fo_5_1 q539 dX7_value_85 fun y89 => ?_
    refine g_getIN fo_0_20 (by decide) nf_196 dX7_value_88 fun x90 => ?_
    exact g_iret rfl dX7_value_91
  · refine g_case (fun h2 => ?_) (fun h2 => ?_)
    · refine g_tableIn (off := 139) 143 dX7_value_4 (by rw [h2]; decide) (by rw [h2]; decide) (by rw [h2]; try rfl) (by decide) ?_
      refine g_aload_n 0 dX7_value_143 rfl rfl ?_
      refine g_getR fo_5_1 q539 dX7_value_144 fun y87 => ?_
      refine g_getIN fo_0_19 (by decide) nf_194 dX7_value_147 fun x88 => ?_
      exact g_iret rfl dX7_value_150
    · refine g_case (fun h3 => ?_) (fun h3 => ?_)
      · refine g_tableIn (off := 161) 165 dX7_value_4 (by rw [h3]; decide) (by rw [h3]; decide) (by rw [h3]; try rfl) (by decide) ?_
        refine g_aload_n 0 dX7_value_165 rfl rfl ?_
        refine g_getR fo_5_1 q539 dX7_value_166 fun y81 => ?_
        refine g_getRN fo_0_4 nf_178 dX7_value_169 fun y82 => ?_
        refine g_aload_n 0 dX7_value_172 rfl rfl ?_
        refine g_getR fo_5_1 q539 dX7_value_173 fun y83 => ?_
        refine g_getIN fo_0_19 (by decide) nf_194 dX7_value_176 fun x84 => ?_
        refine g_iaload dX7_value_179 fun x85 => ?_
        refine g_callS_I (mm_J10_bitCount _ _) rfl q599 q600 q125 q601 dd_J10_bitCount rfl (by show 0 + 1 ≤ 0 + (n + 1); omega) (Nat.le_of_ble_eq_true rfl) (Nat.le_of_ble_eq_true rfl) dX7_value_180 fun x86 σ => ?_
        exact g_iret rfl dX7_value_183
      · refine g_case (fun h4 => ?_) (fun h4 => ?_)
        · refine g_tableIn (off := 161) 165 dX7_value_4 (by rw [h4]; decide) (by rw [h4]; decide) (by rw [h4]; try rfl) (by decide) ?_
          refine g_aload_n 0 dX7_value_165 rfl rfl ?_
          refine g_getR fo_5_1 q539 dX7_value_166 fun y75 => ?_
          refine g_getRN fo_0_4 nf_178 dX7_value_169 fun y76 => ?_
          refine g_aload_n 0 dX7_value_172 rfl rfl ?_
          refine g_getR fo_5_1 q539 dX7_value_173 fun y77 => ?_
          refine g_getIN fo_0_19 (by decide) nf_194 dX7_value_176 fun x78 => ?_
          refine g_iaload dX7_value_179 fun x79 => ?_
          refine g_callS_I (mm_J10_bitCount _ _) rfl q599 q600 q125 q601 dd_J10_bitCount rfl (by show 0 + 1 ≤ 0 + (n + 1); omega) (Nat.le_of_ble_eq_true rfl) (Nat.le_of_ble_eq_true rfl) dX7_value_180 fun x80 σ => ?_
          exact g_iret rfl dX7_value_183
        · refine g_case (fun h5 => ?_) (fun h5 => ?_)
          · refine g_tableIn (off := 161) 165 dX7_value_4 (by rw [h5]; decide) (by rw [h5]; decide) (by rw [h5]; try rfl) (by decide) ?_
            refine g_aload_n 0 dX7_value_165 rfl rfl ?_
            refine g_getR fo_5_1 q539 dX7_value_166 fun y69 => ?_
            refine g_getRN fo_0_4 nf_178 dX7_value_169 fun y70 => ?_
            refine g_aload_n 0 dX7_value_172 rfl rfl ?_
            refine g_getR fo_5_1 q539 dX7_value_173 fun y71 => ?_
            refine g_getIN fo_0_19 (by decide) nf_194 dX7_value_176 fun x72 => ?_
            refine g_iaload dX7_value_179 fun x73 => ?_
            refine g_callS_I (mm_J10_bitCount _ _) rfl q599 q600 q125 q601 dd_J10_bitCount rfl (by show 0 + 1 ≤ 0 + (n + 1); omega) (Nat.le_of_ble_eq_true rfl) (Nat.le_of_ble_eq_true rfl) dX7_value_180 fun x74 σ => ?_
            exact g_iret rfl dX7_value_183
          · refine g_case (fun h6 => ?_) (fun h6 => ?_)
            · refine g_tableIn (off := 123) 127 dX7_value_4 (by rw [h6]; decide) (by rw [h6]; decide) (by rw [h6]; try rfl) (by decide) ?_
              refine g_aload_n 0 dX7_value_127 rfl rfl ?_
              refine g_getR fo_5_1 q539 dX7_value_128 fun y64 => ?_
              refine g_getRN fo_0_2 nf_174 dX7_value_131 fun y65 => ?_
              refine g_aload_n 0 dX7_value_134 rfl rfl ?_
              refine g_getR fo_5_1 q539 dX7_value_135 fun y66 => ?_
              refine g_getIN fo_0_19 (by decide) nf_194 dX7_value_138 fun x67 => ?_
              refine g_iaload dX7_value_141 fun x68 => ?_
              exact g_iret rfl dX7_value_142
            · refine g_case (fun h7 => ?_) (fun h7 => ?_)
              · refine g_tableIn (off := 147) 151 dX7_value_4 (by rw [h7]; decide) (by rw [h7]; decide) (by rw [h7]; try rfl) (by decide) ?_
                refine g_aload_n 0 dX7_value_151 rfl rfl ?_
                refine g_getR fo_5_1 q539 dX7_value_152 fun y61 => ?_
                refine g_getRN fo_0_18 nf_192 dX7_value_155 fun y62 => ?_
                refine g_getIN fo_1_3 (by decide) nf_149 dX7_value_158 fun x63 => ?_
                refine g_bipush 7 dX7_value_161 (by decide) ?_
                refine g_irem dX7_value_163 ?_
                exact g_iret rfl dX7_value_164
              · refine g_case (fun h8 => ?_) (fun h8 => ?_)
                · refine g_tableIn (off := 161) 165 dX7_value_4 (by rw [h8]; decide) (by rw [h8]; decide) (by rw [h8]; try rfl) (by decide) ?_
                  refine g_aload_n 0 dX7_value_165 rfl rfl ?_
                  refine g_getR fo_5_1 q539 dX7_value_166 fun y55 => ?_
                  refine g_getRN fo_0_4 nf_178 dX7_value_169 fun y56 => ?_
                  refine g_aload_n 0 dX7_value_172 rfl rfl ?_
                  refine g_getR fo_5_1 q539 dX7_value_173 fun y57 => ?_
                  refine g_getIN fo_0_19 (by decide) nf_194 dX7_value_176 fun x58 => ?_
                  refine g_iaload dX7_value_179 fun x59 => ?_
                  refine g_callS_I (mm_J10_bitCount _ _) rfl q599 q600 q125 q601 dd_J10_bitCount rfl (by show 0 + 1 ≤ 0 + (n + 1); omega) (Nat.le_of_ble_eq_true rfl) (Nat.le_of_ble_eq_true rfl) dX7_value_180 fun x60 σ => ?_
                  exact g_iret rfl dX7_value_183
                · refine g_case (fun h9 => ?_) (fun h9 => ?_)
                  · refine g_tableIn (off := 161) 165 dX7_value_4 (by rw [h9]; decide) (by rw [h9]; decide) (by rw [h9]; try rfl) (by decide) ?_
                    refine g_aload_n 0 dX7_value_165 rfl rfl ?_
                    refine g_getR fo_5_1 q539 dX7_value_166 fun y49 => ?_
                    refine g_getRN fo_0_4 nf_178 dX7_value_169 fun y50 => ?_
                    refine g_aload_n 0 dX7_value_172 rfl rfl ?_
                    refine g_getR fo_5_1 q539 dX7_value_173 fun y51 => ?_
                    refine g_getIN fo_0_19 (by decide) nf_194 dX7_value_176 fun x52 => ?_
                    refine g_iaload dX7_value_179 fun x53 => ?_
                    refine g_callS_I (mm_J10_bitCount _ _) rfl q599 q600 q125 q601 dd_J10_bitCount rfl (by show 0 + 1 ≤ 0 + (n + 1); omega) (Nat.le_of_ble_eq_true rfl) (Nat.le_of_ble_eq_true rfl) dX7_value_180 fun x54 σ => ?_
                    exact g_iret rfl dX7_value_183
                  · refine g_case (fun h10 => ?_) (fun h10 => ?_)
                    · refine g_tableIn (off := 161) 165 dX7_value_4 (by rw [h10]; decide) (by rw [h10]; decide) (by rw [h10]; try rfl) (by decide) ?_
                      refine g_aload_n 0 dX7_value_165 rfl rfl ?_
                      refine g_getR fo_5_1 q539 dX7_value_166 fun y43 => ?_
                      refine g_getRN fo_0_4 nf_178 dX7_value_169 fun y44 => ?_
                      refine g_aload_n 0 dX7_value_172 rfl rfl ?_
                      refine g_getR fo_5_1 q539 dX7_value_173 fun y45 => ?_
                      refine g_getIN fo_0_19 (by decide) nf_194 dX7_value_176 fun x46 => ?_
                      refine g_iaload dX7_value_179 fun x47 => ?_
                      refine g_callS_I (mm_J10_bitCount _ _) rfl q599 q600 q125 q601 dd_J10_bitCount rfl (by show 0 + 1 ≤ 0 + (n + 1); omega) (Nat.le_of_ble_eq_true rfl) (Nat.le_of_ble_eq_true rfl) dX7_value_180 fun x48 σ => ?_
                      exact g_iret rfl dX7_value_183
                    · refine g_case (fun h11 => ?_) (fun h11 => ?_)
                      · refine g_tableIn (off := 161) 165 dX7_value_4 (by rw [h11]; decide) (by rw [h11]; decide) (by rw [h11]; try rfl) (by decide) ?_
                        refine g_aload_n 0 dX7_value_165 rfl rfl ?_
                        refine g_getR fo_5_1 q539 dX7_value_166 fun y37 => ?_
                        refine g_getRN fo_0_4 nf_178 dX7_value_169 fun y38 => ?_
                        refine g_aload_n 0 dX7_value_172 rfl rfl ?_
                        refine g_getR fo_5_1 q539 dX7_value_173 fun y39 => ?_
                        refine g_getIN fo_0_19 (by decide) nf_194 dX7_value_176 fun x40 => ?_
                        refine g_iaload dX7_value_179 fun x41 => ?_
                        refine g_callS_I (mm_J10_bitCount _ _) rfl q599 q600 q125 q601 dd_J10_bitCount rfl (by show 0 + 1 ≤ 0 + (n + 1); omega) (Nat.le_of_ble_eq_true rfl) (Nat.le_of_ble_eq_true rfl) dX7_value_180 fun x42 σ => ?_
                        exact g_iret rfl dX7_value_183
                      · refine g_case (fun h12 => ?_) (fun h12 => ?_)
                        · refine g_tableIn (off := 161) 165 dX7_value_4 (by rw [h12]; decide) (by rw [h12]; decide) (by rw [h12]; try rfl) (by decide) ?_
                          refine g_aload_n 0 dX7_value_165 rfl rfl ?_
                          refine g_getR fo_5_1 q539 dX7_value_166 fun y31 => ?_
                          refine g_getRN fo_0_4 nf_178 dX7_value_169 fun y32 => ?_
                          refine g_aload_n 0 dX7_value_172 rfl rfl ?_
                          refine g_getR fo_5_1 q539 dX7_value_173 fun y33 => ?_
                          refine g_getIN fo_0_19 (by decide) nf_194 dX7_value_176 fun x34 => ?_
                          refine g_iaload dX7_value_179 fun x35 => ?_
                          refine g_callS_I (mm_J10_bitCount _ _) rfl q599 q600 q125 q601 dd_J10_bitCount rfl (by show 0 + 1 ≤ 0 + (n + 1); omega) (Nat.le_of_ble_eq_true rfl) (Nat.le_of_ble_eq_true rfl) dX7_value_180 fun x36 σ => ?_
                          exact g_iret rfl dX7_value_183
                        · refine g_case (fun h13 => ?_) (fun h13 => ?_)
                          · refine g_tableIn (off := 88) 92 dX7_value_4 (by rw [h13]; decide) (by rw [h13]; decide) (by rw [h13]; try rfl) (by decide) ?_
                            refine g_aload_n 0 dX7_value_92 rfl rfl ?_
                            refine g_getR fo_5_1 q539 dX7_value_93 fun y25 => ?_
                            refine g_getRN fo_0_18 nf_192 dX7_value_96 fun y26 => ?_
                            refine g_getRN fo_1_1 nf_144 dX7_value_99 fun y27 => ?_
                            refine g_aload_n 0 dX7_value_102 rfl rfl ?_
                            refine g_getR fo_5_1 q539 dX7_value_103 fun y28 => ?_
                            refine g_getIN fo_0_19 (by decide) nf_194 dX7_value_106 fun x29 => ?_
                            refine g_iaload dX7_value_109 fun x30 => ?_
                            exact g_iret rfl dX7_value_110
                          · refine g_case (fun h14 => ?_) (fun h14 => ?_)
                            · refine g_tableIn (off := 161) 165 dX7_value_4 (by rw [h14]; decide) (by rw [h14]; decide) (by rw [h14]; try rfl) (by decide) ?_
                              refine g_aload_n 0 dX7_value_165 rfl rfl ?_
                              refine g_getR fo_5_1 q539 dX7_value_166 fun y19 => ?_
                              refine g_getRN fo_0_4 nf_178 dX7_value_169 fun y20 => ?_
                              refine g_aload_n 0 dX7_value_172 rfl rfl ?_
                              refine g_getR fo_5_1 q539 dX7_value_173 fun y21 => ?_
                              refine g_getIN fo_0_19 (by decide) nf_194 dX7_value_176 fun x22 => ?_
                              refine g_iaload dX7_value_179 fun x23 => ?_
                              refine g_callS_I (mm_J10_bitCount _ _) rfl q599 q600 q125 q601 dd_J10_bitCount rfl (by show 0 + 1 ≤ 0 + (n + 1); omega) (Nat.le_of_ble_eq_true rfl) (Nat.le_of_ble_eq_true rfl) dX7_value_180 fun x24 σ => ?_
                              exact g_iret rfl dX7_value_183
                            · refine g_case (fun h15 => ?_) (fun h15 => ?_)
                              · refine g_tableIn (off := 161) 165 dX7_value_4 (by rw [h15]; decide) (by rw [h15]; decide) (by rw [h15]; try rfl) (by decide) ?_
                                refine g_aload_n 0 dX7_value_165 rfl rfl ?_
                                refine g_getR fo_5_1 q539 dX7_value_166 fun y13 => ?_
                                refine g_getRN fo_0_4 nf_178 dX7_value_169 fun y14 => ?_
                                refine g_aload_n 0 dX7_value_172 rfl rfl ?_
                                refine g_getR fo_5_1 q539 dX7_value_173 fun y15 => ?_
                                refine g_getIN fo_0_19 (by decide) nf_194 dX7_value_176 fun x16 => ?_
                                refine g_iaload dX7_value_179 fun x17 => ?_
                                refine g_callS_I (mm_J10_bitCount _ _) rfl q599 q600 q125 q601 dd_J10_bitCount rfl (by show 0 + 1 ≤ 0 + (n + 1); omega) (Nat.le_of_ble_eq_true rfl) (Nat.le_of_ble_eq_true rfl) dX7_value_180 fun x18 σ => ?_
                                exact g_iret rfl dX7_value_183
                              · refine g_case (fun h16 => ?_) (fun h16 => ?_)
                                · refine g_tableIn (off := 107) 111 dX7_value_4 (by rw [h16]; decide) (by rw [h16]; decide) (by rw [h16]; try rfl) (by decide) ?_
                                  refine g_aload_n 0 dX7_value_111 rfl rfl ?_
                                  refine g_getR fo_5_1 q539 dX7_value_112 fun y8 => ?_
                                  refine g_getRN fo_0_3 nf_176 dX7_value_115 fun y9 => ?_
                                  refine g_aload_n 0 dX7_value_118 rfl rfl ?_
                                  refine g_getR fo_5_1 q539 dX7_value_119 fun y10 => ?_
                                  refine g_getIN fo_0_19 (by decide) nf_194 dX7_value_122 fun x11 => ?_
                                  refine g_iaload dX7_value_125 fun x12 => ?_
                                  exact g_iret rfl dX7_value_126
                                · refine g_tableOut 165 dX7_value_4 (by have := lv_neT h1 (a := 104) (by decide); have := lv_neT h2 (a := 105) (by decide); have := lv_neT h3 (a := 106) (by decide); have := lv_neT h4 (a := 107) (by decide); have := lv_neT h5 (a := 108) (by decide); have := lv_neT h6 (a := 109) (by decide); have := lv_neT h7 (a := 110) (by decide); have := lv_neT h8 (a := 111) (by decide); have := lv_neT h9 (a := 112) (by decide); have := lv_neT h10 (a := 113) (by decide); have := lv_neT h11 (a := 114) (by decide); have := lv_neT h12 (a := 115) (by decide); have := lv_neT h13 (a := 116) (by decide); have := lv_neT h14 (a := 117) (by decide); have := lv_neT h15 (a := 118) (by decide); have := lv_neT h16 (a := 119) (by decide); omega) (by decide) ?_
                                  refine g_aload_n 0 dX7_value_165 rfl rfl ?_
                                  refine g_getR fo_5_1 q539 dX7_value_166 fun y2 => ?_
                                  refine g_getRN fo_0_4 nf_178 dX7_value_169 fun y3 => ?_
                                  refine g_aload_n 0 dX7_value_172 rfl rfl ?_
                                  refine g_getR fo_5_1 q539 dX7_value_173 fun y4 => ?_
                                  refine g_getIN fo_0_19 (by decide) nf_194 dX7_value_176 fun x5 => ?_
                                  refine g_iaload dX7_value_179 fun x6 => ?_
                                  refine g_callS_I (mm_J10_bitCount _ _) rfl q599 q600 q125 q601 dd_J10_bitCount rfl (by show 0 + 1 ≤ 0 + (n + 1); omega) (Nat.le_of_ble_eq_true rfl) (Nat.le_of_ble_eq_true rfl) dX7_value_180 fun x7 σ => ?_
                                  exact g_iret rfl dX7_value_183
/-! RockingHorse$Act.value()I -/
def fb_X8_value (rv : Option Nat → Hp → Option (Int32 × Hp)) (v0 : Option Nat) (σ : Hp) : Option (Int32 × Hp) :=
  gR 6 1 σ v0 fun y1 =>
  bnd (rv y1 σ) fun x2 σ =>
  gR 6 2 σ v0 fun y3 =>
  bnd (rv y3 σ) fun x4 σ =>
  gI 6 0 σ v0 fun x5 =>
  if x5 = 42 then
    some ((x2 * x4), σ)
  else
  if x5 = 43 then
    some ((x2 + x4), σ)
  else
  if x5 = 45 then
    some ((x2 - x4), σ)
  else
  if x5 = 47 then
    if x4 = 0 then
      some (0, σ)
    else
      idv x4 <|
      some ((x2 / x4), σ)
  else
  if x5 = 60 then
    if x4 ≤ x2 then
      some (0, σ)
    else
      some (1, σ)
  else
  if x5 = 62 then
    if x2 ≤ x4 then
      some (0, σ)
    else
      some (1, σ)
  else
  if x2 = x4 then
    some (1, σ)
  else
    some (0, σ)
theorem mb_X8_value (n : Nat) (rv : Option Nat → Hp → Option (Int32 × Hp)) (ih : ∀ (x : Option Nat) (σ : Hp), MV (0 + n) x σ (rv x σ)) : ∀ (v0 : Option Nat) (σ : Hp), MM yX8_value (mi_X8_value (n + 1)) rI [vA v0] σ (fb_X8_value rv v0 σ) := by
  intro v0 σ
  refine mm_of (by decide +kernel) rfl rfl (Nat.le_of_ble_eq_true rfl) ?_
  intro X
  unfold fb_X8_value
  refine g_aload_n 0 dX8_value_0 rfl rfl ?_
  refine g_getR fo_6_1 q559 dX8_value_1 fun y1 => ?_
  refine g_callNode (ih _ _) q591 (Nat.le_refl _) (Nat.le_of_ble_eq_true rfl) dX8_value_4 fun x2 σ => ?_
  refine g_istore_n 1 dX8_value_7 rfl (lt_b rfl) ?_
  refine g_aload_n 0 dX8_value_8 rfl rfl ?_
  refine g_getR fo_6_2 q560 dX8_value_9 fun y3 => ?_
  refine g_callNode (ih _ _) q591 (Nat.le_refl _) (Nat.le_of_ble_eq_true rfl) dX8_value_12 fun x4 σ => ?_
  refine g_istore_n 2 dX8_value_15 rfl (lt_b rfl) ?_
  refine g_aload_n 0 dX8_value_16 rfl rfl ?_
  refine g_getI fo_6_0 (by decide) q558 dX8_value_17 fun x5 => ?_
  refine g_case (fun h1 => ?_) (fun h1 => ?_)
  · refine g_lookup (off := 68) 88 dX8_value_20 (by decide) (by rw [h1]; try rfl) (by decide) ?_
    refine g_iload_n 1 dX8_value_88 rfl rfl ?_
    refine g_iload_n 2 dX8_value_89 rfl rfl ?_
    refine g_imul dX8_value_90 ?_
    exact g_iret rfl dX8_value_91
  · refine g_case (fun h2 => ?_) (fun h2 => ?_)
    · refine g_lookup (off := 60) 80 dX8_value_20 (by decide) (by rw [h2]; try rfl) (by decide) ?_
      refine g_iload_n 1 dX8_value_80 rfl rfl ?_
      refine g_iload_n 2 dX8_value_81 rfl rfl ?_
      refine g_iadd dX8_value_82 ?_
      exact g_iret rfl dX8_value_83
    · refine g_case (fun h3 => ?_) (fun h3 => ?_)
      · refine g_lookup (off := 64) 84 dX8_value_20 (by decide) (by rw [h3]; try rfl) (by decide) ?_
        refine g_iload_n 1 dX8_value_84 rfl rfl ?_
        refine g_iload_n 2 dX8_value_85 rfl rfl ?_
        refine g_isub dX8_value_86 ?_
        exact g_iret rfl dX8_value_87
      · refine g_case (fun h4 => ?_) (fun h4 => ?_)
        · refine g_lookup (off := 72) 92 dX8_value_20 (by decide) (by rw [h4]; try rfl) (by decide) ?_
          refine g_iload_n 2 dX8_value_92 rfl rfl ?_
          refine g_if_ne 100 dX8_value_93 (by decide) ?_ ?_
          · refine g_iload_n 1 dX8_value_100 rfl rfl ?_
            refine g_iload_n 2 dX8_value_101 rfl rfl ?_
            refine g_idiv dX8_value_102 ?_
            exact g_iret rfl dX8_value_103
          · refine g_iconst 0 dX8_value_96 (by decide) ?_
            refine g_goto 103 dX8_value_97 (by decide) ?_
            exact g_iret rfl dX8_value_103
        · refine g_case (fun h5 => ?_) (fun h5 => ?_)
          · refine g_lookup (off := 84) 104 dX8_value_20 (by decide) (by rw [h5]; try rfl) (by decide) ?_
            refine g_iload_n 1 dX8_value_104 rfl rfl ?_
            refine g_iload_n 2 dX8_value_105 rfl rfl ?_
            refine g_icmp_ge 113 dX8_value_106 (by decide) ?_ ?_
            · refine g_iconst 0 dX8_value_113 (by decide) ?_
              exact g_iret rfl dX8_value_114
            · refine g_iconst 1 dX8_value_109 (by decide) ?_
              refine g_goto 114 dX8_value_110 (by decide) ?_
              exact g_iret rfl dX8_value_114
          · refine g_case (fun h6 => ?_) (fun h6 => ?_)
            · refine g_lookup (off := 95) 115 dX8_value_20 (by decide) (by rw [h6]; try rfl) (by decide) ?_
              refine g_iload_n 1 dX8_value_115 rfl rfl ?_
              refine g_iload_n 2 dX8_value_116 rfl rfl ?_
              refine g_icmp_le 124 dX8_value_117 (by decide) ?_ ?_
              · refine g_iconst 0 dX8_value_124 (by decide) ?_
                exact g_iret rfl dX8_value_125
              · refine g_iconst 1 dX8_value_120 (by decide) ?_
                refine g_goto 125 dX8_value_121 (by decide) ?_
                exact g_iret rfl dX8_value_125
            · refine g_lookup (off := 106) 126 dX8_value_20 (by decide) (by rw [lv_osw h1 (by decide)]; rw [lv_osw h2 (by decide)]; rw [lv_osw h3 (by decide)]; rw [lv_osw h4 (by decide)]; rw [lv_osw h5 (by decide)]; rw [lv_osw h6 (by decide)]; try rfl) (by decide) ?_
              refine g_iload_n 1 dX8_value_126 rfl rfl ?_
              refine g_iload_n 2 dX8_value_127 rfl rfl ?_
              refine g_icmp_ne 135 dX8_value_128 (by decide) ?_ ?_
              · refine g_iconst 0 dX8_value_135 (by decide) ?_
                exact g_iret rfl dX8_value_136
              · refine g_iconst 1 dX8_value_131 (by decide) ?_
                refine g_goto 136 dX8_value_132 (by decide) ?_
                exact g_iret rfl dX8_value_136
def f_value : Nat → Option Nat → Hp → Option (Int32 × Hp)
  | 0, _, _ => none
  | _ + 1, none, _ => none
  | n + 1, some a, σ => if a < hn σ then (if (hk σ a).1 = 3 then fb_X5_value (f_value n) (some a) σ else if (hk σ a).1 = 4 then fb_X6_value (f_value n) (some a) σ else if (hk σ a).1 = 5 then fb_X7_value (f_value n) (some a) σ else if (hk σ a).1 = 6 then fb_X8_value (f_value n) (some a) σ else none) else none
theorem mv_value : ∀ (n : Nat) (x : Option Nat) (σ : Hp), MV (0 + n) x σ (f_value n x σ) := by
  intro n
  induction n with
  | zero => intro x σ r σf h; exact nomatch (show (none : Option (Int32 × Hp)) = some (r, σf) from h)
  | succ n ih =>
    intro x σ r σf h
    cases x with
    | none => exact nomatch (show (none : Option (Int32 × Hp)) = some (r, σf) from h)
    | some a =>
      have e : f_value (n + 1) (some a) σ = if a < hn σ then (if (hk σ a).1 = 3 then fb_X5_value (f_value n) (some a) σ else if (hk σ a).1 = 4 then fb_X6_value (f_value n) (some a) σ else if (hk σ a).1 = 5 then fb_X7_value (f_value n) (some a) σ else if (hk σ a).1 = 6 then fb_X8_value (f_value n) (some a) σ else none) else none := rfl
      rw [e] at h ⊢
      by_cases ha : a < hn σ
      · rw [if_pos ha] at h ⊢
        refine ⟨a, rfl, ha, ?_⟩
        by_cases h3 : (hk σ a).1 = 3
        · rw [if_pos h3] at h ⊢
          exact ⟨_, _, _, _, _, by rw [h3]; exact zc_3, mb_X5_value n _ ih _ _, Nat.le_refl _, Nat.le_of_ble_eq_true rfl, q605, q592, q117, q593⟩
        rw [if_neg h3] at h ⊢
        by_cases h4 : (hk σ a).1 = 4
        · rw [if_pos h4] at h ⊢
          exact ⟨_, _, _, _, _, by rw [h4]; exact zc_4, mb_X6_value n _ ih _ _, Nat.le_refl _, Nat.le_of_ble_eq_true rfl, q606, q595, q118, q596⟩
        rw [if_neg h4] at h ⊢
        by_cases h5 : (hk σ a).1 = 5
        · rw [if_pos h5] at h ⊢
          exact ⟨_, _, _, _, _, by rw [h5]; exact zc_5, mb_X7_value n _ ih _ _, Nat.le_refl _, Nat.le_of_ble_eq_true rfl, q607, q597, q119, q598⟩
        rw [if_neg h5] at h ⊢
        by_cases h6 : (hk σ a).1 = 6
        · rw [if_pos h6] at h ⊢
          exact ⟨_, _, _, _, _, by rw [h6]; exact zc_6, mb_X8_value n _ ih _ _, Nat.le_refl _, Nat.le_of_ble_eq_true rfl, q588, q589, q120, q590⟩
        rw [if_neg h6] at h
        cases h
      · rw [if_neg ha] at h
        cases h
/-! RockingHorseLaw.row(LRockingHorse;I[J)I -/
abbrev mi_X0_row : Mi := (cX0_row, 4, "RockingHorseLaw", 7, some .int, "row")
def f_X0_row (v0 : Option Nat) (v1 : Int32) (v2 : Option Nat) (σ : Hp) : Option (Int32 × Hp) :=
  ob 0 σ v0 fun _ => bndX (f_X1_row v0 v1 σ) (fun x1 σ =>
      sL σ v2 0 x1 fun σ =>
      some (0, σ)) (fun σ =>
      some (1, σ))
theorem mm_X0_row (v0 : Option Nat) (v1 : Int32) (v2 : Option Nat) (σ : Hp) : MMW yX0_row mi_X0_row [(0, 8, 11, 13)] rI [vA v0, vI v1, vA v2] σ (f_X0_row v0 v1 v2 σ) := by
  refine mmw_of (by decide +kernel) rfl rfl (Nat.le_of_ble_eq_true rfl) ?_
  intro X htab
  unfold f_X0_row
  refine g_aload_n 2 dX0_row_0 rfl rfl ?_
  refine g_iconst 0 dX0_row_1 (by decide) ?_
  refine g_aload_n 0 dX0_row_2 rfl rfl ?_
  refine g_iload_n 1 dX0_row_3 rfl rfl ?_
  refine g_callX_L (i := 3) htab (by decide) (by decide) q972 (Or.inr ⟨_, dX0_row_11, rfl, rfl⟩) (lt_b rfl) rfl (mm_X1_row _ _ _) rfl zc_0 q1045 q1046 q1047 q107 q1048 dv_X1_row rfl (by decide) (Nat.le_of_ble_eq_true rfl) (Nat.le_of_ble_eq_true rfl) dX0_row_4 (fun x1 σ => ?_) (fun σ => ?_)
  · refine g_lastore dX0_row_7 fun σ => ?_
    refine g_goto 14 dX0_row_8 (by decide) ?_
    refine g_iconst 0 dX0_row_14 (by decide) ?_
    exact g_iret rfl dX0_row_15
  · refine g_iconst 1 dX0_row_12 (by decide) ?_
    exact g_iret rfl dX0_row_13
theorem dd_X0_row : yX0_row.cls ≠ "java/lang/invoke/MethodHandle" ∧ yX0_row.cls ≠ "java/lang/invoke/VarHandle" ∧ (parseMethodDescriptor yX0_row.desc).map (fun d => d.parameters.length) = some 3 := by decide +kernel
/-! RockingHorse.<init>()V -/
abbrev mi_X1_init : Mi := (cX1_init, 1, "RockingHorse", 2, none, "<init>")
def f_X1_init (v0 : Option Nat) (σ : Hp) : Option (Unit × Hp) :=
  nn v0 <|
  nO 1 6 σ fun y1 σ =>
  nn y1 <| bnd (f_X2_init y1 σ) fun _ σ =>
  pR 0 0 σ v0 y1 fun σ =>
  nO 1 6 σ fun y2 σ =>
  nn y2 <| bnd (f_X2_init y2 σ) fun _ σ =>
  pR 0 1 σ v0 y2 fun σ =>
  nA 100 σ 8 fun y3 σ =>
  pR 0 2 σ v0 y3 fun σ =>
  nA 100 σ 8 fun y4 σ =>
  pR 0 3 σ v0 y4 fun σ =>
  nA 100 σ 8 fun y5 σ =>
  pR 0 4 σ v0 y5 fun σ =>
  pI 0 0 6 σ v0 8 fun σ =>
  pI 0 0 7 σ v0 4 fun σ =>
  nA 100 σ 80 fun y6 σ =>
  pR 0 9 σ v0 y6 fun σ =>
  nA 100 σ 8 fun y7 σ =>
  pR 0 14 σ v0 y7 fun σ =>
  nA 100 σ 8 fun y8 σ =>
  pR 0 15 σ v0 y8 fun σ =>
  nA 100 σ 8 fun y9 σ =>
  pR 0 16 σ v0 y9 fun σ =>
  nA 104 σ 12 fun y10 σ =>
  pR 0 23 σ v0 y10 fun σ =>
  nO 1 6 σ fun y11 σ =>
  nn y11 <| bnd (f_X2_init y11 σ) fun _ σ =>
  pR 0 24 σ v0 y11 fun σ =>
  nA 100 σ 8 fun y12 σ =>
  pR 0 26 σ v0 y12 fun σ =>
  nA 100 σ 8 fun y13 σ =>
  pR 0 27 σ v0 y13 fun σ =>
  nA 100 σ 8 fun y14 σ =>
  pR 0 30 σ v0 y14 fun σ =>
  nA 100 σ 60 fun y15 σ =>
  pR 0 31 σ v0 y15 fun σ =>
  nA 100 σ 60 fun y16 σ =>
  pR 0 32 σ v0 y16 fun σ =>
  nA 100 σ 60 fun y17 σ =>
  pR 0 33 σ v0 y17 fun σ =>
  nA 100 σ 8 fun y18 σ =>
  pR 0 35 σ v0 y18 fun σ =>
  nA 100 σ 8 fun y19 σ =>
  pR 0 36 σ v0 y19 fun σ =>
  nA 100 σ 64 fun y20 σ =>
  pR 0 37 σ v0 y20 fun σ =>
  nA 100 σ 256 fun y21 σ =>
  pR 0 38 σ v0 y21 fun σ =>
  nA 100 σ 256 fun y22 σ =>
  pR 0 39 σ v0 y22 fun σ =>
  nA 100 σ 8 fun y23 σ =>
  pR 0 40 σ v0 y23 fun σ =>
  nA 103 σ 256 fun y24 σ =>
  pR 0 41 σ v0 y24 fun σ =>
  pI 0 0 42 σ v0 1000000 fun σ =>
  nA 100 σ 12 fun y25 σ =>
  pR 0 45 σ v0 y25 fun σ =>
  nA 100 σ 12 fun y26 σ =>
  pR 0 46 σ v0 y26 fun σ =>
  nA 100 σ 12 fun y27 σ =>
  pR 0 47 σ v0 y27 fun σ =>
  nA 104 σ 2 fun y28 σ =>
  pR 0 49 σ v0 y28 fun σ =>
  nA 100 σ 2 fun y29 σ =>
  pR 0 50 σ v0 y29 fun σ =>
  nA 103 σ 16 fun y30 σ =>
  pR 0 51 σ v0 y30 fun σ =>
  some ((), σ)
theorem mm_X1_init (v0 : Option Nat) (σ : Hp) : MM yX1_init mi_X1_init rV [vA v0] σ (f_X1_init v0 σ) := by
  refine mm_of (by decide +kernel) rfl rfl (Nat.le_of_ble_eq_true rfl) ?_
  intro X
  unfold f_X1_init
  refine g_aload_n 0 dX1_init_0 rfl rfl ?_
  refine g_objInit q132 (by decide) (Nat.le_of_ble_eq_true rfl) dX1_init_1 ?_
  refine g_aload_n 0 dX1_init_4 rfl rfl ?_
  refine g_new zc_1 tcok_1 q135 q136 q108 dX1_init_5 fun y1 σ => ?_
  refine g_dup dX1_init_8 rfl ?_
  refine g_callIN_V (mm_X2_init _ _) rfl rfl nm_137 q138 q108 q139 rfl dd_X2_init rfl (Nat.le_of_ble_eq_true rfl) (Nat.le_of_ble_eq_true rfl) (Nat.le_of_ble_eq_true rfl) dX1_init_9 fun _ σ => ?_
  refine g_putRF rfl fo_0_0 rfl rfl q171 dX1_init_12 fun σ => ?_
  refine g_aload_n 0 dX1_init_15 rfl rfl ?_
  refine g_new zc_1 tcok_1 q135 q136 q108 dX1_init_16 fun y2 σ => ?_
  refine g_dup dX1_init_19 rfl ?_
  refine g_callIN_V (mm_X2_init _ _) rfl rfl nm_137 q138 q108 q139 rfl dd_X2_init rfl (Nat.le_of_ble_eq_true rfl) (Nat.le_of_ble_eq_true rfl) (Nat.le_of_ble_eq_true rfl) dX1_init_20 fun _ σ => ?_
  refine g_putRF rfl fo_0_1 rfl rfl q172 dX1_init_23 fun σ => ?_
  refine g_aload_n 0 dX1_init_26 rfl rfl ?_
  refine g_bipush 8 dX1_init_27 (by decide) ?_
  refine g_newarray_int dX1_init_29 fun y3 σ => ?_
  refine g_putRF rfl fo_0_2 rfl rfl q173 dX1_init_31 fun σ => ?_
  refine g_aload_n 0 dX1_init_34 rfl rfl ?_
  refine g_bipush 8 dX1_init_35 (by decide) ?_
  refine g_newarray_int dX1_init_37 fun y4 σ => ?_
  refine g_putRF rfl fo_0_3 rfl rfl q175 dX1_init_39 fun σ => ?_
  refine g_aload_n 0 dX1_init_42 rfl rfl ?_
  refine g_bipush 8 dX1_init_43 (by decide) ?_
  refine g_newarray_int dX1_init_45 fun y5 σ => ?_
  refine g_putRF rfl fo_0_4 rfl rfl q177 dX1_init_47 fun σ => ?_
  refine g_aload_n 0 dX1_init_50 rfl rfl ?_
  refine g_bipush 8 dX1_init_51 (by decide) ?_
  refine g_putI fo_0_6 (by decide) rfl q180 dX1_init_53 fun σ => ?_
  refine g_aload_n 0 dX1_init_56 rfl rfl ?_
  refine g_iconst 4 dX1_init_57 (by decide) ?_
  refine g_putI fo_0_7 (by decide) rfl q181 dX1_init_58 fun σ => ?_
  refine g_aload_n 0 dX1_init_61 rfl rfl ?_
  refine g_bipush 80 dX1_init_62 (by decide) ?_
  refine g_newarray_int dX1_init_64 fun y6 σ => ?_
  refine g_putRF rfl fo_0_9 rfl rfl q183 dX1_init_66 fun σ => ?_
  refine g_aload_n 0 dX1_init_69 rfl rfl ?_
  refine g_bipush 8 dX1_init_70 (by decide) ?_
  refine g_newarray_int dX1_init_72 fun y7 σ => ?_
  refine g_putRF rfl fo_0_14 rfl rfl q188 dX1_init_74 fun σ => ?_
  refine g_aload_n 0 dX1_init_77 rfl rfl ?_
  refine g_bipush 8 dX1_init_78 (by decide) ?_
  refine g_newarray_int dX1_init_80 fun y8 σ => ?_
  refine g_putRF rfl fo_0_15 rfl rfl q189 dX1_init_82 fun σ => ?_
  refine g_aload_n 0 dX1_init_85 rfl rfl ?_
  refine g_bipush 8 dX1_init_86 (by decide) ?_
  refine g_newarray_int dX1_init_88 fun y9 σ => ?_
  refine g_putRF rfl fo_0_16 rfl rfl q190 dX1_init_90 fun σ => ?_
  refine g_aload_n 0 dX1_init_93 rfl rfl ?_
  refine g_bipush 12 dX1_init_94 (by decide) ?_
  refine g_anewarray q135 dX1_init_96 fun y10 σ => ?_
  refine g_putRF rfl fo_0_23 rfl rfl q200 dX1_init_99 fun σ => ?_
  refine g_aload_n 0 dX1_init_102 rfl rfl ?_
  refine g_new zc_1 tcok_1 q135 q136 q108 dX1_init_103 fun y11 σ => ?_
  refine g_dup dX1_init_106 rfl ?_
  refine g_callIN_V (mm_X2_init _ _) rfl rfl nm_137 q138 q108 q139 rfl dd_X2_init rfl (Nat.le_of_ble_eq_true rfl) (Nat.le_of_ble_eq_true rfl) (Nat.le_of_ble_eq_true rfl) dX1_init_107 fun _ σ => ?_
  refine g_putRF rfl fo_0_24 rfl rfl q201 dX1_init_110 fun σ => ?_
  refine g_aload_n 0 dX1_init_113 rfl rfl ?_
  refine g_bipush 8 dX1_init_114 (by decide) ?_
  refine g_newarray_int dX1_init_116 fun y12 σ => ?_
  refine g_putRF rfl fo_0_26 rfl rfl q203 dX1_init_118 fun σ => ?_
  refine g_aload_n 0 dX1_init_121 rfl rfl ?_
  refine g_bipush 8 dX1_init_122 (by decide) ?_
  refine g_newarray_int dX1_init_124 fun y13 σ => ?_
  refine g_putRF rfl fo_0_27 rfl rfl q204 dX1_init_126 fun σ => ?_
  refine g_aload_n 0 dX1_init_129 rfl rfl ?_
  refine g_bipush 8 dX1_init_130 (by decide) ?_
  refine g_newarray_int dX1_init_132 fun y14 σ => ?_
  refine g_putRF rfl fo_0_30 rfl rfl q207 dX1_init_134 fun σ => ?_
  refine g_aload_n 0 dX1_init_137 rfl rfl ?_
  refine g_bipush 60 dX1_init_138 (by decide) ?_
  refine g_newarray_int dX1_init_140 fun y15 σ => ?_
  refine g_putRF rfl fo_0_31 rfl rfl q208 dX1_init_142 fun σ => ?_
  refine g_aload_n 0 dX1_init_145 rfl rfl ?_
  refine g_bipush 60 dX1_init_146 (by decide) ?_
  refine g_newarray_int dX1_init_148 fun y16 σ => ?_
  refine g_putRF rfl fo_0_32 rfl rfl q209 dX1_init_150 fun σ => ?_
  refine g_aload_n 0 dX1_init_153 rfl rfl ?_
  refine g_bipush 60 dX1_init_154 (by decide) ?_
  refine g_newarray_int dX1_init_156 fun y17 σ => ?_
  refine g_putRF rfl fo_0_33 rfl rfl q210 dX1_init_158 fun σ => ?_
  refine g_aload_n 0 dX1_init_161 rfl rfl ?_
  refine g_bipush 8 dX1_init_162 (by decide) ?_
  refine g_newarray_int dX1_init_164 fun y18 σ => ?_
  refine g_putRF rfl fo_0_35 rfl rfl q212 dX1_init_166 fun σ => ?_
  refine g_aload_n 0 dX1_init_169 rfl rfl ?_
  refine g_bipush 8 dX1_init_170 (by decide) ?_
  refine g_newarray_int dX1_init_172 fun y19 σ => ?_
  refine g_putRF rfl fo_0_36 rfl rfl q213 dX1_init_174 fun σ => ?_
  refine g_aload_n 0 dX1_init_177 rfl rfl ?_
  refine g_bipush 64 dX1_init_178 (by decide) ?_
  refine g_newarray_int dX1_init_180 fun y20 σ => ?_
  refine g_putRF rfl fo_0_37 rfl rfl q214 dX1_init_182 fun σ => ?_
  refine g_aload_n 0 dX1_init_185 rfl rfl ?_
  refine g_sipush 256 dX1_init_186 (by decide) ?_
  refine g_newarray_int dX1_init_189 fun y21 σ => ?_
  refine g_putRF rfl fo_0_38 rfl rfl q215 dX1_init_191 fun σ => ?_
  refine g_aload_n 0 dX1_init_194 rfl rfl ?_
  refine g_sipush 256 dX1_init_195 (by decide) ?_
  refine g_newarray_int dX1_init_198 fun y22 σ => ?_
  refine g_putRF rfl fo_0_39 rfl rfl q216 dX1_init_200 fun σ => ?_
  refine g_aload_n 0 dX1_init_203 rfl rfl ?_
  refine g_bipush 8 dX1_init_204 (by decide) ?_
  refine g_newarray_int dX1_init_206 fun y23 σ => ?_
  refine g_putRF rfl fo_0_40 rfl rfl q217 dX1_init_208 fun σ => ?_
  refine g_aload_n 0 dX1_init_211 rfl rfl ?_
  refine g_sipush 256 dX1_init_212 (by decide) ?_
  refine g_newarray_long dX1_init_215 fun y24 σ => ?_
  refine g_putRF rfl fo_0_41 rfl rfl q218 dX1_init_217 fun σ => ?_
  refine g_aload_n 0 dX1_init_220 rfl rfl ?_
  refine g_ldc dX1_init_221 q170 ?_
  refine g_putI fo_0_42 (by decide) rfl q219 dX1_init_223 fun σ => ?_
  refine g_aload_n 0 dX1_init_226 rfl rfl ?_
  refine g_bipush 12 dX1_init_227 (by decide) ?_
  refine g_newarray_int dX1_init_229 fun y25 σ => ?_
  refine g_putRF rfl fo_0_45 rfl rfl q222 dX1_init_231 fun σ => ?_
  refine g_aload_n 0 dX1_init_234 rfl rfl ?_
  refine g_bipush 12 dX1_init_235 (by decide) ?_
  refine g_newarray_int dX1_init_237 fun y26 σ => ?_
  refine g_putRF rfl fo_0_46 rfl rfl q223 dX1_init_239 fun σ => ?_
  refine g_aload_n 0 dX1_init_242 rfl rfl ?_
  refine g_bipush 12 dX1_init_243 (by decide) ?_
  refine g_newarray_int dX1_init_245 fun y27 σ => ?_
  refine g_putRF rfl fo_0_47 rfl rfl q224 dX1_init_247 fun σ => ?_
  refine g_aload_n 0 dX1_init_250 rfl rfl ?_
  refine g_iconst 2 dX1_init_251 (by decide) ?_
  refine g_anewarray q135 dX1_init_252 fun y28 σ => ?_
  refine g_putRF rfl fo_0_49 rfl rfl q226 dX1_init_255 fun σ => ?_
  refine g_aload_n 0 dX1_init_258 rfl rfl ?_
  refine g_iconst 2 dX1_init_259 (by decide) ?_
  refine g_newarray_int dX1_init_260 fun y29 σ => ?_
  refine g_putRF rfl fo_0_50 rfl rfl q227 dX1_init_262 fun σ => ?_
  refine g_aload_n 0 dX1_init_265 rfl rfl ?_
  refine g_bipush 16 dX1_init_266 (by decide) ?_
  refine g_newarray_long dX1_init_268 fun y30 σ => ?_
  refine g_putRF rfl fo_0_51 rfl rfl q228 dX1_init_270 fun σ => ?_
  exact g_vret rfl dX1_init_273
theorem dd_X1_init : yX1_init.cls ≠ "java/lang/invoke/MethodHandle" ∧ yX1_init.cls ≠ "java/lang/invoke/VarHandle" ∧ (parseMethodDescriptor yX1_init.desc).map (fun d => d.parameters.length) = some 0 := by decide +kernel
theorem dv_X1_init : yX1_init.cls = RX1 ∧ yX1_init.cls ≠ "java/lang/invoke/MethodHandle" ∧ yX1_init.cls ≠ "java/lang/invoke/VarHandle" ∧ (parseMethodDescriptor yX1_init.desc).map (fun d => d.parameters.length) = some 0 := ⟨rfl, dd_X1_init⟩
/-! RockingHorse.end(I)Z -/
abbrev mi_X1_end : Mi := (cX1_end, 2, "RockingHorse", 1, some .boolean, "end")
def f_X1_end (v0 : Option Nat) (v1 : Int32) (σ : Hp) : Option (Int32 × Hp) :=
  gI 0 10 σ v0 fun x1 =>
  bnd (f_X1_in (Int32.toInt64 v1) 0 (Int32.toInt64 x1) σ) fun x2 σ =>
  if x2 = 0 then
    rz1 0 σ
  else
    pI 0 0 10 σ v0 v1 fun σ =>
    rz1 1 σ
theorem mm_X1_end (v0 : Option Nat) (v1 : Int32) (σ : Hp) : MM yX1_end mi_X1_end rI [vA v0, vI v1] σ (f_X1_end v0 v1 σ) := by
  refine mm_of (by decide +kernel) rfl rfl (Nat.le_of_ble_eq_true rfl) ?_
  intro X
  unfold f_X1_end
  refine g_iload_n 1 dX1_end_0 rfl rfl ?_
  refine g_i2l dX1_end_1 ?_
  refine g_lconst 0 dX1_end_2 (by decide) ?_
  refine g_aload_n 0 dX1_end_3 rfl rfl ?_
  refine g_getI fo_0_10 (by decide) q184 dX1_end_4 fun x1 => ?_
  refine g_i2l dX1_end_7 ?_
  refine g_callS_I (mm_X1_in _ _ _ _) rfl q346 q347 q107 q348 dd_X1_in rfl (Nat.le_of_ble_eq_true rfl) (Nat.le_of_ble_eq_true rfl) (Nat.le_of_ble_eq_true rfl) dX1_end_8 fun x2 σ => ?_
  refine g_if_ne 16 dX1_end_11 (by decide) ?_ ?_
  · refine g_aload_n 0 dX1_end_16 rfl rfl ?_
    refine g_iload_n 1 dX1_end_17 rfl rfl ?_
    refine g_putI fo_0_10 (by decide) rfl q184 dX1_end_18 fun σ => ?_
    refine g_iconst 1 dX1_end_21 (by decide) ?_
    exact g_zret rfl dX1_end_22
  · refine g_iconst 0 dX1_end_14 (by decide) ?_
    exact g_zret rfl dX1_end_15
theorem dd_X1_end : yX1_end.cls ≠ "java/lang/invoke/MethodHandle" ∧ yX1_end.cls ≠ "java/lang/invoke/VarHandle" ∧ (parseMethodDescriptor yX1_end.desc).map (fun d => d.parameters.length) = some 1 := by decide +kernel
theorem dv_X1_end : yX1_end.cls = RX1 ∧ yX1_end.cls ≠ "java/lang/invoke/MethodHandle" ∧ yX1_end.cls ≠ "java/lang/invoke/VarHandle" ∧ (parseMethodDescriptor yX1_end.desc).map (fun d => d.parameters.length) = some 1 := ⟨rfl, dd_X1_end⟩
/-! RockingHorse.takes(C)Z -/
abbrev mi_X1_takes : Mi := (cX1_takes, 3, "RockingHorse", 1, some .boolean, "takes")
def f_X1_takes (v0 : Option Nat) (v1 : Int32) (σ : Hp) : Option (Int32 × Hp) :=
  ob 0 σ v0 fun _ => bnd (f_X1_isAt v0 v1 σ) fun x1 σ =>
  gI 0 11 σ v0 fun x2 =>
  jn (fun (a3 : Int32) σ =>
      pI 0 0 11 σ v0 (x2 + a3) fun σ =>
      rz1 x1 σ) fun j4 =>
  if x1 = 0 then
    j4 0 σ
  else
    j4 1 σ
theorem mm_X1_takes (v0 : Option Nat) (v1 : Int32) (σ : Hp) : MM yX1_takes mi_X1_takes rI [vA v0, vI v1] σ (f_X1_takes v0 v1 σ) := by
  refine mm_of (by decide +kernel) rfl rfl (Nat.le_of_ble_eq_true rfl) ?_
  intro X
  unfold f_X1_takes
  refine g_aload_n 0 dX1_takes_0 rfl rfl ?_
  refine g_iload_n 1 dX1_takes_1 rfl rfl ?_
  refine g_callV_I (mm_X1_isAt _ _ _) rfl zc_0 q463 q465 qs5 q107 q466 dv_X1_isAt rfl (Nat.le_of_ble_eq_true rfl) (Nat.le_of_ble_eq_true rfl) (Nat.le_of_ble_eq_true rfl) dX1_takes_2 fun x1 σ => ?_
  refine g_istore_n 2 dX1_takes_5 rfl (lt_b rfl) ?_
  refine g_aload_n 0 dX1_takes_6 rfl rfl ?_
  refine g_dup dX1_takes_7 rfl ?_
  refine g_getI fo_0_11 (by decide) q185 dX1_takes_8 fun x2 => ?_
  refine g_iload_n 2 dX1_takes_11 rfl rfl ?_
  refine g_jn (fun j4 => ∀ (a3 : Int32) (σ : Hp), GG X mi_X1_takes (QM X rI) 20 [(2, vI x1)] [vI a3, vI x2, vA v0] σ (j4 a3 σ)) ?_ ?_
  · intro a3 σ
    refine g_iadd dX1_takes_20 ?_
    refine g_putI fo_0_11 (by decide) rfl q185 dX1_takes_21 fun σ => ?_
    refine g_iload_n 2 dX1_takes_24 rfl rfl ?_
    exact g_zret rfl dX1_takes_25
  · intro j4 hj4
    refine g_if_eq 19 dX1_takes_12 (by decide) ?_ ?_
    · refine g_iconst 0 dX1_takes_19 (by decide) ?_
      exact g_jmp (hj4 _ _) rfl
    · refine g_iconst 1 dX1_takes_15 (by decide) ?_
      refine g_goto 20 dX1_takes_16 (by decide) ?_
      exact g_jmp (hj4 _ _) rfl
theorem dd_X1_takes : yX1_takes.cls ≠ "java/lang/invoke/MethodHandle" ∧ yX1_takes.cls ≠ "java/lang/invoke/VarHandle" ∧ (parseMethodDescriptor yX1_takes.desc).map (fun d => d.parameters.length) = some 1 := by decide +kernel
theorem dv_X1_takes : yX1_takes.cls = RX1 ∧ yX1_takes.cls ≠ "java/lang/invoke/MethodHandle" ∧ yX1_takes.cls ≠ "java/lang/invoke/VarHandle" ∧ (parseMethodDescriptor yX1_takes.desc).map (fun d => d.parameters.length) = some 1 := ⟨rfl, dd_X1_takes⟩
/-! RockingHorse.hardOf(LRockingHorse$Horse;II)I -/
abbrev mi_X1_hardOf : Mi := (cX1_hardOf, 5, "RockingHorse", 101, some .int, "hardOf")
def f_X1_hardOf (v0 : Option Nat) (v1 : Option Nat) (v2 : Int32) (v3 : Int32) (σ : Hp) : Option (Int32 × Hp) :=
  pR 0 18 σ v0 v1 fun σ =>
  pI 0 0 19 σ v0 v2 fun σ =>
  pI 0 0 20 σ v0 v3 fun σ =>
  gR 0 21 σ v0 fun y1 =>
  jn (fun (a2 : Int32) σ =>
      some ((imax 0 (imin 999 a2)), σ)) fun j3 =>
  nul y1 (
    gR 1 1 σ v1 fun y6 =>
    lI 100 σ y6 v2 fun x7 =>
    gR 0 3 σ v0 fun y8 =>
    lI 100 σ y8 v2 fun x9 =>
    jn (fun (a10 : Int32) σ =>
        j3 ((x7 + x9) + a10) σ) fun j11 =>
    if v3 ≤ 5 then
      j11 0 σ
    else
      j11 9 σ) (
    gR 0 21 σ v0 fun y4 =>
    bnd (f_value 100 y4 σ) fun x5 σ =>
    j3 x5 σ)
theorem mm_X1_hardOf (v0 : Option Nat) (v1 : Option Nat) (v2 : Int32) (v3 : Int32) (σ : Hp) : MM yX1_hardOf mi_X1_hardOf rI [vA v0, vA v1, vI v2, vI v3] σ (f_X1_hardOf v0 v1 v2 v3 σ) := by
  refine mm_of (by decide +kernel) rfl rfl (Nat.le_of_ble_eq_true rfl) ?_
  intro X
  unfold f_X1_hardOf
  refine g_aload_n 0 dX1_hardOf_0 rfl rfl ?_
  refine g_aload_n 1 dX1_hardOf_1 rfl rfl ?_
  refine g_putR fo_0_18 rfl q193 dX1_hardOf_2 fun σ => ?_
  refine g_aload_n 0 dX1_hardOf_5 rfl rfl ?_
  refine g_iload_n 2 dX1_hardOf_6 rfl rfl ?_
  refine g_putI fo_0_19 (by decide) rfl q195 dX1_hardOf_7 fun σ => ?_
  refine g_aload_n 0 dX1_hardOf_10 rfl rfl ?_
  refine g_iload_n 3 dX1_hardOf_11 rfl rfl ?_
  refine g_putI fo_0_20 (by decide) rfl q197 dX1_hardOf_12 fun σ => ?_
  refine g_aload_n 0 dX1_hardOf_15 rfl rfl ?_
  refine g_getR fo_0_21 q198 dX1_hardOf_16 fun y1 => ?_
  refine g_jn (fun j3 => ∀ (a2 : Int32) (σ : Hp), GG X mi_X1_hardOf (QM X rI) 57 [] [vI a2] σ (j3 a2 σ)) ?_ ?_
  · intro a2 σ
    refine g_istore dX1_hardOf_57 (lt_b rfl) ?_
    refine g_iconst 0 dX1_hardOf_59 (by decide) ?_
    refine g_sipush 999 dX1_hardOf_60 (by decide) ?_
    refine g_iload dX1_hardOf_63 rfl ?_
    refine g_mmin q357 (by decide) (Nat.le_of_ble_eq_true rfl) dX1_hardOf_65 ?_
    refine g_mmax q608 (by decide) (Nat.le_of_ble_eq_true rfl) dX1_hardOf_68 ?_
    exact g_iret rfl dX1_hardOf_71
  · intro j3 hj3
    refine g_ifnonnull 50 dX1_hardOf_19 (by decide) ?_ ?_
    · refine g_aload_n 0 dX1_hardOf_50 rfl rfl ?_
      refine g_getR fo_0_21 q198 dX1_hardOf_51 fun y4 => ?_
      refine g_callNode (mv_value 100 _ _) q585 (by decide) (Nat.le_of_ble_eq_true rfl) dX1_hardOf_54 fun x5 σ => ?_
      exact g_jmp (hj3 _ _) rfl
    · refine g_aload_n 1 dX1_hardOf_22 rfl rfl ?_
      refine g_getRN fo_1_1 nf_145 dX1_hardOf_23 fun y6 => ?_
      refine g_iload_n 2 dX1_hardOf_26 rfl rfl ?_
      refine g_iaload dX1_hardOf_27 fun x7 => ?_
      refine g_aload_n 0 dX1_hardOf_28 rfl rfl ?_
      refine g_getR fo_0_3 q175 dX1_hardOf_29 fun y8 => ?_
      refine g_iload_n 2 dX1_hardOf_32 rfl rfl ?_
      refine g_iaload dX1_hardOf_33 fun x9 => ?_
      refine g_iadd dX1_hardOf_34 ?_
      refine g_iload_n 3 dX1_hardOf_35 rfl rfl ?_
      refine g_iconst 5 dX1_hardOf_36 (by decide) ?_
      refine g_jn (fun j11 => ∀ (a10 : Int32) (σ : Hp), GG X mi_X1_hardOf (QM X rI) 46 [] [vI a10, vI (x7 + x9)] σ (j11 a10 σ)) ?_ ?_
      · intro a10 σ
        refine g_iadd dX1_hardOf_46 ?_
        refine g_goto 57 dX1_hardOf_47 (by decide) ?_
        exact g_jmp (hj3 _ _) rfl
      · intro j11 hj11
        refine g_icmp_le 45 dX1_hardOf_37 (by decide) ?_ ?_
        · refine g_iconst 0 dX1_hardOf_45 (by decide) ?_
          exact g_jmp (hj11 _ _) rfl
        · refine g_bipush 9 dX1_hardOf_40 (by decide) ?_
          refine g_goto 46 dX1_hardOf_42 (by decide) ?_
          exact g_jmp (hj11 _ _) rfl
theorem dd_X1_hardOf : yX1_hardOf.cls ≠ "java/lang/invoke/MethodHandle" ∧ yX1_hardOf.cls ≠ "java/lang/invoke/VarHandle" ∧ (parseMethodDescriptor yX1_hardOf.desc).map (fun d => d.parameters.length) = some 3 := by decide +kernel
theorem dv_X1_hardOf : yX1_hardOf.cls = RX1 ∧ yX1_hardOf.cls ≠ "java/lang/invoke/MethodHandle" ∧ yX1_hardOf.cls ≠ "java/lang/invoke/VarHandle" ∧ (parseMethodDescriptor yX1_hardOf.desc).map (fun d => d.parameters.length) = some 3 := ⟨rfl, dd_X1_hardOf⟩
/-! RockingHorse.sheet(IIII)I -/
abbrev mi_X1_sheet : Mi := (cX1_sheet, 8, "RockingHorse", 1, some .int, "sheet")
def f_X1_sheet_b38 (v0 : Option Nat) (v1 : Int32) (v2 : Int32) (v4 : Int32) (k0 : Unit → Hp → Option (Int32 × Hp)) (ag : (Int32 × Int32) → Hp → Option (Int32 × Hp)) (a : Int32 × Int32) (σ : Hp) : Option (Int32 × Hp) :=
  gI 0 5 σ v0 fun x4 =>
  if x4 ≤ a.2 then
    k0 () σ
  else
    jn (fun (a5 : Int32) σ =>
        gR 0 0 σ v0 fun y7 =>
        gR 1 1 σ y7 fun y8 =>
        jn (fun (a9 : Int32) σ =>
            sI σ y8 a.2 a9 fun σ =>
            ag ((a.1 + v4), (a.2 + 1)) σ) fun j10 =>
        if v1 = 3 then
          j10 0 σ
        else
          if a.2 < v2 then
            j10 (imax 0 (imin 99 a5)) σ
          else
            j10 0 σ) fun j6 =>
    if v1 = 0 then
      j6 (i2b a.1) σ
    else
      if v1 = 1 then
        j6 (i2s a.1) σ
      else
        j6 a.1 σ
def f_X1_sheet (v0 : Option Nat) (v1 : Int32) (v2 : Int32) (v3 : Int32) (v4 : Int32) (σ : Hp) : Option (Int32 × Hp) :=
  bnd (f_X1_in (Int32.toInt64 v1) 0 3 σ) fun x1 σ =>
  if x1 = 0 then
    some ((-1), σ)
  else
    if v2 ≤ 8 then
      jn (fun (a2 : Unit) σ =>
          lp 2000 (f_X1_sheet_b38 v0 v1 v2 v4 (fun (a11 : Unit) σ =>
              if v1 = 3 then
                some ((-3), σ)
              else
                gR 0 0 σ v0 fun y12 =>
                gR 1 1 σ y12 fun y13 =>
                ob 0 σ v0 fun _ => bnd (f_X1_sumOf v0 y13 σ) fun x14 σ =>
                some (x14, σ))) (v3, 0) σ) fun j3 =>
      if v1 = 3 then
        j3 () σ
      else
        if 0 ≤ v2 then
          j3 () σ
        else
          some ((-2), σ)
    else
      some ((-1), σ)
theorem ok_X1_sheet_b38 (X : Mx) (v0 : Option Nat) (v1 : Int32) (v2 : Int32) (v4 : Int32) {k0 : Unit → Hp → Option (Int32 × Hp)} (hk0 : ∀ (a : Unit) (σ : Hp), GG X mi_X1_sheet (QM X rI) 121 [(0, vA v0), (1, vI v1)] [] σ (k0 a σ)) : ∀ (m : Nat) (a : Int32 × Int32) (σ : Hp), GG X mi_X1_sheet (QM X rI) 38 [(0, vA v0), (1, vI v1), (2, vI v2), (4, vI v4), (5, vI a.1), (6, vI a.2)] [] σ (lp m (f_X1_sheet_b38 v0 v1 v2 v4 k0) a σ) := by
  refine g_lp (fun (a : Int32 × Int32) => [(0, vA v0), (1, vI v1), (2, vI v2), (4, vI v4), (5, vI a.1), (6, vI a.2)]) ?_
  intro ag hag a σ
  unfold f_X1_sheet_b38
  refine g_iload dX1_sheet_38 rfl ?_
  refine g_aload_n 0 dX1_sheet_40 rfl rfl ?_
  refine g_getI fo_0_5 (by decide) q179 dX1_sheet_41 fun x4 => ?_
  refine g_icmp_ge 121 dX1_sheet_44 (by decide) ?_ ?_
  · exact g_jmp (hk0 _ _) rfl
  · refine g_iload_n 1 dX1_sheet_47 rfl rfl ?_
    refine g_jn (fun j6 => ∀ (a5 : Int32) (σ : Hp), GG X mi_X1_sheet (QM X rI) 70 [(0, vA v0), (1, vI v1), (2, vI v2), (4, vI v4), (5, vI a.1), (6, vI a.2)] [vI a5] σ (j6 a5 σ)) ?_ ?_
    · intro a5 σ
      refine g_istore dX1_sheet_70 (lt_b rfl) ?_
      refine g_aload_n 0 dX1_sheet_72 rfl rfl ?_
      refine g_getR fo_0_0 q171 dX1_sheet_73 fun y7 => ?_
      refine g_getRN fo_1_1 nf_145 dX1_sheet_76 fun y8 => ?_
      refine g_iload dX1_sheet_79 rfl ?_
      refine g_iload_n 1 dX1_sheet_81 rfl rfl ?_
      refine g_iconst 3 dX1_sheet_82 (by decide) ?_
      refine g_jn (fun j10 => ∀ (a9 : Int32) (σ : Hp), GG X mi_X1_sheet (QM X rI) 107 [(0, vA v0), (1, vI v1), (2, vI v2), (4, vI v4), (5, vI a.1), (6, vI a.2)] [vI a9, vI a.2, vA y8] σ (j10 a9 σ)) ?_ ?_
      · intro a9 σ
        refine g_iastore dX1_sheet_107 fun σ => ?_
        refine g_iload dX1_sheet_108 rfl ?_
        refine g_iload dX1_sheet_110 rfl ?_
        refine g_iadd dX1_sheet_112 ?_
        refine g_istore dX1_sheet_113 (lt_b rfl) ?_
        refine g_iinc 1 dX1_sheet_115 (by decide) rfl (lt_b rfl) ?_
        refine g_goto 38 dX1_sheet_118 (by decide) ?_
        exact g_jmp (hag _ _) rfl
      · intro j10 hj10
        refine g_icmp_eq 92 dX1_sheet_83 (by decide) ?_ ?_
        · refine g_iconst 0 dX1_sheet_92 (by decide) ?_
          refine g_goto 107 dX1_sheet_93 (by decide) ?_
          exact g_jmp (hj10 _ _) rfl
        · refine g_iload dX1_sheet_86 rfl ?_
          refine g_iload_n 2 dX1_sheet_88 rfl rfl ?_
          refine g_icmp_lt 96 dX1_sheet_89 (by decide) ?_ ?_
          · refine g_iconst 0 dX1_sheet_96 (by decide) ?_
            refine g_bipush 99 dX1_sheet_97 (by decide) ?_
            refine g_iload dX1_sheet_99 rfl ?_
            refine g_mmin q357 (by decide) (Nat.le_of_ble_eq_true rfl) dX1_sheet_101 ?_
            refine g_mmax q608 (by decide) (Nat.le_of_ble_eq_true rfl) dX1_sheet_104 ?_
            exact g_jmp (hj10 _ _) rfl
          · refine g_iconst 0 dX1_sheet_92 (by decide) ?_
            refine g_goto 107 dX1_sheet_93 (by decide) ?_
            exact g_jmp (hj10 _ _) rfl
    · intro j6 hj6
      refine g_if_ne 57 dX1_sheet_48 (by decide) ?_ ?_
      · refine g_iload_n 1 dX1_sheet_57 rfl rfl ?_
        refine g_iconst 1 dX1_sheet_58 (by decide) ?_
        refine g_icmp_ne 68 dX1_sheet_59 (by decide) ?_ ?_
        · refine g_iload dX1_sheet_68 rfl ?_
          exact g_jmp (hj6 _ _) rfl
        · refine g_iload dX1_sheet_62 rfl ?_
          refine g_i2s dX1_sheet_64 ?_
          refine g_goto 70 dX1_sheet_65 (by decide) ?_
          exact g_jmp (hj6 _ _) rfl
      · refine g_iload dX1_sheet_51 rfl ?_
        refine g_i2b dX1_sheet_53 ?_
        refine g_goto 70 dX1_sheet_54 (by decide) ?_
        exact g_jmp (hj6 _ _) rfl
theorem mm_X1_sheet (v0 : Option Nat) (v1 : Int32) (v2 : Int32) (v3 : Int32) (v4 : Int32) (σ : Hp) : MM yX1_sheet mi_X1_sheet rI [vA v0, vI v1, vI v2, vI v3, vI v4] σ (f_X1_sheet v0 v1 v2 v3 v4 σ) := by
  refine mm_of (by decide +kernel) rfl rfl (Nat.le_of_ble_eq_true rfl) ?_
  intro X
  unfold f_X1_sheet
  refine g_iload_n 1 dX1_sheet_0 rfl rfl ?_
  refine g_i2l dX1_sheet_1 ?_
  refine g_lconst 0 dX1_sheet_2 (by decide) ?_
  refine g_ldc2_w dX1_sheet_3 q619 ?_
  refine g_callS_I (mm_X1_in _ _ _ _) rfl q346 q347 q107 q348 dd_X1_in rfl (Nat.le_of_ble_eq_true rfl) (Nat.le_of_ble_eq_true rfl) (Nat.le_of_ble_eq_true rfl) dX1_sheet_6 fun x1 σ => ?_
  refine g_if_eq 18 dX1_sheet_9 (by decide) ?_ ?_
  · refine g_iconst (-1) dX1_sheet_18 (by decide) ?_
    exact g_iret rfl dX1_sheet_19
  · refine g_iload_n 2 dX1_sheet_12 rfl rfl ?_
    refine g_bipush 8 dX1_sheet_13 (by decide) ?_
    refine g_icmp_le 20 dX1_sheet_15 (by decide) ?_ ?_
    · refine g_iload_n 1 dX1_sheet_20 rfl rfl ?_
      refine g_iconst 3 dX1_sheet_21 (by decide) ?_
      refine g_jn (fun j3 => ∀ (a2 : Unit) (σ : Hp), GG X mi_X1_sheet (QM X rI) 32 [(0, vA v0), (1, vI v1), (2, vI v2), (3, vI v3), (4, vI v4)] [] σ (j3 a2 σ)) ?_ ?_
      · intro a2 σ
        refine g_iload_n 3 dX1_sheet_32 rfl rfl ?_
        refine g_istore dX1_sheet_33 (lt_b rfl) ?_
        refine g_iconst 0 dX1_sheet_35 (by decide) ?_
        refine g_istore dX1_sheet_36 (lt_b rfl) ?_
        refine g_jmp (ok_X1_sheet_b38 X v0 v1 v2 v4 ?_ _ _ _) rfl
        · intro a11 σ
          refine g_iload_n 1 dX1_sheet_121 rfl rfl ?_
          refine g_iconst 3 dX1_sheet_122 (by decide) ?_
          refine g_icmp_ne 131 dX1_sheet_123 (by decide) ?_ ?_
          · refine g_aload_n 0 dX1_sheet_131 rfl rfl ?_
            refine g_aload_n 0 dX1_sheet_132 rfl rfl ?_
            refine g_getR fo_0_0 q171 dX1_sheet_133 fun y12 => ?_
            refine g_getRN fo_1_1 nf_145 dX1_sheet_136 fun y13 => ?_
            refine g_callV_I (mm_X1_sumOf _ _ _) rfl zc_0 q620 q622 qs14 q107 q623 dv_X1_sumOf rfl (Nat.le_of_ble_eq_true rfl) (Nat.le_of_ble_eq_true rfl) (Nat.le_of_ble_eq_true rfl) dX1_sheet_139 fun x14 σ => ?_
            exact g_iret rfl dX1_sheet_142
          · refine g_bipush (-3) dX1_sheet_126 (by decide) ?_
            refine g_goto 142 dX1_sheet_128 (by decide) ?_
            exact g_iret rfl dX1_sheet_142
      · intro j3 hj3
        refine g_icmp_eq 32 dX1_sheet_22 (by decide) ?_ ?_
        · exact g_jmp (hj3 _ _) rfl
        · refine g_iload_n 2 dX1_sheet_25 rfl rfl ?_
          refine g_if_ge 32 dX1_sheet_26 (by decide) ?_ ?_
          · exact g_jmp (hj3 _ _) rfl
          · refine g_bipush (-2) dX1_sheet_29 (by decide) ?_
            exact g_iret rfl dX1_sheet_31
    · refine g_iconst (-1) dX1_sheet_18 (by decide) ?_
      exact g_iret rfl dX1_sheet_19
theorem dd_X1_sheet : yX1_sheet.cls ≠ "java/lang/invoke/MethodHandle" ∧ yX1_sheet.cls ≠ "java/lang/invoke/VarHandle" ∧ (parseMethodDescriptor yX1_sheet.desc).map (fun d => d.parameters.length) = some 4 := by decide +kernel
theorem dv_X1_sheet : yX1_sheet.cls = RX1 ∧ yX1_sheet.cls ≠ "java/lang/invoke/MethodHandle" ∧ yX1_sheet.cls ≠ "java/lang/invoke/VarHandle" ∧ (parseMethodDescriptor yX1_sheet.desc).map (fun d => d.parameters.length) = some 4 := ⟨rfl, dd_X1_sheet⟩
/-! RockingHorse.undo()I -/
abbrev mi_X1_undo : Mi := (cX1_undo, 1, "RockingHorse", 2, some .int, "undo")
def f_X1_undo (v0 : Option Nat) (σ : Hp) : Option (Int32 × Hp) :=
  gI 0 25 σ v0 fun x1 =>
  if x1 = 0 then
    some ((-1), σ)
  else
    gI 0 25 σ v0 fun x2 =>
    pI 0 0 25 σ v0 (x2 - 1) fun σ =>
    gR 0 0 σ v0 fun y3 =>
    gR 0 23 σ v0 fun y4 =>
    gI 0 25 σ v0 fun x5 =>
    lR σ y4 x5 fun y6 =>
    ob 1 σ y3 fun _ => bnd (f_X2_becomes y3 y6 σ) fun _ σ =>
    gI 0 25 σ v0 fun x7 =>
    some (x7, σ)
theorem mm_X1_undo (v0 : Option Nat) (σ : Hp) : MM yX1_undo mi_X1_undo rI [vA v0] σ (f_X1_undo v0 σ) := by
  refine mm_of (by decide +kernel) rfl rfl (Nat.le_of_ble_eq_true rfl) ?_
  intro X
  unfold f_X1_undo
  refine g_aload_n 0 dX1_undo_0 rfl rfl ?_
  refine g_getI fo_0_25 (by decide) q202 dX1_undo_1 fun x1 => ?_
  refine g_if_ne 9 dX1_undo_4 (by decide) ?_ ?_
  · refine g_aload_n 0 dX1_undo_9 rfl rfl ?_
    refine g_dup dX1_undo_10 rfl ?_
    refine g_getI fo_0_25 (by decide) q202 dX1_undo_11 fun x2 => ?_
    refine g_iconst 1 dX1_undo_14 (by decide) ?_
    refine g_isub dX1_undo_15 ?_
    refine g_putI fo_0_25 (by decide) rfl q202 dX1_undo_16 fun σ => ?_
    refine g_aload_n 0 dX1_undo_19 rfl rfl ?_
    refine g_getR fo_0_0 q171 dX1_undo_20 fun y3 => ?_
    refine g_aload_n 0 dX1_undo_23 rfl rfl ?_
    refine g_getR fo_0_23 q200 dX1_undo_24 fun y4 => ?_
    refine g_aload_n 0 dX1_undo_27 rfl rfl ?_
    refine g_getI fo_0_25 (by decide) q202 dX1_undo_28 fun x5 => ?_
    refine g_aaload dX1_undo_31 fun y6 => ?_
    refine g_callV_V (mm_X2_becomes _ _ _) rfl zc_1 q628 q629 q630 q108 q631 dv_X2_becomes rfl (Nat.le_of_ble_eq_true rfl) (Nat.le_of_ble_eq_true rfl) (Nat.le_of_ble_eq_true rfl) dX1_undo_32 fun _ σ => ?_
    refine g_aload_n 0 dX1_undo_35 rfl rfl ?_
    refine g_getI fo_0_25 (by decide) q202 dX1_undo_36 fun x7 => ?_
    exact g_iret rfl dX1_undo_39
  · refine g_iconst (-1) dX1_undo_7 (by decide) ?_
    exact g_iret rfl dX1_undo_8
theorem dd_X1_undo : yX1_undo.cls ≠ "java/lang/invoke/MethodHandle" ∧ yX1_undo.cls ≠ "java/lang/invoke/VarHandle" ∧ (parseMethodDescriptor yX1_undo.desc).map (fun d => d.parameters.length) = some 0 := by decide +kernel
theorem dv_X1_undo : yX1_undo.cls = RX1 ∧ yX1_undo.cls ≠ "java/lang/invoke/MethodHandle" ∧ yX1_undo.cls ≠ "java/lang/invoke/VarHandle" ∧ (parseMethodDescriptor yX1_undo.desc).map (fun d => d.parameters.length) = some 0 := ⟨rfl, dd_X1_undo⟩
/-! RockingHorse.putsBy(LRockingHorse$Horse;)V -/
abbrev mi_X1_putsBy : Mi := (cX1_putsBy, 4, "RockingHorse", 2, none, "putsBy")
def f_X1_putsBy_b18 (v0 : Option Nat) (k0 : Unit → Hp → Option (Unit × Hp)) (ag : Int32 → Hp → Option (Unit × Hp)) (a : Int32) (σ : Hp) : Option (Unit × Hp) :=
  if 12 ≤ a then
    k0 () σ
  else
    gR 0 23 σ v0 fun y18 =>
    gR 0 23 σ v0 fun y19 =>
    lR σ y19 a fun y20 =>
    sR σ y18 (a - 1) y20 fun σ =>
    ag (a + 1) σ
def f_X1_putsBy (v0 : Option Nat) (v1 : Option Nat) (σ : Hp) : Option (Unit × Hp) :=
  gI 0 25 σ v0 fun x1 =>
  jn (fun (a2 : Unit) σ =>
      gR 0 23 σ v0 fun y4 =>
      gI 0 25 σ v0 fun x5 =>
      lR σ y4 x5 fun y6 =>
      jn (fun (a7 : Unit) σ =>
          gR 0 23 σ v0 fun y9 =>
          gI 0 25 σ v0 fun x10 =>
          lR σ y9 x10 fun y11 =>
          ob 1 σ y11 fun _ => bnd (f_X2_becomes y11 v1 σ) fun _ σ =>
          gI 0 25 σ v0 fun x12 =>
          pI 0 0 25 σ v0 (x12 + 1) fun σ =>
          some ((), σ)) fun j8 =>
      nul y6 (
        gR 0 23 σ v0 fun y13 =>
        gI 0 25 σ v0 fun x14 =>
        nO 1 6 σ fun y15 σ =>
        nn y15 <| bnd (f_X2_init y15 σ) fun _ σ =>
        sR σ y13 x14 y15 fun σ =>
        j8 () σ) (
        j8 () σ)) fun j3 =>
  if x1 = 12 then
    gR 0 23 σ v0 fun y16 =>
    lR σ y16 0 fun y17 =>
    lp 2000 (f_X1_putsBy_b18 v0 (fun (a21 : Unit) σ =>
        gR 0 23 σ v0 fun y22 =>
        sR σ y22 11 y17 fun σ =>
        gI 0 25 σ v0 fun x23 =>
        pI 0 0 25 σ v0 (x23 - 1) fun σ =>
        j3 () σ)) 1 σ
  else
    j3 () σ
theorem ok_X1_putsBy_b18 (X : Mx) (v0 : Option Nat) (v1 : Option Nat) (v2 : Option Nat) {k0 : Unit → Hp → Option (Unit × Hp)} (hk0 : ∀ (a : Unit) (σ : Hp), GG X mi_X1_putsBy (QM X rV) 44 [(0, vA v0), (1, vA v1), (2, vA v2)] [] σ (k0 a σ)) : ∀ (m : Nat) (a : Int32) (σ : Hp), GG X mi_X1_putsBy (QM X rV) 18 [(0, vA v0), (1, vA v1), (2, vA v2), (3, vI a)] [] σ (lp m (f_X1_putsBy_b18 v0 k0) a σ) := by
  refine g_lp (fun (a : Int32) => [(0, vA v0), (1, vA v1), (2, vA v2), (3, vI a)]) ?_
  intro ag hag a σ
  unfold f_X1_putsBy_b18
  refine g_iload_n 3 dX1_putsBy_18 rfl rfl ?_
  refine g_bipush 12 dX1_putsBy_19 (by decide) ?_
  refine g_icmp_ge 44 dX1_putsBy_21 (by decide) ?_ ?_
  · exact g_jmp (hk0 _ _) rfl
  · refine g_aload_n 0 dX1_putsBy_24 rfl rfl ?_
    refine g_getR fo_0_23 q200 dX1_putsBy_25 fun y18 => ?_
    refine g_iload_n 3 dX1_putsBy_28 rfl rfl ?_
    refine g_iconst 1 dX1_putsBy_29 (by decide) ?_
    refine g_isub dX1_putsBy_30 ?_
    refine g_aload_n 0 dX1_putsBy_31 rfl rfl ?_
    refine g_getR fo_0_23 q200 dX1_putsBy_32 fun y19 => ?_
    refine g_iload_n 3 dX1_putsBy_35 rfl rfl ?_
    refine g_aaload dX1_putsBy_36 fun y20 => ?_
    refine g_aastore dX1_putsBy_37 fun σ => ?_
    refine g_iinc 1 dX1_putsBy_38 (by decide) rfl (lt_b rfl) ?_
    refine g_goto 18 dX1_putsBy_41 (by decide) ?_
    exact g_jmp (hag _ _) rfl
theorem mm_X1_putsBy (v0 : Option Nat) (v1 : Option Nat) (σ : Hp) : MM yX1_putsBy mi_X1_putsBy rV [vA v0, vA v1] σ (f_X1_putsBy v0 v1 σ) := by
  refine mm_of (by decide +kernel) rfl rfl (Nat.le_of_ble_eq_true rfl) ?_
  intro X
  unfold f_X1_putsBy
  refine g_aload_n 0 dX1_putsBy_0 rfl rfl ?_
  refine g_getI fo_0_25 (by decide) q202 dX1_putsBy_1 fun x1 => ?_
  refine g_bipush 12 dX1_putsBy_4 (by decide) ?_
  refine g_jn (fun j3 => ∀ (a2 : Unit) (σ : Hp), GG X mi_X1_putsBy (QM X rV) 62 [(0, vA v0), (1, vA v1)] [] σ (j3 a2 σ)) ?_ ?_
  · intro a2 σ
    refine g_aload_n 0 dX1_putsBy_62 rfl rfl ?_
    refine g_getR fo_0_23 q200 dX1_putsBy_63 fun y4 => ?_
    refine g_aload_n 0 dX1_putsBy_66 rfl rfl ?_
    refine g_getI fo_0_25 (by decide) q202 dX1_putsBy_67 fun x5 => ?_
    refine g_aaload dX1_putsBy_70 fun y6 => ?_
    refine g_jn (fun j8 => ∀ (a7 : Unit) (σ : Hp), GG X mi_X1_putsBy (QM X rV) 90 [(0, vA v0), (1, vA v1)] [] σ (j8 a7 σ)) ?_ ?_
    · intro a7 σ
      refine g_aload_n 0 dX1_putsBy_90 rfl rfl ?_
      refine g_getR fo_0_23 q200 dX1_putsBy_91 fun y9 => ?_
      refine g_aload_n 0 dX1_putsBy_94 rfl rfl ?_
      refine g_getI fo_0_25 (by decide) q202 dX1_putsBy_95 fun x10 => ?_
      refine g_aaload dX1_putsBy_98 fun y11 => ?_
      refine g_aload_n 1 dX1_putsBy_99 rfl rfl ?_
      refine g_callV_V (mm_X2_becomes _ _ _) rfl zc_1 q628 q629 q630 q108 q631 dv_X2_becomes rfl (Nat.le_of_ble_eq_true rfl) (Nat.le_of_ble_eq_true rfl) (Nat.le_of_ble_eq_true rfl) dX1_putsBy_100 fun _ σ => ?_
      refine g_aload_n 0 dX1_putsBy_103 rfl rfl ?_
      refine g_dup dX1_putsBy_104 rfl ?_
      refine g_getI fo_0_25 (by decide) q202 dX1_putsBy_105 fun x12 => ?_
      refine g_iconst 1 dX1_putsBy_108 (by decide) ?_
      refine g_iadd dX1_putsBy_109 ?_
      refine g_putI fo_0_25 (by decide) rfl q202 dX1_putsBy_110 fun σ => ?_
      exact g_vret rfl dX1_putsBy_113
    · intro j8 hj8
      refine g_ifnonnull 90 dX1_putsBy_71 (by decide) ?_ ?_
      · exact g_jmp (hj8 _ _) rfl
      · refine g_aload_n 0 dX1_putsBy_74 rfl rfl ?_
        refine g_getR fo_0_23 q200 dX1_putsBy_75 fun y13 => ?_
        refine g_aload_n 0 dX1_putsBy_78 rfl rfl ?_
        refine g_getI fo_0_25 (by decide) q202 dX1_putsBy_79 fun x14 => ?_
        refine g_new zc_1 tcok_1 q135 q136 q108 dX1_putsBy_82 fun y15 σ => ?_
        refine g_dup dX1_putsBy_85 rfl ?_
        refine g_callIN_V (mm_X2_init _ _) rfl rfl nm_137 q138 q108 q139 rfl dd_X2_init rfl (Nat.le_of_ble_eq_true rfl) (Nat.le_of_ble_eq_true rfl) (Nat.le_of_ble_eq_true rfl) dX1_putsBy_86 fun _ σ => ?_
        refine g_aastore dX1_putsBy_89 fun σ => ?_
        exact g_jmp (hj8 _ _) rfl
  · intro j3 hj3
    refine g_icmp_ne 62 dX1_putsBy_6 (by decide) ?_ ?_
    · exact g_jmp (hj3 _ _) rfl
    · refine g_aload_n 0 dX1_putsBy_9 rfl rfl ?_
      refine g_getR fo_0_23 q200 dX1_putsBy_10 fun y16 => ?_
      refine g_iconst 0 dX1_putsBy_13 (by decide) ?_
      refine g_aaload dX1_putsBy_14 fun y17 => ?_
      refine g_astore_n 2 dX1_putsBy_15 rfl (lt_b rfl) ?_
      refine g_iconst 1 dX1_putsBy_16 (by decide) ?_
      refine g_istore_n 3 dX1_putsBy_17 rfl (lt_b rfl) ?_
      refine g_jmp (ok_X1_putsBy_b18 X v0 v1 y17 ?_ _ _ _) rfl
      · intro a21 σ
        refine g_aload_n 0 dX1_putsBy_44 rfl rfl ?_
        refine g_getR fo_0_23 q200 dX1_putsBy_45 fun y22 => ?_
        refine g_bipush 11 dX1_putsBy_48 (by decide) ?_
        refine g_aload_n 2 dX1_putsBy_50 rfl rfl ?_
        refine g_aastore dX1_putsBy_51 fun σ => ?_
        refine g_aload_n 0 dX1_putsBy_52 rfl rfl ?_
        refine g_dup dX1_putsBy_53 rfl ?_
        refine g_getI fo_0_25 (by decide) q202 dX1_putsBy_54 fun x23 => ?_
        refine g_iconst 1 dX1_putsBy_57 (by decide) ?_
        refine g_isub dX1_putsBy_58 ?_
        refine g_putI fo_0_25 (by decide) rfl q202 dX1_putsBy_59 fun σ => ?_
        exact g_jmp (hj3 _ _) rfl
theorem dd_X1_putsBy : yX1_putsBy.cls ≠ "java/lang/invoke/MethodHandle" ∧ yX1_putsBy.cls ≠ "java/lang/invoke/VarHandle" ∧ (parseMethodDescriptor yX1_putsBy.desc).map (fun d => d.parameters.length) = some 1 := by decide +kernel
theorem dv_X1_putsBy : yX1_putsBy.cls = RX1 ∧ yX1_putsBy.cls ≠ "java/lang/invoke/MethodHandle" ∧ yX1_putsBy.cls ≠ "java/lang/invoke/VarHandle" ∧ (parseMethodDescriptor yX1_putsBy.desc).map (fun d => d.parameters.length) = some 1 := ⟨rfl, dd_X1_putsBy⟩
/-! RockingHorse.give(II)I -/
abbrev mi_X1_give : Mi := (cX1_give, 4, "RockingHorse", 3, some .int, "give")
def f_X1_give (v0 : Option Nat) (v1 : Int32) (v2 : Int32) (σ : Hp) : Option (Int32 × Hp) :=
  bnd (f_X1_in (Int32.toInt64 v1) 0 7 σ) fun x1 σ =>
  if x1 = 0 then
    some ((-2), σ)
  else
    jn (fun (a2 : Unit) σ =>
        gR 0 0 σ v0 fun y4 =>
        ob 0 σ v0 fun _ => bnd (f_X1_putsBy v0 y4 σ) fun _ σ =>
        gR 0 0 σ v0 fun y5 =>
        gR 1 0 σ y5 fun y6 =>
        lI 100 σ y6 v1 fun x7 =>
        gR 0 0 σ v0 fun y8 =>
        ob 0 σ v0 fun _ => bnd (f_X1_gives v0 y8 v1 v2 σ) fun x9 σ =>
        some (x7, σ)) fun j3 =>
    if v2 = (-1) then
      j3 () σ
    else
      ob 0 σ v0 fun _ => bnd (f_X1_isRider v0 v2 σ) fun x10 σ =>
      if x10 = 0 then
        some ((-2), σ)
      else
        j3 () σ
theorem mm_X1_give (v0 : Option Nat) (v1 : Int32) (v2 : Int32) (σ : Hp) : MM yX1_give mi_X1_give rI [vA v0, vI v1, vI v2] σ (f_X1_give v0 v1 v2 σ) := by
  refine mm_of (by decide +kernel) rfl rfl (Nat.le_of_ble_eq_true rfl) ?_
  intro X
  unfold f_X1_give
  refine g_iload_n 1 dX1_give_0 rfl rfl ?_
  refine g_i2l dX1_give_1 ?_
  refine g_lconst 0 dX1_give_2 (by decide) ?_
  refine g_ldc2_w dX1_give_3 q580 ?_
  refine g_callS_I (mm_X1_in _ _ _ _) rfl q346 q347 q107 q348 dd_X1_in rfl (Nat.le_of_ble_eq_true rfl) (Nat.le_of_ble_eq_true rfl) (Nat.le_of_ble_eq_true rfl) dX1_give_6 fun x1 σ => ?_
  refine g_if_eq 25 dX1_give_9 (by decide) ?_ ?_
  · refine g_bipush (-2) dX1_give_25 (by decide) ?_
    exact g_iret rfl dX1_give_27
  · refine g_iload_n 2 dX1_give_12 rfl rfl ?_
    refine g_iconst (-1) dX1_give_13 (by decide) ?_
    refine g_jn (fun j3 => ∀ (a2 : Unit) (σ : Hp), GG X mi_X1_give (QM X rI) 28 [(0, vA v0), (1, vI v1), (2, vI v2)] [] σ (j3 a2 σ)) ?_ ?_
    · intro a2 σ
      refine g_aload_n 0 dX1_give_28 rfl rfl ?_
      refine g_aload_n 0 dX1_give_29 rfl rfl ?_
      refine g_getR fo_0_0 q171 dX1_give_30 fun y4 => ?_
      refine g_callV_V (mm_X1_putsBy _ _ _) rfl zc_0 q639 q641 qs15 q107 q642 dv_X1_putsBy rfl (Nat.le_of_ble_eq_true rfl) (Nat.le_of_ble_eq_true rfl) (Nat.le_of_ble_eq_true rfl) dX1_give_33 fun _ σ => ?_
      refine g_aload_n 0 dX1_give_36 rfl rfl ?_
      refine g_getR fo_0_0 q171 dX1_give_37 fun y5 => ?_
      refine g_getRN fo_1_0 nf_142 dX1_give_40 fun y6 => ?_
      refine g_iload_n 1 dX1_give_43 rfl rfl ?_
      refine g_iaload dX1_give_44 fun x7 => ?_
      refine g_istore_n 3 dX1_give_45 rfl (lt_b rfl) ?_
      refine g_aload_n 0 dX1_give_46 rfl rfl ?_
      refine g_aload_n 0 dX1_give_47 rfl rfl ?_
      refine g_getR fo_0_0 q171 dX1_give_48 fun y8 => ?_
      refine g_iload_n 1 dX1_give_51 rfl rfl ?_
      refine g_iload_n 2 dX1_give_52 rfl rfl ?_
      refine g_callV_I (mm_X1_gives _ _ _ _ _) rfl zc_0 q647 q649 qs16 q107 q650 dv_X1_gives rfl (Nat.le_of_ble_eq_true rfl) (Nat.le_of_ble_eq_true rfl) (Nat.le_of_ble_eq_true rfl) dX1_give_53 fun x9 σ => ?_
      refine g_pop dX1_give_56 rfl ?_
      refine g_iload_n 3 dX1_give_57 rfl rfl ?_
      exact g_iret rfl dX1_give_58
    · intro j3 hj3
      refine g_icmp_eq 28 dX1_give_14 (by decide) ?_ ?_
      · exact g_jmp (hj3 _ _) rfl
      · refine g_aload_n 0 dX1_give_17 rfl rfl ?_
        refine g_iload_n 2 dX1_give_18 rfl rfl ?_
        refine g_callV_I (mm_X1_isRider _ _ _) rfl zc_0 q576 q578 qs12 q107 q579 dv_X1_isRider rfl (Nat.le_of_ble_eq_true rfl) (Nat.le_of_ble_eq_true rfl) (Nat.le_of_ble_eq_true rfl) dX1_give_19 fun x10 σ => ?_
        refine g_if_ne 28 dX1_give_22 (by decide) ?_ ?_
        · exact g_jmp (hj3 _ _) rfl
        · refine g_bipush (-2) dX1_give_25 (by decide) ?_
          exact g_iret rfl dX1_give_27
theorem dd_X1_give : yX1_give.cls ≠ "java/lang/invoke/MethodHandle" ∧ yX1_give.cls ≠ "java/lang/invoke/VarHandle" ∧ (parseMethodDescriptor yX1_give.desc).map (fun d => d.parameters.length) = some 2 := by decide +kernel
theorem dv_X1_give : yX1_give.cls = RX1 ∧ yX1_give.cls ≠ "java/lang/invoke/MethodHandle" ∧ yX1_give.cls ≠ "java/lang/invoke/VarHandle" ∧ (parseMethodDescriptor yX1_give.desc).map (fun d => d.parameters.length) = some 2 := ⟨rfl, dd_X1_give⟩
/-! RockingHorse.falls(LRockingHorse$Horse;I)I -/
abbrev mi_X1_falls : Mi := (cX1_falls, 3, "RockingHorse", 2, some .int, "falls")
def f_X1_falls (v0 : Option Nat) (v1 : Option Nat) (v2 : Int32) (σ : Hp) : Option (Int32 × Hp) :=
  ob 0 σ v0 fun _ => bnd (f_X1_isRider v0 v2 σ) fun x1 σ =>
  if x1 = 0 then
    some ((-1), σ)
  else
    gI 1 2 σ v1 fun x2 =>
    pI 0 1 2 σ v1 (x2 ^^^ (shl 1 v2)) fun σ =>
    gI 1 2 σ v1 fun x3 =>
    bnd (f_J10_bitCount x3 σ) fun x4 σ =>
    some (x4, σ)
theorem mm_X1_falls (v0 : Option Nat) (v1 : Option Nat) (v2 : Int32) (σ : Hp) : MM yX1_falls mi_X1_falls rI [vA v0, vA v1, vI v2] σ (f_X1_falls v0 v1 v2 σ) := by
  refine mm_of (by decide +kernel) rfl rfl (Nat.le_of_ble_eq_true rfl) ?_
  intro X
  unfold f_X1_falls
  refine g_aload_n 0 dX1_falls_0 rfl rfl ?_
  refine g_iload_n 2 dX1_falls_1 rfl rfl ?_
  refine g_callV_I (mm_X1_isRider _ _ _) rfl zc_0 q576 q578 qs12 q107 q579 dv_X1_isRider rfl (Nat.le_of_ble_eq_true rfl) (Nat.le_of_ble_eq_true rfl) (Nat.le_of_ble_eq_true rfl) dX1_falls_2 fun x1 σ => ?_
  refine g_if_ne 10 dX1_falls_5 (by decide) ?_ ?_
  · refine g_aload_n 1 dX1_falls_10 rfl rfl ?_
    refine g_dup dX1_falls_11 rfl ?_
    refine g_getIN fo_1_2 (by decide) nf_147 dX1_falls_12 fun x2 => ?_
    refine g_iconst 1 dX1_falls_15 (by decide) ?_
    refine g_iload_n 2 dX1_falls_16 rfl rfl ?_
    refine g_ishl dX1_falls_17 ?_
    refine g_ixor dX1_falls_18 ?_
    refine g_putIN fo_1_2 (by decide) rfl nf_147 dX1_falls_19 fun σ => ?_
    refine g_aload_n 1 dX1_falls_22 rfl rfl ?_
    refine g_getIN fo_1_2 (by decide) nf_147 dX1_falls_23 fun x3 => ?_
    refine g_callS_I (mm_J10_bitCount _ _) rfl q659 q600 q125 q601 dd_J10_bitCount rfl (Nat.le_of_ble_eq_true rfl) (Nat.le_of_ble_eq_true rfl) (Nat.le_of_ble_eq_true rfl) dX1_falls_26 fun x4 σ => ?_
    exact g_iret rfl dX1_falls_29
  · refine g_iconst (-1) dX1_falls_8 (by decide) ?_
    exact g_iret rfl dX1_falls_9
theorem dd_X1_falls : yX1_falls.cls ≠ "java/lang/invoke/MethodHandle" ∧ yX1_falls.cls ≠ "java/lang/invoke/VarHandle" ∧ (parseMethodDescriptor yX1_falls.desc).map (fun d => d.parameters.length) = some 2 := by decide +kernel
theorem dv_X1_falls : yX1_falls.cls = RX1 ∧ yX1_falls.cls ≠ "java/lang/invoke/MethodHandle" ∧ yX1_falls.cls ≠ "java/lang/invoke/VarHandle" ∧ (parseMethodDescriptor yX1_falls.desc).map (fun d => d.parameters.length) = some 2 := ⟨rfl, dd_X1_falls⟩
/-! RockingHorse.rides(LRockingHorse$Horse;)V -/
abbrev mi_X1_rides : Mi := (cX1_rides, 7, "RockingHorse", 102, none, "rides")
def f_X1_rides_b12 (v0 : Option Nat) (k0 : Unit → Hp → Option (Unit × Hp)) (ag : Int32 → Hp → Option (Unit × Hp)) (a : Int32) (σ : Hp) : Option (Unit × Hp) :=
  gI 0 5 σ v0 fun x1 =>
  if x1 ≤ a then
    k0 () σ
  else
    gR 0 26 σ v0 fun y2 =>
    sI σ y2 a 0 fun σ =>
    gR 0 27 σ v0 fun y3 =>
    sI σ y3 a 0 fun σ =>
    ag (a + 1) σ
def f_X1_rides_b44 (v0 : Option Nat) (v1 : Option Nat) (k0 : Unit → Hp → Option (Unit × Hp)) (ag : (Int32 × Int32) → Hp → Option (Unit × Hp)) (a : Int32 × Int32) (σ : Hp) : Option (Unit × Hp) :=
  gI 0 6 σ v0 fun x5 =>
  if x5 ≤ a.2 then
    k0 () σ
  else
    gR 1 0 σ v1 fun y6 =>
    lI 100 σ y6 a.2 fun x7 =>
    jn (fun (a8 : Int32) σ =>
        jn (fun (a10 : Int32) σ =>
            gI 0 28 σ v0 fun x12 =>
            jn (fun (a13 : Int32) σ =>
                pI 0 0 28 σ v0 (x12 ||| a13) fun σ =>
                gI 0 29 σ v0 fun x15 =>
                jn (fun (a16 : Int32) σ =>
                    pI 0 0 29 σ v0 (x15 ||| a16) fun σ =>
                    jn (fun (a18 : Int32) σ =>
                        jn (fun (a20 : Unit) σ =>
                            ag (a18, (a.2 + 1)) σ) fun j21 =>
                        if a8 = 0 then
                          j21 () σ
                        else
                          gR 0 26 σ v0 fun y22 =>
                          lI 100 σ y22 x7 fun x23 =>
                          sI σ y22 x7 (x23 + 1) fun σ =>
                          gR 0 27 σ v0 fun y24 =>
                          lI 100 σ y24 x7 fun x25 =>
                          ob 0 σ v0 fun _ => bnd (f_X1_hardOf v0 v1 x7 a.2 σ) fun x26 σ =>
                          sI σ y24 x7 (x25 + x26) fun σ =>
                          j21 () σ) fun j19 =>
                    if a8 = 0 then
                      j19 (-1) σ
                    else
                      j19 x7 σ) fun j17 =>
                if a8 = 0 then
                  j17 0 σ
                else
                  j17 (shl 1 a.2) σ) fun j14 =>
            jn (fun (a27 : Unit) σ =>
                j14 (shl 1 a.2) σ) fun j28 =>
            if a8 = 0 then
              j28 () σ
            else
              if a10 = 0 then
                j14 0 σ
              else
                j28 () σ) fun j11 =>
        if a8 = 0 then
          j11 0 σ
        else
          if a.1 < 0 then
            j11 0 σ
          else
            if a.1 = x7 then
              j11 0 σ
            else
              gR 0 3 σ v0 fun y29 =>
              lI 100 σ y29 a.1 fun x30 =>
              gR 0 3 σ v0 fun y31 =>
              lI 100 σ y31 x7 fun x32 =>
              gI 0 7 σ v0 fun x33 =>
              if (iabs (x30 - x32)) ≤ x33 then
                j11 0 σ
              else
                j11 1 σ) fun j9 =>
    if x7 < 0 then
      j9 0 σ
    else
      gR 0 4 σ v0 fun y34 =>
      lI 100 σ y34 x7 fun x35 =>
      bnd (f_X1_has x35 a.2 σ) fun x36 σ =>
      if x36 = 0 then
        j9 0 σ
      else
        gI 1 2 σ v1 fun x37 =>
        bnd (f_X1_has x37 x7 σ) fun x38 σ =>
        if x38 = 0 then
          gR 0 26 σ v0 fun y39 =>
          lI 100 σ y39 x7 fun x40 =>
          gR 0 2 σ v0 fun y41 =>
          lI 100 σ y41 x7 fun x42 =>
          if x42 ≤ x40 then
            j9 0 σ
          else
            j9 1 σ
        else
          j9 0 σ
def f_X1_rides (v0 : Option Nat) (v1 : Option Nat) (σ : Hp) : Option (Unit × Hp) :=
  pI 0 0 28 σ v0 0 fun σ =>
  pI 0 0 29 σ v0 0 fun σ =>
  lp 2000 (f_X1_rides_b12 v0 (fun (a4 : Unit) σ =>
      lp 2000 (f_X1_rides_b44 v0 v1 (fun (a43 : Unit) σ =>
          some ((), σ))) ((-1), 0) σ)) 0 σ
theorem ok_X1_rides_b12 (X : Mx) (v0 : Option Nat) (v1 : Option Nat) {k0 : Unit → Hp → Option (Unit × Hp)} (hk0 : ∀ (a : Unit) (σ : Hp), GG X mi_X1_rides (QM X rV) 40 [(0, vA v0), (1, vA v1)] [] σ (k0 a σ)) : ∀ (m : Nat) (a : Int32) (σ : Hp), GG X mi_X1_rides (QM X rV) 12 [(0, vA v0), (1, vA v1), (2, vI a)] [] σ (lp m (f_X1_rides_b12 v0 k0) a σ) := by
  refine g_lp (fun (a : Int32) => [(0, vA v0), (1, vA v1), (2, vI a)]) ?_
  intro ag hag a σ
  unfold f_X1_rides_b12
  refine g_iload_n 2 dX1_rides_12 rfl rfl ?_
  refine g_aload_n 0 dX1_rides_13 rfl rfl ?_
  refine g_getI fo_0_5 (by decide) q179 dX1_rides_14 fun x1 => ?_
  refine g_icmp_ge 40 dX1_rides_17 (by decide) ?_ ?_
  · exact g_jmp (hk0 _ _) rfl
  · refine g_aload_n 0 dX1_rides_20 rfl rfl ?_
    refine g_getR fo_0_26 q203 dX1_rides_21 fun y2 => ?_
    refine g_iload_n 2 dX1_rides_24 rfl rfl ?_
    refine g_iconst 0 dX1_rides_25 (by decide) ?_
    refine g_iastore dX1_rides_26 fun σ => ?_
    refine g_aload_n 0 dX1_rides_27 rfl rfl ?_
    refine g_getR fo_0_27 q204 dX1_rides_28 fun y3 => ?_
    refine g_iload_n 2 dX1_rides_31 rfl rfl ?_
    refine g_iconst 0 dX1_rides_32 (by decide) ?_
    refine g_iastore dX1_rides_33 fun σ => ?_
    refine g_iinc 1 dX1_rides_34 (by decide) rfl (lt_b rfl) ?_
    refine g_goto 12 dX1_rides_37 (by decide) ?_
    exact g_jmp (hag _ _) rfl
theorem ok_X1_rides_b44 (X : Mx) (v0 : Option Nat) (v1 : Option Nat) {k0 : Unit → Hp → Option (Unit × Hp)} (hk0 : ∀ (a : Unit) (σ : Hp), GG X mi_X1_rides (QM X rV) 263 [] [] σ (k0 a σ)) : ∀ (m : Nat) (a : Int32 × Int32) (σ : Hp), GG X mi_X1_rides (QM X rV) 44 [(0, vA v0), (1, vA v1), (2, vI a.1), (3, vI a.2)] [] σ (lp m (f_X1_rides_b44 v0 v1 k0) a σ) := by
  refine g_lp (fun (a : Int32 × Int32) => [(0, vA v0), (1, vA v1), (2, vI a.1), (3, vI a.2)]) ?_
  intro ag hag a σ
  unfold f_X1_rides_b44
  refine g_iload_n 3 dX1_rides_44 rfl rfl ?_
  refine g_aload_n 0 dX1_rides_45 rfl rfl ?_
  refine g_getI fo_0_6 (by decide) q180 dX1_rides_46 fun x5 => ?_
  refine g_icmp_ge 263 dX1_rides_49 (by decide) ?_ ?_
  · exact g_jmp (hk0 _ _) rfl
  · refine g_aload_n 1 dX1_rides_52 rfl rfl ?_
    refine g_getRN fo_1_0 nf_142 dX1_rides_53 fun y6 => ?_
    refine g_iload_n 3 dX1_rides_56 rfl rfl ?_
    refine g_iaload dX1_rides_57 fun x7 => ?_
    refine g_istore dX1_rides_58 (lt_b rfl) ?_
    refine g_iload dX1_rides_60 rfl ?_
    refine g_jn (fun j9 => ∀ (a8 : Int32) (σ : Hp), GG X mi_X1_rides (QM X rV) 113 [(0, vA v0), (1, vA v1), (2, vI a.1), (3, vI a.2), (4, vI x7)] [vI a8] σ (j9 a8 σ)) ?_ ?_
    · intro a8 σ
      refine g_istore dX1_rides_113 (lt_b rfl) ?_
      refine g_iload dX1_rides_115 rfl ?_
      refine g_jn (fun j11 => ∀ (a10 : Int32) (σ : Hp), GG X mi_X1_rides (QM X rV) 159 [(0, vA v0), (1, vA v1), (3, vI a.2), (4, vI x7), (5, vI a8)] [vI a10] σ (j11 a10 σ)) ?_ ?_
      · intro a10 σ
        refine g_istore dX1_rides_159 (lt_b rfl) ?_
        refine g_aload_n 0 dX1_rides_161 rfl rfl ?_
        refine g_dup dX1_rides_162 rfl ?_
        refine g_getI fo_0_28 (by decide) q205 dX1_rides_163 fun x12 => ?_
        refine g_iload dX1_rides_166 rfl ?_
        refine g_jn (fun j14 => ∀ (a13 : Int32) (σ : Hp), GG X mi_X1_rides (QM X rV) 183 [(0, vA v0), (1, vA v1), (3, vI a.2), (4, vI x7), (5, vI a8)] [vI a13, vI x12, vA v0] σ (j14 a13 σ)) ?_ ?_
        · intro a13 σ
          refine g_ior dX1_rides_183 ?_
          refine g_putI fo_0_28 (by decide) rfl q205 dX1_rides_184 fun σ => ?_
          refine g_aload_n 0 dX1_rides_187 rfl rfl ?_
          refine g_dup dX1_rides_188 rfl ?_
          refine g_getI fo_0_29 (by decide) q206 dX1_rides_189 fun x15 => ?_
          refine g_iload dX1_rides_192 rfl ?_
          refine g_jn (fun j17 => ∀ (a16 : Int32) (σ : Hp), GG X mi_X1_rides (QM X rV) 204 [(0, vA v0), (1, vA v1), (3, vI a.2), (4, vI x7), (5, vI a8)] [vI a16, vI x15, vA v0] σ (j17 a16 σ)) ?_ ?_
          · intro a16 σ
            refine g_ior dX1_rides_204 ?_
            refine g_putI fo_0_29 (by decide) rfl q206 dX1_rides_205 fun σ => ?_
            refine g_iload dX1_rides_208 rfl ?_
            refine g_jn (fun j19 => ∀ (a18 : Int32) (σ : Hp), GG X mi_X1_rides (QM X rV) 219 [(0, vA v0), (1, vA v1), (3, vI a.2), (4, vI x7), (5, vI a8)] [vI a18] σ (j19 a18 σ)) ?_ ?_
            · intro a18 σ
              refine g_istore_n 2 dX1_rides_219 rfl (lt_b rfl) ?_
              refine g_iload dX1_rides_220 rfl ?_
              refine g_jn (fun j21 => ∀ (a20 : Unit) (σ : Hp), GG X mi_X1_rides (QM X rV) 257 [(0, vA v0), (1, vA v1), (2, vI a18), (3, vI a.2)] [] σ (j21 a20 σ)) ?_ ?_
              · intro a20 σ
                refine g_iinc 1 dX1_rides_257 (by decide) rfl (lt_b rfl) ?_
                refine g_goto 44 dX1_rides_260 (by decide) ?_
                exact g_jmp (hag _ _) rfl
              · intro j21 hj21
                refine g_if_ne 228 dX1_rides_222 (by decide) ?_ ?_
                · refine g_aload_n 0 dX1_rides_228 rfl rfl ?_
                  refine g_getR fo_0_26 q203 dX1_rides_229 fun y22 => ?_
                  refine g_iload dX1_rides_232 rfl ?_
                  refine g_dup2 dX1_rides_234 rfl rfl ?_
                  refine g_iaload dX1_rides_235 fun x23 => ?_
                  refine g_iconst 1 dX1_rides_236 (by decide) ?_
                  refine g_iadd dX1_rides_237 ?_
                  refine g_iastore dX1_rides_238 fun σ => ?_
                  refine g_aload_n 0 dX1_rides_239 rfl rfl ?_
                  refine g_getR fo_0_27 q204 dX1_rides_240 fun y24 => ?_
                  refine g_iload dX1_rides_243 rfl ?_
                  refine g_dup2 dX1_rides_245 rfl rfl ?_
                  refine g_iaload dX1_rides_246 fun x25 => ?_
                  refine g_aload_n 0 dX1_rides_247 rfl rfl ?_
                  refine g_aload_n 1 dX1_rides_248 rfl rfl ?_
                  refine g_iload dX1_rides_249 rfl ?_
                  refine g_iload_n 3 dX1_rides_251 rfl rfl ?_
                  refine g_callV_I (mm_X1_hardOf _ _ _ _ _) rfl zc_0 q581 q583 qs13 q107 q584 dv_X1_hardOf rfl (Nat.le_of_ble_eq_true rfl) (Nat.le_of_ble_eq_true rfl) (Nat.le_of_ble_eq_true rfl) dX1_rides_252 fun x26 σ => ?_
                  refine g_iadd dX1_rides_255 ?_
                  refine g_iastore dX1_rides_256 fun σ => ?_
                  exact g_jmp (hj21 _ _) rfl
                · refine g_goto 257 dX1_rides_225 (by decide) ?_
                  exact g_jmp (hj21 _ _) rfl
            · intro j19 hj19
              refine g_if_eq 218 dX1_rides_210 (by decide) ?_ ?_
              · refine g_iconst (-1) dX1_rides_218 (by decide) ?_
                exact g_jmp (hj19 _ _) rfl
              · refine g_iload dX1_rides_213 rfl ?_
                refine g_goto 219 dX1_rides_215 (by decide) ?_
                exact g_jmp (hj19 _ _) rfl
          · intro j17 hj17
            refine g_if_eq 203 dX1_rides_194 (by decide) ?_ ?_
            · refine g_iconst 0 dX1_rides_203 (by decide) ?_
              exact g_jmp (hj17 _ _) rfl
            · refine g_iconst 1 dX1_rides_197 (by decide) ?_
              refine g_iload_n 3 dX1_rides_198 rfl rfl ?_
              refine g_ishl dX1_rides_199 ?_
              refine g_goto 204 dX1_rides_200 (by decide) ?_
              exact g_jmp (hj17 _ _) rfl
        · intro j14 hj14
          refine g_jn (fun j28 => ∀ (a27 : Unit) (σ : Hp), GG X mi_X1_rides (QM X rV) 176 [(0, vA v0), (1, vA v1), (3, vI a.2), (4, vI x7), (5, vI a8)] [vI x12, vA v0] σ (j28 a27 σ)) ?_ ?_
          · intro a27 σ
            refine g_iconst 1 dX1_rides_176 (by decide) ?_
            refine g_iload_n 3 dX1_rides_177 rfl rfl ?_
            refine g_ishl dX1_rides_178 ?_
            refine g_goto 183 dX1_rides_179 (by decide) ?_
            exact g_jmp (hj14 _ _) rfl
          · intro j28 hj28
            refine g_if_eq 176 dX1_rides_168 (by decide) ?_ ?_
            · exact g_jmp (hj28 _ _) rfl
            · refine g_iload dX1_rides_171 rfl ?_
              refine g_if_eq 182 dX1_rides_173 (by decide) ?_ ?_
              · refine g_iconst 0 dX1_rides_182 (by decide) ?_
                exact g_jmp (hj14 _ _) rfl
              · exact g_jmp (hj28 _ _) rfl
      · intro j11 hj11
        refine g_if_eq 158 dX1_rides_117 (by decide) ?_ ?_
        · refine g_iconst 0 dX1_rides_158 (by decide) ?_
          exact g_jmp (hj11 _ _) rfl
        · refine g_iload_n 2 dX1_rides_120 rfl rfl ?_
          refine g_if_lt 158 dX1_rides_121 (by decide) ?_ ?_
          · refine g_iconst 0 dX1_rides_158 (by decide) ?_
            exact g_jmp (hj11 _ _) rfl
          · refine g_iload_n 2 dX1_rides_124 rfl rfl ?_
            refine g_iload dX1_rides_125 rfl ?_
            refine g_icmp_eq 158 dX1_rides_127 (by decide) ?_ ?_
            · refine g_iconst 0 dX1_rides_158 (by decide) ?_
              exact g_jmp (hj11 _ _) rfl
            · refine g_aload_n 0 dX1_rides_130 rfl rfl ?_
              refine g_getR fo_0_3 q175 dX1_rides_131 fun y29 => ?_
              refine g_iload_n 2 dX1_rides_134 rfl rfl ?_
              refine g_iaload dX1_rides_135 fun x30 => ?_
              refine g_aload_n 0 dX1_rides_136 rfl rfl ?_
              refine g_getR fo_0_3 q175 dX1_rides_137 fun y31 => ?_
              refine g_iload dX1_rides_140 rfl ?_
              refine g_iaload dX1_rides_142 fun x32 => ?_
              refine g_isub dX1_rides_143 ?_
              refine g_mabs q680 (by decide) (Nat.le_of_ble_eq_true rfl) dX1_rides_144 ?_
              refine g_aload_n 0 dX1_rides_147 rfl rfl ?_
              refine g_getI fo_0_7 (by decide) q181 dX1_rides_148 fun x33 => ?_
              refine g_icmp_le 158 dX1_rides_151 (by decide) ?_ ?_
              · refine g_iconst 0 dX1_rides_158 (by decide) ?_
                exact g_jmp (hj11 _ _) rfl
              · refine g_iconst 1 dX1_rides_154 (by decide) ?_
                refine g_goto 159 dX1_rides_155 (by decide) ?_
                exact g_jmp (hj11 _ _) rfl
    · intro j9 hj9
      refine g_if_lt 112 dX1_rides_62 (by decide) ?_ ?_
      · refine g_iconst 0 dX1_rides_112 (by decide) ?_
        exact g_jmp (hj9 _ _) rfl
      · refine g_aload_n 0 dX1_rides_65 rfl rfl ?_
        refine g_getR fo_0_4 q177 dX1_rides_66 fun y34 => ?_
        refine g_iload dX1_rides_69 rfl ?_
        refine g_iaload dX1_rides_71 fun x35 => ?_
        refine g_iload_n 3 dX1_rides_72 rfl rfl ?_
        refine g_callS_I (mm_X1_has _ _ _) rfl q677 q678 q107 q679 dd_X1_has rfl (Nat.le_of_ble_eq_true rfl) (Nat.le_of_ble_eq_true rfl) (Nat.le_of_ble_eq_true rfl) dX1_rides_73 fun x36 σ => ?_
        refine g_if_eq 112 dX1_rides_76 (by decide) ?_ ?_
        · refine g_iconst 0 dX1_rides_112 (by decide) ?_
          exact g_jmp (hj9 _ _) rfl
        · refine g_aload_n 1 dX1_rides_79 rfl rfl ?_
          refine g_getIN fo_1_2 (by decide) nf_147 dX1_rides_80 fun x37 => ?_
          refine g_iload dX1_rides_83 rfl ?_
          refine g_callS_I (mm_X1_has _ _ _) rfl q677 q678 q107 q679 dd_X1_has rfl (Nat.le_of_ble_eq_true rfl) (Nat.le_of_ble_eq_true rfl) (Nat.le_of_ble_eq_true rfl) dX1_rides_85 fun x38 σ => ?_
          refine g_if_ne 112 dX1_rides_88 (by decide) ?_ ?_
          · refine g_iconst 0 dX1_rides_112 (by decide) ?_
            exact g_jmp (hj9 _ _) rfl
          · refine g_aload_n 0 dX1_rides_91 rfl rfl ?_
            refine g_getR fo_0_26 q203 dX1_rides_92 fun y39 => ?_
            refine g_iload dX1_rides_95 rfl ?_
            refine g_iaload dX1_rides_97 fun x40 => ?_
            refine g_aload_n 0 dX1_rides_98 rfl rfl ?_
            refine g_getR fo_0_2 q173 dX1_rides_99 fun y41 => ?_
            refine g_iload dX1_rides_102 rfl ?_
            refine g_iaload dX1_rides_104 fun x42 => ?_
            refine g_icmp_ge 112 dX1_rides_105 (by decide) ?_ ?_
            · refine g_iconst 0 dX1_rides_112 (by decide) ?_
              exact g_jmp (hj9 _ _) rfl
            · refine g_iconst 1 dX1_rides_108 (by decide) ?_
              refine g_goto 113 dX1_rides_109 (by decide) ?_
              exact g_jmp (hj9 _ _) rfl
theorem mm_X1_rides (v0 : Option Nat) (v1 : Option Nat) (σ : Hp) : MM yX1_rides mi_X1_rides rV [vA v0, vA v1] σ (f_X1_rides v0 v1 σ) := by
  refine mm_of (by decide +kernel) rfl rfl (Nat.le_of_ble_eq_true rfl) ?_
  intro X
  unfold f_X1_rides
  refine g_aload_n 0 dX1_rides_0 rfl rfl ?_
  refine g_iconst 0 dX1_rides_1 (by decide) ?_
  refine g_putI fo_0_28 (by decide) rfl q205 dX1_rides_2 fun σ => ?_
  refine g_aload_n 0 dX1_rides_5 rfl rfl ?_
  refine g_iconst 0 dX1_rides_6 (by decide) ?_
  refine g_putI fo_0_29 (by decide) rfl q206 dX1_rides_7 fun σ => ?_
  refine g_iconst 0 dX1_rides_10 (by decide) ?_
  refine g_istore_n 2 dX1_rides_11 rfl (lt_b rfl) ?_
  refine g_jmp (ok_X1_rides_b12 X v0 v1 ?_ _ _ _) rfl
  · intro a4 σ
    refine g_iconst (-1) dX1_rides_40 (by decide) ?_
    refine g_istore_n 2 dX1_rides_41 rfl (lt_b rfl) ?_
    refine g_iconst 0 dX1_rides_42 (by decide) ?_
    refine g_istore_n 3 dX1_rides_43 rfl (lt_b rfl) ?_
    refine g_jmp (ok_X1_rides_b44 X v0 v1 ?_ _ _ _) rfl
    · intro a43 σ
      exact g_vret rfl dX1_rides_263
theorem dd_X1_rides : yX1_rides.cls ≠ "java/lang/invoke/MethodHandle" ∧ yX1_rides.cls ≠ "java/lang/invoke/VarHandle" ∧ (parseMethodDescriptor yX1_rides.desc).map (fun d => d.parameters.length) = some 1 := by decide +kernel
theorem dv_X1_rides : yX1_rides.cls = RX1 ∧ yX1_rides.cls ≠ "java/lang/invoke/MethodHandle" ∧ yX1_rides.cls ≠ "java/lang/invoke/VarHandle" ∧ (parseMethodDescriptor yX1_rides.desc).map (fun d => d.parameters.length) = some 1 := ⟨rfl, dd_X1_rides⟩
/-! RockingHorse.exchanges(LRockingHorse$Horse;II)Z -/
abbrev mi_X1_exchanges : Mi := (cX1_exchanges, 5, "RockingHorse", 3, some .boolean, "exchanges")
def f_X1_exchanges_b14 (v1 : Option Nat) (v2 : Int32) (v3 : Int32) (k0 : Unit → Hp → Option (Int32 × Hp)) (ag : Int32 → Hp → Option (Int32 × Hp)) (a : Int32) (σ : Hp) : Option (Int32 × Hp) :=
  if 8 ≤ a then
    k0 () σ
  else
    gR 1 0 σ v1 fun y2 =>
    gR 1 0 σ v1 fun y3 =>
    lI 100 σ y3 a fun x4 =>
    jn (fun (a5 : Int32) σ =>
        sI σ y2 a a5 fun σ =>
        ag (a + 1) σ) fun j6 =>
    if x4 = v2 then
      j6 v3 σ
    else
      gR 1 0 σ v1 fun y7 =>
      lI 100 σ y7 a fun x8 =>
      if x8 = v3 then
        j6 v2 σ
      else
        gR 1 0 σ v1 fun y9 =>
        lI 100 σ y9 a fun x10 =>
        j6 x10 σ
def f_X1_exchanges (v0 : Option Nat) (v1 : Option Nat) (v2 : Int32) (v3 : Int32) (σ : Hp) : Option (Int32 × Hp) :=
  ob 0 σ v0 fun _ => bnd (f_X1_isPair v0 v2 v3 σ) fun x1 σ =>
  if x1 = 0 then
    rz1 0 σ
  else
    lp 2000 (f_X1_exchanges_b14 v1 v2 v3 (fun (a11 : Unit) σ =>
        rz1 1 σ)) 0 σ
theorem ok_X1_exchanges_b14 (X : Mx) (v1 : Option Nat) (v2 : Int32) (v3 : Int32) {k0 : Unit → Hp → Option (Int32 × Hp)} (hk0 : ∀ (a : Unit) (σ : Hp), GG X mi_X1_exchanges (QM X rI) 71 [] [] σ (k0 a σ)) : ∀ (m : Nat) (a : Int32) (σ : Hp), GG X mi_X1_exchanges (QM X rI) 14 [(1, vA v1), (2, vI v2), (3, vI v3), (4, vI a)] [] σ (lp m (f_X1_exchanges_b14 v1 v2 v3 k0) a σ) := by
  refine g_lp (fun (a : Int32) => [(1, vA v1), (2, vI v2), (3, vI v3), (4, vI a)]) ?_
  intro ag hag a σ
  unfold f_X1_exchanges_b14
  refine g_iload dX1_exchanges_14 rfl ?_
  refine g_bipush 8 dX1_exchanges_16 (by decide) ?_
  refine g_icmp_ge 71 dX1_exchanges_18 (by decide) ?_ ?_
  · exact g_jmp (hk0 _ _) rfl
  · refine g_aload_n 1 dX1_exchanges_21 rfl rfl ?_
    refine g_getRN fo_1_0 nf_142 dX1_exchanges_22 fun y2 => ?_
    refine g_iload dX1_exchanges_25 rfl ?_
    refine g_aload_n 1 dX1_exchanges_27 rfl rfl ?_
    refine g_getRN fo_1_0 nf_142 dX1_exchanges_28 fun y3 => ?_
    refine g_iload dX1_exchanges_31 rfl ?_
    refine g_iaload dX1_exchanges_33 fun x4 => ?_
    refine g_iload_n 2 dX1_exchanges_34 rfl rfl ?_
    refine g_jn (fun j6 => ∀ (a5 : Int32) (σ : Hp), GG X mi_X1_exchanges (QM X rI) 64 [(1, vA v1), (2, vI v2), (3, vI v3), (4, vI a)] [vI a5, vI a, vA y2] σ (j6 a5 σ)) ?_ ?_
    · intro a5 σ
      refine g_iastore dX1_exchanges_64 fun σ => ?_
      refine g_iinc 1 dX1_exchanges_65 (by decide) rfl (lt_b rfl) ?_
      refine g_goto 14 dX1_exchanges_68 (by decide) ?_
      exact g_jmp (hag _ _) rfl
    · intro j6 hj6
      refine g_icmp_ne 42 dX1_exchanges_35 (by decide) ?_ ?_
      · refine g_aload_n 1 dX1_exchanges_42 rfl rfl ?_
        refine g_getRN fo_1_0 nf_142 dX1_exchanges_43 fun y7 => ?_
        refine g_iload dX1_exchanges_46 rfl ?_
        refine g_iaload dX1_exchanges_48 fun x8 => ?_
        refine g_iload_n 3 dX1_exchanges_49 rfl rfl ?_
        refine g_icmp_ne 57 dX1_exchanges_50 (by decide) ?_ ?_
        · refine g_aload_n 1 dX1_exchanges_57 rfl rfl ?_
          refine g_getRN fo_1_0 nf_142 dX1_exchanges_58 fun y9 => ?_
          refine g_iload dX1_exchanges_61 rfl ?_
          refine g_iaload dX1_exchanges_63 fun x10 => ?_
          exact g_jmp (hj6 _ _) rfl
        · refine g_iload_n 2 dX1_exchanges_53 rfl rfl ?_
          refine g_goto 64 dX1_exchanges_54 (by decide) ?_
          exact g_jmp (hj6 _ _) rfl
      · refine g_iload_n 3 dX1_exchanges_38 rfl rfl ?_
        refine g_goto 64 dX1_exchanges_39 (by decide) ?_
        exact g_jmp (hj6 _ _) rfl
theorem mm_X1_exchanges (v0 : Option Nat) (v1 : Option Nat) (v2 : Int32) (v3 : Int32) (σ : Hp) : MM yX1_exchanges mi_X1_exchanges rI [vA v0, vA v1, vI v2, vI v3] σ (f_X1_exchanges v0 v1 v2 v3 σ) := by
  refine mm_of (by decide +kernel) rfl rfl (Nat.le_of_ble_eq_true rfl) ?_
  intro X
  unfold f_X1_exchanges
  refine g_aload_n 0 dX1_exchanges_0 rfl rfl ?_
  refine g_iload_n 2 dX1_exchanges_1 rfl rfl ?_
  refine g_iload_n 3 dX1_exchanges_2 rfl rfl ?_
  refine g_callV_I (mm_X1_isPair _ _ _ _) rfl zc_0 q704 q706 qs25 q107 q707 dv_X1_isPair rfl (Nat.le_of_ble_eq_true rfl) (Nat.le_of_ble_eq_true rfl) (Nat.le_of_ble_eq_true rfl) dX1_exchanges_3 fun x1 σ => ?_
  refine g_if_ne 11 dX1_exchanges_6 (by decide) ?_ ?_
  · refine g_iconst 0 dX1_exchanges_11 (by decide) ?_
    refine g_istore dX1_exchanges_12 (lt_b rfl) ?_
    refine g_jmp (ok_X1_exchanges_b14 X v1 v2 v3 ?_ _ _ _) rfl
    · intro a11 σ
      refine g_iconst 1 dX1_exchanges_71 (by decide) ?_
      exact g_zret rfl dX1_exchanges_72
  · refine g_iconst 0 dX1_exchanges_9 (by decide) ?_
    exact g_zret rfl dX1_exchanges_10
theorem dd_X1_exchanges : yX1_exchanges.cls ≠ "java/lang/invoke/MethodHandle" ∧ yX1_exchanges.cls ≠ "java/lang/invoke/VarHandle" ∧ (parseMethodDescriptor yX1_exchanges.desc).map (fun d => d.parameters.length) = some 3 := by decide +kernel
theorem dv_X1_exchanges : yX1_exchanges.cls = RX1 ∧ yX1_exchanges.cls ≠ "java/lang/invoke/MethodHandle" ∧ yX1_exchanges.cls ≠ "java/lang/invoke/VarHandle" ∧ (parseMethodDescriptor yX1_exchanges.desc).map (fun d => d.parameters.length) = some 3 := ⟨rfl, dd_X1_exchanges⟩
/-! RockingHorse.gaps()I -/
abbrev mi_X1_gaps : Mi := (cX1_gaps, 1, "RockingHorse", 103, some .int, "gaps")
def f_X1_gaps (v0 : Option Nat) (σ : Hp) : Option (Int32 × Hp) :=
  gR 0 0 σ v0 fun y1 =>
  ob 0 σ v0 fun _ => bnd (f_X1_rides v0 y1 σ) fun _ σ =>
  pI 0 0 52 σ v0 0 fun σ =>
  gI 0 28 σ v0 fun x2 =>
  bnd (f_J10_bitCount x2 σ) fun x3 σ =>
  ob 0 σ v0 fun _ => bnd (f_X1_tells v0 (Int32.toInt64 x3) σ) fun _ σ =>
  gI 0 29 σ v0 fun x4 =>
  ob 0 σ v0 fun _ => bnd (f_X1_tells v0 (Int32.toInt64 x4) σ) fun _ σ =>
  gI 0 28 σ v0 fun x5 =>
  some (x5, σ)
theorem mm_X1_gaps (v0 : Option Nat) (σ : Hp) : MM yX1_gaps mi_X1_gaps rI [vA v0] σ (f_X1_gaps v0 σ) := by
  refine mm_of (by decide +kernel) rfl rfl (Nat.le_of_ble_eq_true rfl) ?_
  intro X
  unfold f_X1_gaps
  refine g_aload_n 0 dX1_gaps_0 rfl rfl ?_
  refine g_aload_n 0 dX1_gaps_1 rfl rfl ?_
  refine g_getR fo_0_0 q171 dX1_gaps_2 fun y1 => ?_
  refine g_callV_V (mm_X1_rides _ _ _) rfl zc_0 q673 q675 qs20 q107 q676 dv_X1_rides rfl (Nat.le_of_ble_eq_true rfl) (Nat.le_of_ble_eq_true rfl) (Nat.le_of_ble_eq_true rfl) dX1_gaps_5 fun _ σ => ?_
  refine g_aload_n 0 dX1_gaps_8 rfl rfl ?_
  refine g_iconst 0 dX1_gaps_9 (by decide) ?_
  refine g_putI fo_0_52 (by decide) rfl q229 dX1_gaps_10 fun σ => ?_
  refine g_aload_n 0 dX1_gaps_13 rfl rfl ?_
  refine g_aload_n 0 dX1_gaps_14 rfl rfl ?_
  refine g_getI fo_0_28 (by decide) q205 dX1_gaps_15 fun x2 => ?_
  refine g_callS_I (mm_J10_bitCount _ _) rfl q659 q600 q125 q601 dd_J10_bitCount rfl (Nat.le_of_ble_eq_true rfl) (Nat.le_of_ble_eq_true rfl) (Nat.le_of_ble_eq_true rfl) dX1_gaps_18 fun x3 σ => ?_
  refine g_i2l dX1_gaps_21 ?_
  refine g_callV_V (mm_X1_tells _ _ _) rfl zc_0 q683 q685 qs21 q107 q686 dv_X1_tells rfl (Nat.le_of_ble_eq_true rfl) (Nat.le_of_ble_eq_true rfl) (Nat.le_of_ble_eq_true rfl) dX1_gaps_22 fun _ σ => ?_
  refine g_aload_n 0 dX1_gaps_25 rfl rfl ?_
  refine g_aload_n 0 dX1_gaps_26 rfl rfl ?_
  refine g_getI fo_0_29 (by decide) q206 dX1_gaps_27 fun x4 => ?_
  refine g_i2l dX1_gaps_30 ?_
  refine g_callV_V (mm_X1_tells _ _ _) rfl zc_0 q683 q685 qs21 q107 q686 dv_X1_tells rfl (Nat.le_of_ble_eq_true rfl) (Nat.le_of_ble_eq_true rfl) (Nat.le_of_ble_eq_true rfl) dX1_gaps_31 fun _ σ => ?_
  refine g_aload_n 0 dX1_gaps_34 rfl rfl ?_
  refine g_getI fo_0_28 (by decide) q205 dX1_gaps_35 fun x5 => ?_
  exact g_iret rfl dX1_gaps_38
theorem dd_X1_gaps : yX1_gaps.cls ≠ "java/lang/invoke/MethodHandle" ∧ yX1_gaps.cls ≠ "java/lang/invoke/VarHandle" ∧ (parseMethodDescriptor yX1_gaps.desc).map (fun d => d.parameters.length) = some 0 := by decide +kernel
theorem dv_X1_gaps : yX1_gaps.cls = RX1 ∧ yX1_gaps.cls ≠ "java/lang/invoke/MethodHandle" ∧ yX1_gaps.cls ≠ "java/lang/invoke/VarHandle" ∧ (parseMethodDescriptor yX1_gaps.desc).map (fun d => d.parameters.length) = some 0 := ⟨rfl, dd_X1_gaps⟩
/-! RockingHorse.trade()I -/
abbrev mi_X1_trade : Mi := (cX1_trade, 8, "RockingHorse", 103, some .int, "trade")
def f_X1_trade_b53 (v0 : Option Nat) (v5 : Int32) (k0 : (Int32 × Int32 × Int32) → Hp → Option (Int32 × Hp)) (ag : (Int32 × Int32 × Int32 × Int32) → Hp → Option (Int32 × Hp)) (a : Int32 × Int32 × Int32 × Int32) (σ : Hp) : Option (Int32 × Hp) :=
  gI 0 6 σ v0 fun x6 =>
  if x6 ≤ a.2.2.2 then
    k0 (a.1, a.2.1, a.2.2.1) σ
  else
    gR 0 1 σ v0 fun y7 =>
    gR 0 0 σ v0 fun y8 =>
    ob 1 σ y7 fun _ => bnd (f_X2_becomes y7 y8 σ) fun _ σ =>
    gR 0 1 σ v0 fun y9 =>
    gR 1 0 σ y9 fun y10 =>
    gR 0 0 σ v0 fun y11 =>
    gR 1 0 σ y11 fun y12 =>
    lI 100 σ y12 a.2.2.2 fun x13 =>
    sI σ y10 v5 x13 fun σ =>
    gR 0 1 σ v0 fun y14 =>
    gR 1 0 σ y14 fun y15 =>
    gR 0 0 σ v0 fun y16 =>
    gR 1 0 σ y16 fun y17 =>
    lI 100 σ y17 v5 fun x18 =>
    sI σ y15 a.2.2.2 x18 fun σ =>
    gR 0 1 σ v0 fun y19 =>
    ob 0 σ v0 fun _ => bnd (f_X1_rides v0 y19 σ) fun _ σ =>
    gI 0 28 σ v0 fun x20 =>
    bnd (f_J10_bitCount x20 σ) fun x21 σ =>
    jn (fun (a22 : Int32 × Int32 × Int32) σ =>
        ag (a22.1, a22.2.1, a22.2.2, (a.2.2.2 + 1)) σ) fun j23 =>
    if x21 < a.2.2.1 then
      j23 (v5, a.2.2.2, x21) σ
    else
      j23 (a.1, a.2.1, a.2.2.1) σ
def f_X1_trade_b38 (v0 : Option Nat) (k0 : (Int32 × Int32 × Int32) → Hp → Option (Int32 × Hp)) (ag : (Int32 × Int32 × Int32 × Int32) → Hp → Option (Int32 × Hp)) (a : Int32 × Int32 × Int32 × Int32) (σ : Hp) : Option (Int32 × Hp) :=
  gI 0 6 σ v0 fun x5 =>
  if x5 ≤ a.2.2.2 then
    k0 (a.1, a.2.1, a.2.2.1) σ
  else
    lp 2000 (f_X1_trade_b53 v0 a.2.2.2 (fun (a24 : Int32 × Int32 × Int32) σ =>
        ag (a24.1, a24.2.1, a24.2.2, (a.2.2.2 + 1)) σ)) (a.1, a.2.1, a.2.2.1, (a.2.2.2 + 1)) σ
def f_X1_trade (v0 : Option Nat) (σ : Hp) : Option (Int32 × Hp) :=
  gI 0 6 σ v0 fun x1 =>
  if x1 = 1 then
    some ((-2), σ)
  else
    gR 0 0 σ v0 fun y2 =>
    ob 0 σ v0 fun _ => bnd (f_X1_rides v0 y2 σ) fun _ σ =>
    gI 0 28 σ v0 fun x3 =>
    bnd (f_J10_bitCount x3 σ) fun x4 σ =>
    lp 2000 (f_X1_trade_b38 v0 (fun (a25 : Int32 × Int32 × Int32) σ =>
        pI 0 0 52 σ v0 0 fun σ =>
        ob 0 σ v0 fun _ => bnd (f_X1_tells v0 (Int32.toInt64 a25.1) σ) fun _ σ =>
        ob 0 σ v0 fun _ => bnd (f_X1_tells v0 (Int32.toInt64 a25.2.1) σ) fun _ σ =>
        ob 0 σ v0 fun _ => bnd (f_X1_tells v0 (Int32.toInt64 x4) σ) fun _ σ =>
        some (a25.2.2, σ))) (0, 0, 1000000, 0) σ
theorem ok_X1_trade_b53 (X : Mx) (v0 : Option Nat) (v5 : Int32) (v1 : Int32) {k0 : (Int32 × Int32 × Int32) → Hp → Option (Int32 × Hp)} (hk0 : ∀ (a : Int32 × Int32 × Int32) (σ : Hp), GG X mi_X1_trade (QM X rI) 156 [(0, vA v0), (1, vI v1), (2, vI a.1), (3, vI a.2.1), (4, vI a.2.2), (5, vI v5)] [] σ (k0 a σ)) : ∀ (m : Nat) (a : Int32 × Int32 × Int32 × Int32) (σ : Hp), GG X mi_X1_trade (QM X rI) 53 [(0, vA v0), (1, vI v1), (2, vI a.1), (3, vI a.2.1), (4, vI a.2.2.1), (5, vI v5), (6, vI a.2.2.2)] [] σ (lp m (f_X1_trade_b53 v0 v5 k0) a σ) := by
  refine g_lp (fun (a : Int32 × Int32 × Int32 × Int32) => [(0, vA v0), (1, vI v1), (2, vI a.1), (3, vI a.2.1), (4, vI a.2.2.1), (5, vI v5), (6, vI a.2.2.2)]) ?_
  intro ag hag a σ
  unfold f_X1_trade_b53
  refine g_iload dX1_trade_53 rfl ?_
  refine g_aload_n 0 dX1_trade_55 rfl rfl ?_
  refine g_getI fo_0_6 (by decide) q180 dX1_trade_56 fun x6 => ?_
  refine g_icmp_ge 156 dX1_trade_59 (by decide) ?_ ?_
  · exact g_jmp (hk0 _ _) rfl
  · refine g_aload_n 0 dX1_trade_62 rfl rfl ?_
    refine g_getR fo_0_1 q172 dX1_trade_63 fun y7 => ?_
    refine g_aload_n 0 dX1_trade_66 rfl rfl ?_
    refine g_getR fo_0_0 q171 dX1_trade_67 fun y8 => ?_
    refine g_callV_V (mm_X2_becomes _ _ _) rfl zc_1 q628 q629 q630 q108 q631 dv_X2_becomes rfl (Nat.le_of_ble_eq_true rfl) (Nat.le_of_ble_eq_true rfl) (Nat.le_of_ble_eq_true rfl) dX1_trade_70 fun _ σ => ?_
    refine g_aload_n 0 dX1_trade_73 rfl rfl ?_
    refine g_getR fo_0_1 q172 dX1_trade_74 fun y9 => ?_
    refine g_getRN fo_1_0 nf_142 dX1_trade_77 fun y10 => ?_
    refine g_iload dX1_trade_80 rfl ?_
    refine g_aload_n 0 dX1_trade_82 rfl rfl ?_
    refine g_getR fo_0_0 q171 dX1_trade_83 fun y11 => ?_
    refine g_getRN fo_1_0 nf_142 dX1_trade_86 fun y12 => ?_
    refine g_iload dX1_trade_89 rfl ?_
    refine g_iaload dX1_trade_91 fun x13 => ?_
    refine g_iastore dX1_trade_92 fun σ => ?_
    refine g_aload_n 0 dX1_trade_93 rfl rfl ?_
    refine g_getR fo_0_1 q172 dX1_trade_94 fun y14 => ?_
    refine g_getRN fo_1_0 nf_142 dX1_trade_97 fun y15 => ?_
    refine g_iload dX1_trade_100 rfl ?_
    refine g_aload_n 0 dX1_trade_102 rfl rfl ?_
    refine g_getR fo_0_0 q171 dX1_trade_103 fun y16 => ?_
    refine g_getRN fo_1_0 nf_142 dX1_trade_106 fun y17 => ?_
    refine g_iload dX1_trade_109 rfl ?_
    refine g_iaload dX1_trade_111 fun x18 => ?_
    refine g_iastore dX1_trade_112 fun σ => ?_
    refine g_aload_n 0 dX1_trade_113 rfl rfl ?_
    refine g_aload_n 0 dX1_trade_114 rfl rfl ?_
    refine g_getR fo_0_1 q172 dX1_trade_115 fun y19 => ?_
    refine g_callV_V (mm_X1_rides _ _ _) rfl zc_0 q673 q675 qs20 q107 q676 dv_X1_rides rfl (Nat.le_of_ble_eq_true rfl) (Nat.le_of_ble_eq_true rfl) (Nat.le_of_ble_eq_true rfl) dX1_trade_118 fun _ σ => ?_
    refine g_aload_n 0 dX1_trade_121 rfl rfl ?_
    refine g_getI fo_0_28 (by decide) q205 dX1_trade_122 fun x20 => ?_
    refine g_callS_I (mm_J10_bitCount _ _) rfl q659 q600 q125 q601 dd_J10_bitCount rfl (Nat.le_of_ble_eq_true rfl) (Nat.le_of_ble_eq_true rfl) (Nat.le_of_ble_eq_true rfl) dX1_trade_125 fun x21 σ => ?_
    refine g_istore dX1_trade_128 (lt_b rfl) ?_
    refine g_iload dX1_trade_130 rfl ?_
    refine g_iload dX1_trade_132 rfl ?_
    refine g_jn (fun j23 => ∀ (a22 : Int32 × Int32 × Int32) (σ : Hp), GG X mi_X1_trade (QM X rI) 150 [(0, vA v0), (1, vI v1), (2, vI a22.1), (3, vI a22.2.1), (4, vI a22.2.2), (5, vI v5), (6, vI a.2.2.2)] [] σ (j23 a22 σ)) ?_ ?_
    · intro a22 σ
      refine g_iinc 1 dX1_trade_150 (by decide) rfl (lt_b rfl) ?_
      refine g_goto 53 dX1_trade_153 (by decide) ?_
      exact g_jmp (hag _ _) rfl
    · intro j23 hj23
      refine g_icmp_lt 140 dX1_trade_134 (by decide) ?_ ?_
      · refine g_iload dX1_trade_140 rfl ?_
        refine g_istore dX1_trade_142 (lt_b rfl) ?_
        refine g_iload dX1_trade_144 rfl ?_
        refine g_istore_n 2 dX1_trade_146 rfl (lt_b rfl) ?_
        refine g_iload dX1_trade_147 rfl ?_
        refine g_istore_n 3 dX1_trade_149 rfl (lt_b rfl) ?_
        exact g_jmp (hj23 _ _) rfl
      · refine g_goto 150 dX1_trade_137 (by decide) ?_
        exact g_jmp (hj23 _ _) rfl
theorem ok_X1_trade_b38 (X : Mx) (v0 : Option Nat) (v1 : Int32) {k0 : (Int32 × Int32 × Int32) → Hp → Option (Int32 × Hp)} (hk0 : ∀ (a : Int32 × Int32 × Int32) (σ : Hp), GG X mi_X1_trade (QM X rI) 162 [(0, vA v0), (1, vI v1), (2, vI a.1), (3, vI a.2.1), (4, vI a.2.2)] [] σ (k0 a σ)) : ∀ (m : Nat) (a : Int32 × Int32 × Int32 × Int32) (σ : Hp), GG X mi_X1_trade (QM X rI) 38 [(0, vA v0), (1, vI v1), (2, vI a.1), (3, vI a.2.1), (4, vI a.2.2.1), (5, vI a.2.2.2)] [] σ (lp m (f_X1_trade_b38 v0 k0) a σ) := by
  refine g_lp (fun (a : Int32 × Int32 × Int32 × Int32) => [(0, vA v0), (1, vI v1), (2, vI a.1), (3, vI a.2.1), (4, vI a.2.2.1), (5, vI a.2.2.2)]) ?_
  intro ag hag a σ
  unfold f_X1_trade_b38
  refine g_iload dX1_trade_38 rfl ?_
  refine g_aload_n 0 dX1_trade_40 rfl rfl ?_
  refine g_getI fo_0_6 (by decide) q180 dX1_trade_41 fun x5 => ?_
  refine g_icmp_ge 162 dX1_trade_44 (by decide) ?_ ?_
  · exact g_jmp (hk0 _ _) rfl
  · refine g_iload dX1_trade_47 rfl ?_
    refine g_iconst 1 dX1_trade_49 (by decide) ?_
    refine g_iadd dX1_trade_50 ?_
    refine g_istore dX1_trade_51 (lt_b rfl) ?_
    refine g_jmp (ok_X1_trade_b53 X v0 a.2.2.2 v1 ?_ _ _ _) rfl
    · intro a24 σ
      refine g_iinc 1 dX1_trade_156 (by decide) rfl (lt_b rfl) ?_
      refine g_goto 38 dX1_trade_159 (by decide) ?_
      exact g_jmp (hag _ _) rfl
theorem mm_X1_trade (v0 : Option Nat) (σ : Hp) : MM yX1_trade mi_X1_trade rI [vA v0] σ (f_X1_trade v0 σ) := by
  refine mm_of (by decide +kernel) rfl rfl (Nat.le_of_ble_eq_true rfl) ?_
  intro X
  unfold f_X1_trade
  refine g_aload_n 0 dX1_trade_0 rfl rfl ?_
  refine g_getI fo_0_6 (by decide) q180 dX1_trade_1 fun x1 => ?_
  refine g_iconst 1 dX1_trade_4 (by decide) ?_
  refine g_icmp_ne 11 dX1_trade_5 (by decide) ?_ ?_
  · refine g_aload_n 0 dX1_trade_11 rfl rfl ?_
    refine g_aload_n 0 dX1_trade_12 rfl rfl ?_
    refine g_getR fo_0_0 q171 dX1_trade_13 fun y2 => ?_
    refine g_callV_V (mm_X1_rides _ _ _) rfl zc_0 q673 q675 qs20 q107 q676 dv_X1_rides rfl (Nat.le_of_ble_eq_true rfl) (Nat.le_of_ble_eq_true rfl) (Nat.le_of_ble_eq_true rfl) dX1_trade_16 fun _ σ => ?_
    refine g_aload_n 0 dX1_trade_19 rfl rfl ?_
    refine g_getI fo_0_28 (by decide) q205 dX1_trade_20 fun x3 => ?_
    refine g_callS_I (mm_J10_bitCount _ _) rfl q659 q600 q125 q601 dd_J10_bitCount rfl (Nat.le_of_ble_eq_true rfl) (Nat.le_of_ble_eq_true rfl) (Nat.le_of_ble_eq_true rfl) dX1_trade_23 fun x4 σ => ?_
    refine g_istore_n 1 dX1_trade_26 rfl (lt_b rfl) ?_
    refine g_iconst 0 dX1_trade_27 (by decide) ?_
    refine g_istore_n 2 dX1_trade_28 rfl (lt_b rfl) ?_
    refine g_iconst 0 dX1_trade_29 (by decide) ?_
    refine g_istore_n 3 dX1_trade_30 rfl (lt_b rfl) ?_
    refine g_ldc dX1_trade_31 q170 ?_
    refine g_istore dX1_trade_33 (lt_b rfl) ?_
    refine g_iconst 0 dX1_trade_35 (by decide) ?_
    refine g_istore dX1_trade_36 (lt_b rfl) ?_
    refine g_jmp (ok_X1_trade_b38 X v0 x4 ?_ _ _ _) rfl
    · intro a25 σ
      refine g_aload_n 0 dX1_trade_162 rfl rfl ?_
      refine g_iconst 0 dX1_trade_163 (by decide) ?_
      refine g_putI fo_0_52 (by decide) rfl q229 dX1_trade_164 fun σ => ?_
      refine g_aload_n 0 dX1_trade_167 rfl rfl ?_
      refine g_iload_n 2 dX1_trade_168 rfl rfl ?_
      refine g_i2l dX1_trade_169 ?_
      refine g_callV_V (mm_X1_tells _ _ _) rfl zc_0 q683 q685 qs21 q107 q686 dv_X1_tells rfl (Nat.le_of_ble_eq_true rfl) (Nat.le_of_ble_eq_true rfl) (Nat.le_of_ble_eq_true rfl) dX1_trade_170 fun _ σ => ?_
      refine g_aload_n 0 dX1_trade_173 rfl rfl ?_
      refine g_iload_n 3 dX1_trade_174 rfl rfl ?_
      refine g_i2l dX1_trade_175 ?_
      refine g_callV_V (mm_X1_tells _ _ _) rfl zc_0 q683 q685 qs21 q107 q686 dv_X1_tells rfl (Nat.le_of_ble_eq_true rfl) (Nat.le_of_ble_eq_true rfl) (Nat.le_of_ble_eq_true rfl) dX1_trade_176 fun _ σ => ?_
      refine g_aload_n 0 dX1_trade_179 rfl rfl ?_
      refine g_iload_n 1 dX1_trade_180 rfl rfl ?_
      refine g_i2l dX1_trade_181 ?_
      refine g_callV_V (mm_X1_tells _ _ _) rfl zc_0 q683 q685 qs21 q107 q686 dv_X1_tells rfl (Nat.le_of_ble_eq_true rfl) (Nat.le_of_ble_eq_true rfl) (Nat.le_of_ble_eq_true rfl) dX1_trade_182 fun _ σ => ?_
      refine g_iload dX1_trade_185 rfl ?_
      exact g_iret rfl dX1_trade_187
  · refine g_bipush (-2) dX1_trade_8 (by decide) ?_
    exact g_iret rfl dX1_trade_10
theorem dd_X1_trade : yX1_trade.cls ≠ "java/lang/invoke/MethodHandle" ∧ yX1_trade.cls ≠ "java/lang/invoke/VarHandle" ∧ (parseMethodDescriptor yX1_trade.desc).map (fun d => d.parameters.length) = some 0 := by decide +kernel
theorem dv_X1_trade : yX1_trade.cls = RX1 ∧ yX1_trade.cls ≠ "java/lang/invoke/MethodHandle" ∧ yX1_trade.cls ≠ "java/lang/invoke/VarHandle" ∧ (parseMethodDescriptor yX1_trade.desc).map (fun d => d.parameters.length) = some 0 := ⟨rfl, dd_X1_trade⟩
/-! RockingHorse.opens(I)V -/
abbrev mi_X1_opens : Mi := (cX1_opens, 3, "RockingHorse", 1, none, "opens")
def f_X1_opens_b2 (v0 : Option Nat) (v1 : Int32) (k0 : Unit → Hp → Option (Unit × Hp)) (ag : Int32 → Hp → Option (Unit × Hp)) (a : Int32) (σ : Hp) : Option (Unit × Hp) :=
  if 8 ≤ a then
    k0 () σ
  else
    gR 0 35 σ v0 fun y1 =>
    gI 0 5 σ v0 fun x2 =>
    jn (fun (a3 : Int32) σ =>
        sI σ y1 a a3 fun σ =>
        ag (a + 1) σ) fun j4 =>
    if x2 ≤ a then
      j4 0 σ
    else
      gR 0 0 σ v0 fun y5 =>
      gI 1 2 σ y5 fun x6 =>
      bnd (f_X1_has (x6 ||| v1) a σ) fun x7 σ =>
      if x7 = 0 then
        gR 0 4 σ v0 fun y8 =>
        lI 100 σ y8 a fun x9 =>
        ob 0 σ v0 fun _ => bnd (f_X1_wholeNight v0 σ) fun x10 σ =>
        j4 (x9 &&& x10) σ
      else
        j4 0 σ
def f_X1_opens_b61 (v0 : Option Nat) (k0 : Unit → Hp → Option (Unit × Hp)) (ag : Int32 → Hp → Option (Unit × Hp)) (a : Int32) (σ : Hp) : Option (Unit × Hp) :=
  if 64 ≤ a then
    k0 () σ
  else
    gR 0 37 σ v0 fun y12 =>
    sI σ y12 a 0 fun σ =>
    ag (a + 1) σ
def f_X1_opens (v0 : Option Nat) (v1 : Int32) (σ : Hp) : Option (Unit × Hp) :=
  lp 2000 (f_X1_opens_b2 v0 v1 (fun (a11 : Unit) σ =>
      lp 2000 (f_X1_opens_b61 v0 (fun (a13 : Unit) σ =>
          some ((), σ))) 0 σ)) 0 σ
theorem ok_X1_opens_b2 (X : Mx) (v0 : Option Nat) (v1 : Int32) {k0 : Unit → Hp → Option (Unit × Hp)} (hk0 : ∀ (a : Unit) (σ : Hp), GG X mi_X1_opens (QM X rV) 59 [(0, vA v0)] [] σ (k0 a σ)) : ∀ (m : Nat) (a : Int32) (σ : Hp), GG X mi_X1_opens (QM X rV) 2 [(0, vA v0), (1, vI v1), (2, vI a)] [] σ (lp m (f_X1_opens_b2 v0 v1 k0) a σ) := by
  refine g_lp (fun (a : Int32) => [(0, vA v0), (1, vI v1), (2, vI a)]) ?_
  intro ag hag a σ
  unfold f_X1_opens_b2
  refine g_iload_n 2 dX1_opens_2 rfl rfl ?_
  refine g_bipush 8 dX1_opens_3 (by decide) ?_
  refine g_icmp_ge 59 dX1_opens_5 (by decide) ?_ ?_
  · exact g_jmp (hk0 _ _) rfl
  · refine g_aload_n 0 dX1_opens_8 rfl rfl ?_
    refine g_getR fo_0_35 q212 dX1_opens_9 fun y1 => ?_
    refine g_iload_n 2 dX1_opens_12 rfl rfl ?_
    refine g_iload_n 2 dX1_opens_13 rfl rfl ?_
    refine g_aload_n 0 dX1_opens_14 rfl rfl ?_
    refine g_getI fo_0_5 (by decide) q179 dX1_opens_15 fun x2 => ?_
    refine g_jn (fun j4 => ∀ (a3 : Int32) (σ : Hp), GG X mi_X1_opens (QM X rV) 52 [(0, vA v0), (1, vI v1), (2, vI a)] [vI a3, vI a, vA y1] σ (j4 a3 σ)) ?_ ?_
    · intro a3 σ
      refine g_iastore dX1_opens_52 fun σ => ?_
      refine g_iinc 1 dX1_opens_53 (by decide) rfl (lt_b rfl) ?_
      refine g_goto 2 dX1_opens_56 (by decide) ?_
      exact g_jmp (hag _ _) rfl
    · intro j4 hj4
      refine g_icmp_ge 37 dX1_opens_18 (by decide) ?_ ?_
      · refine g_iconst 0 dX1_opens_37 (by decide) ?_
        refine g_goto 52 dX1_opens_38 (by decide) ?_
        exact g_jmp (hj4 _ _) rfl
      · refine g_aload_n 0 dX1_opens_21 rfl rfl ?_
        refine g_getR fo_0_0 q171 dX1_opens_22 fun y5 => ?_
        refine g_getIN fo_1_2 (by decide) nf_147 dX1_opens_25 fun x6 => ?_
        refine g_iload_n 1 dX1_opens_28 rfl rfl ?_
        refine g_ior dX1_opens_29 ?_
        refine g_iload_n 2 dX1_opens_30 rfl rfl ?_
        refine g_callS_I (mm_X1_has _ _ _) rfl q677 q678 q107 q679 dd_X1_has rfl (Nat.le_of_ble_eq_true rfl) (Nat.le_of_ble_eq_true rfl) (Nat.le_of_ble_eq_true rfl) dX1_opens_31 fun x7 σ => ?_
        refine g_if_eq 41 dX1_opens_34 (by decide) ?_ ?_
        · refine g_aload_n 0 dX1_opens_41 rfl rfl ?_
          refine g_getR fo_0_4 q177 dX1_opens_42 fun y8 => ?_
          refine g_iload_n 2 dX1_opens_45 rfl rfl ?_
          refine g_iaload dX1_opens_46 fun x9 => ?_
          refine g_aload_n 0 dX1_opens_47 rfl rfl ?_
          refine g_callV_I (mm_X1_wholeNight _ _) rfl zc_0 q745 q747 qs28 q107 q748 dv_X1_wholeNight rfl (Nat.le_of_ble_eq_true rfl) (Nat.le_of_ble_eq_true rfl) (Nat.le_of_ble_eq_true rfl) dX1_opens_48 fun x10 σ => ?_
          refine g_iand dX1_opens_51 ?_
          exact g_jmp (hj4 _ _) rfl
        · refine g_iconst 0 dX1_opens_37 (by decide) ?_
          refine g_goto 52 dX1_opens_38 (by decide) ?_
          exact g_jmp (hj4 _ _) rfl
theorem ok_X1_opens_b61 (X : Mx) (v0 : Option Nat) {k0 : Unit → Hp → Option (Unit × Hp)} (hk0 : ∀ (a : Unit) (σ : Hp), GG X mi_X1_opens (QM X rV) 80 [] [] σ (k0 a σ)) : ∀ (m : Nat) (a : Int32) (σ : Hp), GG X mi_X1_opens (QM X rV) 61 [(0, vA v0), (2, vI a)] [] σ (lp m (f_X1_opens_b61 v0 k0) a σ) := by
  refine g_lp (fun (a : Int32) => [(0, vA v0), (2, vI a)]) ?_
  intro ag hag a σ
  unfold f_X1_opens_b61
  refine g_iload_n 2 dX1_opens_61 rfl rfl ?_
  refine g_bipush 64 dX1_opens_62 (by decide) ?_
  refine g_icmp_ge 80 dX1_opens_64 (by decide) ?_ ?_
  · exact g_jmp (hk0 _ _) rfl
  · refine g_aload_n 0 dX1_opens_67 rfl rfl ?_
    refine g_getR fo_0_37 q214 dX1_opens_68 fun y12 => ?_
    refine g_iload_n 2 dX1_opens_71 rfl rfl ?_
    refine g_iconst 0 dX1_opens_72 (by decide) ?_
    refine g_iastore dX1_opens_73 fun σ => ?_
    refine g_iinc 1 dX1_opens_74 (by decide) rfl (lt_b rfl) ?_
    refine g_goto 61 dX1_opens_77 (by decide) ?_
    exact g_jmp (hag _ _) rfl
theorem mm_X1_opens (v0 : Option Nat) (v1 : Int32) (σ : Hp) : MM yX1_opens mi_X1_opens rV [vA v0, vI v1] σ (f_X1_opens v0 v1 σ) := by
  refine mm_of (by decide +kernel) rfl rfl (Nat.le_of_ble_eq_true rfl) ?_
  intro X
  unfold f_X1_opens
  refine g_iconst 0 dX1_opens_0 (by decide) ?_
  refine g_istore_n 2 dX1_opens_1 rfl (lt_b rfl) ?_
  refine g_jmp (ok_X1_opens_b2 X v0 v1 ?_ _ _ _) rfl
  · intro a11 σ
    refine g_iconst 0 dX1_opens_59 (by decide) ?_
    refine g_istore_n 2 dX1_opens_60 rfl (lt_b rfl) ?_
    refine g_jmp (ok_X1_opens_b61 X v0 ?_ _ _ _) rfl
    · intro a13 σ
      exact g_vret rfl dX1_opens_80
theorem dd_X1_opens : yX1_opens.cls ≠ "java/lang/invoke/MethodHandle" ∧ yX1_opens.cls ≠ "java/lang/invoke/VarHandle" ∧ (parseMethodDescriptor yX1_opens.desc).map (fun d => d.parameters.length) = some 1 := by decide +kernel
theorem dv_X1_opens : yX1_opens.cls = RX1 ∧ yX1_opens.cls ≠ "java/lang/invoke/MethodHandle" ∧ yX1_opens.cls ≠ "java/lang/invoke/VarHandle" ∧ (parseMethodDescriptor yX1_opens.desc).map (fun d => d.parameters.length) = some 1 := ⟨rfl, dd_X1_opens⟩
/-! RockingHorse.pricesHard()V -/
abbrev mi_X1_pricesHard : Mi := (cX1_pricesHard, 3, "RockingHorse", 102, none, "pricesHard")
def f_X1_pricesHard_b12 (v0 : Option Nat) (v1 : Int32) (k0 : Unit → Hp → Option (Unit × Hp)) (ag : Int32 → Hp → Option (Unit × Hp)) (a : Int32) (σ : Hp) : Option (Unit × Hp) :=
  gI 0 6 σ v0 fun x2 =>
  if x2 ≤ a then
    k0 () σ
  else
    gR 0 37 σ v0 fun y3 =>
    gR 0 0 σ v0 fun y4 =>
    ob 0 σ v0 fun _ => bnd (f_X1_hardOf v0 y4 v1 a σ) fun x5 σ =>
    sI σ y3 ((8 * v1) + a) x5 fun σ =>
    ag (a + 1) σ
def f_X1_pricesHard_b2 (v0 : Option Nat) (k0 : Unit → Hp → Option (Unit × Hp)) (ag : Int32 → Hp → Option (Unit × Hp)) (a : Int32) (σ : Hp) : Option (Unit × Hp) :=
  gI 0 5 σ v0 fun x1 =>
  if x1 ≤ a then
    k0 () σ
  else
    lp 2000 (f_X1_pricesHard_b12 v0 a (fun (a6 : Unit) σ =>
        ag (a + 1) σ)) 0 σ
def f_X1_pricesHard (v0 : Option Nat) (σ : Hp) : Option (Unit × Hp) :=
  lp 2000 (f_X1_pricesHard_b2 v0 (fun (a7 : Unit) σ =>
      some ((), σ))) 0 σ
theorem ok_X1_pricesHard_b12 (X : Mx) (v0 : Option Nat) (v1 : Int32) {k0 : Unit → Hp → Option (Unit × Hp)} (hk0 : ∀ (a : Unit) (σ : Hp), GG X mi_X1_pricesHard (QM X rV) 47 [(0, vA v0), (1, vI v1)] [] σ (k0 a σ)) : ∀ (m : Nat) (a : Int32) (σ : Hp), GG X mi_X1_pricesHard (QM X rV) 12 [(0, vA v0), (1, vI v1), (2, vI a)] [] σ (lp m (f_X1_pricesHard_b12 v0 v1 k0) a σ) := by
  refine g_lp (fun (a : Int32) => [(0, vA v0), (1, vI v1), (2, vI a)]) ?_
  intro ag hag a σ
  unfold f_X1_pricesHard_b12
  refine g_iload_n 2 dX1_pricesHard_12 rfl rfl ?_
  refine g_aload_n 0 dX1_pricesHard_13 rfl rfl ?_
  refine g_getI fo_0_6 (by decide) q180 dX1_pricesHard_14 fun x2 => ?_
  refine g_icmp_ge 47 dX1_pricesHard_17 (by decide) ?_ ?_
  · exact g_jmp (hk0 _ _) rfl
  · refine g_aload_n 0 dX1_pricesHard_20 rfl rfl ?_
    refine g_getR fo_0_37 q214 dX1_pricesHard_21 fun y3 => ?_
    refine g_bipush 8 dX1_pricesHard_24 (by decide) ?_
    refine g_iload_n 1 dX1_pricesHard_26 rfl rfl ?_
    refine g_imul dX1_pricesHard_27 ?_
    refine g_iload_n 2 dX1_pricesHard_28 rfl rfl ?_
    refine g_iadd dX1_pricesHard_29 ?_
    refine g_aload_n 0 dX1_pricesHard_30 rfl rfl ?_
    refine g_aload_n 0 dX1_pricesHard_31 rfl rfl ?_
    refine g_getR fo_0_0 q171 dX1_pricesHard_32 fun y4 => ?_
    refine g_iload_n 1 dX1_pricesHard_35 rfl rfl ?_
    refine g_iload_n 2 dX1_pricesHard_36 rfl rfl ?_
    refine g_callV_I (mm_X1_hardOf _ _ _ _ _) rfl zc_0 q581 q583 qs13 q107 q584 dv_X1_hardOf rfl (Nat.le_of_ble_eq_true rfl) (Nat.le_of_ble_eq_true rfl) (Nat.le_of_ble_eq_true rfl) dX1_pricesHard_37 fun x5 σ => ?_
    refine g_iastore dX1_pricesHard_40 fun σ => ?_
    refine g_iinc 1 dX1_pricesHard_41 (by decide) rfl (lt_b rfl) ?_
    refine g_goto 12 dX1_pricesHard_44 (by decide) ?_
    exact g_jmp (hag _ _) rfl
theorem ok_X1_pricesHard_b2 (X : Mx) (v0 : Option Nat) {k0 : Unit → Hp → Option (Unit × Hp)} (hk0 : ∀ (a : Unit) (σ : Hp), GG X mi_X1_pricesHard (QM X rV) 53 [] [] σ (k0 a σ)) : ∀ (m : Nat) (a : Int32) (σ : Hp), GG X mi_X1_pricesHard (QM X rV) 2 [(0, vA v0), (1, vI a)] [] σ (lp m (f_X1_pricesHard_b2 v0 k0) a σ) := by
  refine g_lp (fun (a : Int32) => [(0, vA v0), (1, vI a)]) ?_
  intro ag hag a σ
  unfold f_X1_pricesHard_b2
  refine g_iload_n 1 dX1_pricesHard_2 rfl rfl ?_
  refine g_aload_n 0 dX1_pricesHard_3 rfl rfl ?_
  refine g_getI fo_0_5 (by decide) q179 dX1_pricesHard_4 fun x1 => ?_
  refine g_icmp_ge 53 dX1_pricesHard_7 (by decide) ?_ ?_
  · exact g_jmp (hk0 _ _) rfl
  · refine g_iconst 0 dX1_pricesHard_10 (by decide) ?_
    refine g_istore_n 2 dX1_pricesHard_11 rfl (lt_b rfl) ?_
    refine g_jmp (ok_X1_pricesHard_b12 X v0 a ?_ _ _ _) rfl
    · intro a6 σ
      refine g_iinc 1 dX1_pricesHard_47 (by decide) rfl (lt_b rfl) ?_
      refine g_goto 2 dX1_pricesHard_50 (by decide) ?_
      exact g_jmp (hag _ _) rfl
theorem mm_X1_pricesHard (v0 : Option Nat) (σ : Hp) : MM yX1_pricesHard mi_X1_pricesHard rV [vA v0] σ (f_X1_pricesHard v0 σ) := by
  refine mm_of (by decide +kernel) rfl rfl (Nat.le_of_ble_eq_true rfl) ?_
  intro X
  unfold f_X1_pricesHard
  refine g_iconst 0 dX1_pricesHard_0 (by decide) ?_
  refine g_istore_n 1 dX1_pricesHard_1 rfl (lt_b rfl) ?_
  refine g_jmp (ok_X1_pricesHard_b2 X v0 ?_ _ _ _) rfl
  · intro a7 σ
    exact g_vret rfl dX1_pricesHard_53
theorem dd_X1_pricesHard : yX1_pricesHard.cls ≠ "java/lang/invoke/MethodHandle" ∧ yX1_pricesHard.cls ≠ "java/lang/invoke/VarHandle" ∧ (parseMethodDescriptor yX1_pricesHard.desc).map (fun d => d.parameters.length) = some 0 := by decide +kernel
theorem dv_X1_pricesHard : yX1_pricesHard.cls = RX1 ∧ yX1_pricesHard.cls ≠ "java/lang/invoke/MethodHandle" ∧ yX1_pricesHard.cls ≠ "java/lang/invoke/VarHandle" ∧ (parseMethodDescriptor yX1_pricesHard.desc).map (fun d => d.parameters.length) = some 0 := ⟨rfl, dd_X1_pricesHard⟩
/-! RockingHorse.pricesSets(I)V -/
abbrev mi_X1_pricesSets : Mi := (cX1_pricesSets, 4, "RockingHorse", 1, none, "pricesSets")
def f_X1_pricesSets_b2 (v0 : Option Nat) (v1 : Int32) (k0 : Unit → Hp → Option (Unit × Hp)) (ag : Int32 → Hp → Option (Unit × Hp)) (a : Int32) (σ : Hp) : Option (Unit × Hp) :=
  if 256 ≤ a then
    k0 () σ
  else
    bnd (f_J10_numberOfTrailingZeros a σ) fun x1 σ =>
    gR 0 38 σ v0 fun y2 =>
    gR 0 38 σ v0 fun y3 =>
    lI 100 σ y3 (a &&& (a - 1)) fun x4 =>
    gR 0 37 σ v0 fun y5 =>
    lI 100 σ y5 ((8 * v1) + x1) fun x6 =>
    sI σ y2 a (x4 + x6) fun σ =>
    ag (a + 1) σ
def f_X1_pricesSets (v0 : Option Nat) (v1 : Int32) (σ : Hp) : Option (Unit × Hp) :=
  lp 2000 (f_X1_pricesSets_b2 v0 v1 (fun (a7 : Unit) σ =>
      some ((), σ))) 1 σ
theorem ok_X1_pricesSets_b2 (X : Mx) (v0 : Option Nat) (v1 : Int32) {k0 : Unit → Hp → Option (Unit × Hp)} (hk0 : ∀ (a : Unit) (σ : Hp), GG X mi_X1_pricesSets (QM X rV) 48 [] [] σ (k0 a σ)) : ∀ (m : Nat) (a : Int32) (σ : Hp), GG X mi_X1_pricesSets (QM X rV) 2 [(0, vA v0), (1, vI v1), (2, vI a)] [] σ (lp m (f_X1_pricesSets_b2 v0 v1 k0) a σ) := by
  refine g_lp (fun (a : Int32) => [(0, vA v0), (1, vI v1), (2, vI a)]) ?_
  intro ag hag a σ
  unfold f_X1_pricesSets_b2
  refine g_iload_n 2 dX1_pricesSets_2 rfl rfl ?_
  refine g_sipush 256 dX1_pricesSets_3 (by decide) ?_
  refine g_icmp_ge 48 dX1_pricesSets_6 (by decide) ?_ ?_
  · exact g_jmp (hk0 _ _) rfl
  · refine g_iload_n 2 dX1_pricesSets_9 rfl rfl ?_
    refine g_callS_I (mm_J10_numberOfTrailingZeros _ _) rfl q717 q718 q125 q719 dd_J10_numberOfTrailingZeros rfl (Nat.le_of_ble_eq_true rfl) (Nat.le_of_ble_eq_true rfl) (Nat.le_of_ble_eq_true rfl) dX1_pricesSets_10 fun x1 σ => ?_
    refine g_istore_n 3 dX1_pricesSets_13 rfl (lt_b rfl) ?_
    refine g_aload_n 0 dX1_pricesSets_14 rfl rfl ?_
    refine g_getR fo_0_38 q215 dX1_pricesSets_15 fun y2 => ?_
    refine g_iload_n 2 dX1_pricesSets_18 rfl rfl ?_
    refine g_aload_n 0 dX1_pricesSets_19 rfl rfl ?_
    refine g_getR fo_0_38 q215 dX1_pricesSets_20 fun y3 => ?_
    refine g_iload_n 2 dX1_pricesSets_23 rfl rfl ?_
    refine g_iload_n 2 dX1_pricesSets_24 rfl rfl ?_
    refine g_iconst 1 dX1_pricesSets_25 (by decide) ?_
    refine g_isub dX1_pricesSets_26 ?_
    refine g_iand dX1_pricesSets_27 ?_
    refine g_iaload dX1_pricesSets_28 fun x4 => ?_
    refine g_aload_n 0 dX1_pricesSets_29 rfl rfl ?_
    refine g_getR fo_0_37 q214 dX1_pricesSets_30 fun y5 => ?_
    refine g_bipush 8 dX1_pricesSets_33 (by decide) ?_
    refine g_iload_n 1 dX1_pricesSets_35 rfl rfl ?_
    refine g_imul dX1_pricesSets_36 ?_
    refine g_iload_n 3 dX1_pricesSets_37 rfl rfl ?_
    refine g_iadd dX1_pricesSets_38 ?_
    refine g_iaload dX1_pricesSets_39 fun x6 => ?_
    refine g_iadd dX1_pricesSets_40 ?_
    refine g_iastore dX1_pricesSets_41 fun σ => ?_
    refine g_iinc 1 dX1_pricesSets_42 (by decide) rfl (lt_b rfl) ?_
    refine g_goto 2 dX1_pricesSets_45 (by decide) ?_
    exact g_jmp (hag _ _) rfl
theorem mm_X1_pricesSets (v0 : Option Nat) (v1 : Int32) (σ : Hp) : MM yX1_pricesSets mi_X1_pricesSets rV [vA v0, vI v1] σ (f_X1_pricesSets v0 v1 σ) := by
  refine mm_of (by decide +kernel) rfl rfl (Nat.le_of_ble_eq_true rfl) ?_
  intro X
  unfold f_X1_pricesSets
  refine g_iconst 1 dX1_pricesSets_0 (by decide) ?_
  refine g_istore_n 2 dX1_pricesSets_1 rfl (lt_b rfl) ?_
  refine g_jmp (ok_X1_pricesSets_b2 X v0 v1 ?_ _ _ _) rfl
  · intro a7 σ
    exact g_vret rfl dX1_pricesSets_48
theorem dd_X1_pricesSets : yX1_pricesSets.cls ≠ "java/lang/invoke/MethodHandle" ∧ yX1_pricesSets.cls ≠ "java/lang/invoke/VarHandle" ∧ (parseMethodDescriptor yX1_pricesSets.desc).map (fun d => d.parameters.length) = some 1 := by decide +kernel
theorem dv_X1_pricesSets : yX1_pricesSets.cls = RX1 ∧ yX1_pricesSets.cls ≠ "java/lang/invoke/MethodHandle" ∧ yX1_pricesSets.cls ≠ "java/lang/invoke/VarHandle" ∧ (parseMethodDescriptor yX1_pricesSets.desc).map (fun d => d.parameters.length) = some 1 := ⟨rfl, dd_X1_pricesSets⟩
/-! RockingHorse.lacking(I)I -/
abbrev mi_X1_lacking : Mi := (cX1_lacking, 6, "RockingHorse", 1, some .int, "lacking")
def f_X1_lacking_b18 (v0 : Option Nat) (v1 : Int32) (v3 : Int32) (k0 : Int32 → Hp → Option (Int32 × Hp)) (ag : (Int32 × Int32) → Hp → Option (Int32 × Hp)) (a : Int32 × Int32) (σ : Hp) : Option (Int32 × Hp) :=
  gI 0 5 σ v0 fun x2 =>
  if x2 ≤ a.2 then
    k0 a.1 σ
  else
    bnd (f_X1_has v1 a.2 σ) fun x3 σ =>
    jn (fun (a4 : Int32) σ =>
        ag ((a.1 + a4), (a.2 + 1)) σ) fun j5 =>
    if x3 = 0 then
      j5 0 σ
    else
      gR 0 4 σ v0 fun y6 =>
      lI 100 σ y6 a.2 fun x7 =>
      if (x7 &&& v3) = 0 then
        j5 0 σ
      else
        gR 0 2 σ v0 fun y8 =>
        lI 100 σ y8 a.2 fun x9 =>
        j5 x9 σ
def f_X1_lacking_b4 (v0 : Option Nat) (v1 : Int32) (k0 : Int32 → Hp → Option (Int32 × Hp)) (ag : (Int32 × Int32) → Hp → Option (Int32 × Hp)) (a : Int32 × Int32) (σ : Hp) : Option (Int32 × Hp) :=
  ob 0 σ v0 fun _ => bnd (f_X1_wholeNight v0 σ) fun x1 σ =>
  if x1 < a.2 then
    k0 a.1 σ
  else
    lp 2000 (f_X1_lacking_b18 v0 v1 a.2 (fun (a10 : Int32) σ =>
        jn (fun (a11 : Int32) σ =>
            jn (fun (a13 : Int32) σ =>
                ag (a13, (a.2 + 1)) σ) fun j14 =>
            jn (fun (a15 : Unit) σ =>
                j14 a.1 σ) fun j16 =>
            if a11 = 0 then
              j16 () σ
            else
              bnd (f_J10_bitCount a.2 σ) fun x17 σ =>
              if x17 ≤ a10 then
                j16 () σ
              else
                j14 a.2 σ) fun j12 =>
        if a.1 = 0 then
          j12 1 σ
        else
          bnd (f_J10_bitCount a.2 σ) fun x18 σ =>
          bnd (f_J10_bitCount a.1 σ) fun x19 σ =>
          if x19 ≤ x18 then
            j12 0 σ
          else
            j12 1 σ)) (0, 0) σ
def f_X1_lacking (v0 : Option Nat) (v1 : Int32) (σ : Hp) : Option (Int32 × Hp) :=
  lp 2000 (f_X1_lacking_b4 v0 v1 (fun (a20 : Int32) σ =>
      some (a20, σ))) (0, 1) σ
theorem ok_X1_lacking_b18 (X : Mx) (v0 : Option Nat) (v1 : Int32) (v3 : Int32) (v2 : Int32) {k0 : Int32 → Hp → Option (Int32 × Hp)} (hk0 : ∀ (a : Int32) (σ : Hp), GG X mi_X1_lacking (QM X rI) 70 [(0, vA v0), (1, vI v1), (2, vI v2), (3, vI v3), (4, vI a)] [] σ (k0 a σ)) : ∀ (m : Nat) (a : Int32 × Int32) (σ : Hp), GG X mi_X1_lacking (QM X rI) 18 [(0, vA v0), (1, vI v1), (2, vI v2), (3, vI v3), (4, vI a.1), (5, vI a.2)] [] σ (lp m (f_X1_lacking_b18 v0 v1 v3 k0) a σ) := by
  refine g_lp (fun (a : Int32 × Int32) => [(0, vA v0), (1, vI v1), (2, vI v2), (3, vI v3), (4, vI a.1), (5, vI a.2)]) ?_
  intro ag hag a σ
  unfold f_X1_lacking_b18
  refine g_iload dX1_lacking_18 rfl ?_
  refine g_aload_n 0 dX1_lacking_20 rfl rfl ?_
  refine g_getI fo_0_5 (by decide) q179 dX1_lacking_21 fun x2 => ?_
  refine g_icmp_ge 70 dX1_lacking_24 (by decide) ?_ ?_
  · exact g_jmp (hk0 _ _) rfl
  · refine g_iload dX1_lacking_27 rfl ?_
    refine g_iload_n 1 dX1_lacking_29 rfl rfl ?_
    refine g_iload dX1_lacking_30 rfl ?_
    refine g_callS_I (mm_X1_has _ _ _) rfl q677 q678 q107 q679 dd_X1_has rfl (Nat.le_of_ble_eq_true rfl) (Nat.le_of_ble_eq_true rfl) (Nat.le_of_ble_eq_true rfl) dX1_lacking_32 fun x3 σ => ?_
    refine g_jn (fun j5 => ∀ (a4 : Int32) (σ : Hp), GG X mi_X1_lacking (QM X rI) 61 [(0, vA v0), (1, vI v1), (2, vI v2), (3, vI v3), (5, vI a.2)] [vI a4, vI a.1] σ (j5 a4 σ)) ?_ ?_
    · intro a4 σ
      refine g_iadd dX1_lacking_61 ?_
      refine g_istore dX1_lacking_62 (lt_b rfl) ?_
      refine g_iinc 1 dX1_lacking_64 (by decide) rfl (lt_b rfl) ?_
      refine g_goto 18 dX1_lacking_67 (by decide) ?_
      exact g_jmp (hag _ _) rfl
    · intro j5 hj5
      refine g_if_eq 60 dX1_lacking_35 (by decide) ?_ ?_
      · refine g_iconst 0 dX1_lacking_60 (by decide) ?_
        exact g_jmp (hj5 _ _) rfl
      · refine g_aload_n 0 dX1_lacking_38 rfl rfl ?_
        refine g_getR fo_0_4 q177 dX1_lacking_39 fun y6 => ?_
        refine g_iload dX1_lacking_42 rfl ?_
        refine g_iaload dX1_lacking_44 fun x7 => ?_
        refine g_iload_n 3 dX1_lacking_45 rfl rfl ?_
        refine g_iand dX1_lacking_46 ?_
        refine g_if_eq 60 dX1_lacking_47 (by decide) ?_ ?_
        · refine g_iconst 0 dX1_lacking_60 (by decide) ?_
          exact g_jmp (hj5 _ _) rfl
        · refine g_aload_n 0 dX1_lacking_50 rfl rfl ?_
          refine g_getR fo_0_2 q173 dX1_lacking_51 fun y8 => ?_
          refine g_iload dX1_lacking_54 rfl ?_
          refine g_iaload dX1_lacking_56 fun x9 => ?_
          refine g_goto 61 dX1_lacking_57 (by decide) ?_
          exact g_jmp (hj5 _ _) rfl
theorem ok_X1_lacking_b4 (X : Mx) (v0 : Option Nat) (v1 : Int32) {k0 : Int32 → Hp → Option (Int32 × Hp)} (hk0 : ∀ (a : Int32) (σ : Hp), GG X mi_X1_lacking (QM X rI) 118 [(2, vI a)] [] σ (k0 a σ)) : ∀ (m : Nat) (a : Int32 × Int32) (σ : Hp), GG X mi_X1_lacking (QM X rI) 4 [(0, vA v0), (1, vI v1), (2, vI a.1), (3, vI a.2)] [] σ (lp m (f_X1_lacking_b4 v0 v1 k0) a σ) := by
  refine g_lp (fun (a : Int32 × Int32) => [(0, vA v0), (1, vI v1), (2, vI a.1), (3, vI a.2)]) ?_
  intro ag hag a σ
  unfold f_X1_lacking_b4
  refine g_iload_n 3 dX1_lacking_4 rfl rfl ?_
  refine g_aload_n 0 dX1_lacking_5 rfl rfl ?_
  refine g_callV_I (mm_X1_wholeNight _ _) rfl zc_0 q745 q747 qs28 q107 q748 dv_X1_wholeNight rfl (Nat.le_of_ble_eq_true rfl) (Nat.le_of_ble_eq_true rfl) (Nat.le_of_ble_eq_true rfl) dX1_lacking_6 fun x1 σ => ?_
  refine g_icmp_gt 118 dX1_lacking_9 (by decide) ?_ ?_
  · exact g_jmp (hk0 _ _) rfl
  · refine g_iconst 0 dX1_lacking_12 (by decide) ?_
    refine g_istore dX1_lacking_13 (lt_b rfl) ?_
    refine g_iconst 0 dX1_lacking_15 (by decide) ?_
    refine g_istore dX1_lacking_16 (lt_b rfl) ?_
    refine g_jmp (ok_X1_lacking_b18 X v0 v1 a.2 a.1 ?_ _ _ _) rfl
    · intro a10 σ
      refine g_iload_n 2 dX1_lacking_70 rfl rfl ?_
      refine g_jn (fun j12 => ∀ (a11 : Int32) (σ : Hp), GG X mi_X1_lacking (QM X rI) 90 [(0, vA v0), (1, vI v1), (2, vI a.1), (3, vI a.2), (4, vI a10)] [vI a11] σ (j12 a11 σ)) ?_ ?_
      · intro a11 σ
        refine g_istore dX1_lacking_90 (lt_b rfl) ?_
        refine g_iload dX1_lacking_92 rfl ?_
        refine g_jn (fun j14 => ∀ (a13 : Int32) (σ : Hp), GG X mi_X1_lacking (QM X rI) 111 [(0, vA v0), (1, vI v1), (3, vI a.2)] [vI a13] σ (j14 a13 σ)) ?_ ?_
        · intro a13 σ
          refine g_istore_n 2 dX1_lacking_111 rfl (lt_b rfl) ?_
          refine g_iinc 1 dX1_lacking_112 (by decide) rfl (lt_b rfl) ?_
          refine g_goto 4 dX1_lacking_115 (by decide) ?_
          exact g_jmp (hag _ _) rfl
        · intro j14 hj14
          refine g_jn (fun j16 => ∀ (a15 : Unit) (σ : Hp), GG X mi_X1_lacking (QM X rI) 110 [(0, vA v0), (1, vI v1), (2, vI a.1), (3, vI a.2)] [] σ (j16 a15 σ)) ?_ ?_
          · intro a15 σ
            refine g_iload_n 2 dX1_lacking_110 rfl rfl ?_
            exact g_jmp (hj14 _ _) rfl
          · intro j16 hj16
            refine g_if_eq 110 dX1_lacking_94 (by decide) ?_ ?_
            · exact g_jmp (hj16 _ _) rfl
            · refine g_iload dX1_lacking_97 rfl ?_
              refine g_iload_n 3 dX1_lacking_99 rfl rfl ?_
              refine g_callS_I (mm_J10_bitCount _ _) rfl q659 q600 q125 q601 dd_J10_bitCount rfl (Nat.le_of_ble_eq_true rfl) (Nat.le_of_ble_eq_true rfl) (Nat.le_of_ble_eq_true rfl) dX1_lacking_100 fun x17 σ => ?_
              refine g_icmp_ge 110 dX1_lacking_103 (by decide) ?_ ?_
              · exact g_jmp (hj16 _ _) rfl
              · refine g_iload_n 3 dX1_lacking_106 rfl rfl ?_
                refine g_goto 111 dX1_lacking_107 (by decide) ?_
                exact g_jmp (hj14 _ _) rfl
      · intro j12 hj12
        refine g_if_eq 85 dX1_lacking_71 (by decide) ?_ ?_
        · refine g_iconst 1 dX1_lacking_85 (by decide) ?_
          refine g_goto 90 dX1_lacking_86 (by decide) ?_
          exact g_jmp (hj12 _ _) rfl
        · refine g_iload_n 3 dX1_lacking_74 rfl rfl ?_
          refine g_callS_I (mm_J10_bitCount _ _) rfl q659 q600 q125 q601 dd_J10_bitCount rfl (Nat.le_of_ble_eq_true rfl) (Nat.le_of_ble_eq_true rfl) (Nat.le_of_ble_eq_true rfl) dX1_lacking_75 fun x18 σ => ?_
          refine g_iload_n 2 dX1_lacking_78 rfl rfl ?_
          refine g_callS_I (mm_J10_bitCount _ _) rfl q659 q600 q125 q601 dd_J10_bitCount rfl (Nat.le_of_ble_eq_true rfl) (Nat.le_of_ble_eq_true rfl) (Nat.le_of_ble_eq_true rfl) dX1_lacking_79 fun x19 σ => ?_
          refine g_icmp_ge 89 dX1_lacking_82 (by decide) ?_ ?_
          · refine g_iconst 0 dX1_lacking_89 (by decide) ?_
            exact g_jmp (hj12 _ _) rfl
          · refine g_iconst 1 dX1_lacking_85 (by decide) ?_
            refine g_goto 90 dX1_lacking_86 (by decide) ?_
            exact g_jmp (hj12 _ _) rfl
theorem mm_X1_lacking (v0 : Option Nat) (v1 : Int32) (σ : Hp) : MM yX1_lacking mi_X1_lacking rI [vA v0, vI v1] σ (f_X1_lacking v0 v1 σ) := by
  refine mm_of (by decide +kernel) rfl rfl (Nat.le_of_ble_eq_true rfl) ?_
  intro X
  unfold f_X1_lacking
  refine g_iconst 0 dX1_lacking_0 (by decide) ?_
  refine g_istore_n 2 dX1_lacking_1 rfl (lt_b rfl) ?_
  refine g_iconst 1 dX1_lacking_2 (by decide) ?_
  refine g_istore_n 3 dX1_lacking_3 rfl (lt_b rfl) ?_
  refine g_jmp (ok_X1_lacking_b4 X v0 v1 ?_ _ _ _) rfl
  · intro a20 σ
    refine g_iload_n 2 dX1_lacking_118 rfl rfl ?_
    exact g_iret rfl dX1_lacking_119
theorem dd_X1_lacking : yX1_lacking.cls ≠ "java/lang/invoke/MethodHandle" ∧ yX1_lacking.cls ≠ "java/lang/invoke/VarHandle" ∧ (parseMethodDescriptor yX1_lacking.desc).map (fun d => d.parameters.length) = some 1 := by decide +kernel
theorem dv_X1_lacking : yX1_lacking.cls = RX1 ∧ yX1_lacking.cls ≠ "java/lang/invoke/MethodHandle" ∧ yX1_lacking.cls ≠ "java/lang/invoke/VarHandle" ∧ (parseMethodDescriptor yX1_lacking.desc).map (fun d => d.parameters.length) = some 1 := ⟨rfl, dd_X1_lacking⟩
