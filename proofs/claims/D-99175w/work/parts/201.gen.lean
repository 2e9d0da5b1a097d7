set_option maxRecDepth 100000
/-! RockingHorseModel.sign(I)I -/
abbrev mi_X3_sign : Mi := (cX3_sign, 3, "RockingHorseModel", 0, some .int, "sign")
def f_X3_sign_b20 (v0 : Option Nat) (v1 : Int32) (k0 : Unit → Hp → Option (Int32 × Hp)) (ag : Int32 → Hp → Option (Int32 × Hp)) (a : Int32) (σ : Hp) : Option (Int32 × Hp) :=
  if a < 0 then
    k0 () σ
  else
    gR 2 7 σ v0 fun y2 =>
    gI 2 8 σ v0 fun x3 =>
    pI 0 2 8 σ v0 (x3 + 1) fun σ =>
    sB σ y2 x3 (i2b (shr v1 (8 * a))) fun σ =>
    ag (a + (-1)) σ
def f_X3_sign (v0 : Option Nat) (v1 : Int32) (σ : Hp) : Option (Int32 × Hp) :=
  pI 0 2 11 σ v0 0 fun σ =>
  gI 2 8 σ v0 fun x1 =>
  if (x1 + 4) ≤ 80 then
    lp 2000 (f_X3_sign_b20 v0 v1 (fun (a4 : Unit) σ =>
        gI 2 8 σ v0 fun x5 =>
        some (x5, σ))) 3 σ
  else
    some ((-1), σ)
theorem ok_X3_sign_b20 (X : Mx) (v0 : Option Nat) (v1 : Int32) {k0 : Unit → Hp → Option (Int32 × Hp)} (hk0 : ∀ (a : Unit) (σ : Hp), GG X mi_X3_sign (QM X rI) 53 [(0, vA v0)] [] σ (k0 a σ)) : ∀ (m : Nat) (a : Int32) (σ : Hp), GG X mi_X3_sign (QM X rI) 20 [(0, vA v0), (1, vI v1), (2, vI a)] [] σ (lp m (f_X3_sign_b20 v0 v1 k0) a σ) := by
  refine g_lp (fun (a : Int32) => [(0, vA v0), (1, vI v1), (2, vI a)]) ?_
  intro ag hag a σ
  unfold f_X3_sign_b20
  refine g_iload_n 2 dX3_sign_20 rfl rfl ?_
  refine g_if_lt 53 dX3_sign_21 (by decide) ?_ ?_
  · exact g_jmp (hk0 _ _) rfl
  · refine g_aload_n 0 dX3_sign_24 rfl rfl ?_
    refine g_getR fo_2_7 q1063 dX3_sign_25 fun y2 => ?_
    refine g_aload_n 0 dX3_sign_28 rfl rfl ?_
    refine g_dup dX3_sign_29 rfl ?_
    refine g_getI fo_2_8 (by decide) q1064 dX3_sign_30 fun x3 => ?_
    refine g_dup_x1 dX3_sign_33 rfl rfl ?_
    refine g_iconst 1 dX3_sign_34 (by decide) ?_
    refine g_iadd dX3_sign_35 ?_
    refine g_putI fo_2_8 (by decide) rfl q1064 dX3_sign_36 fun σ => ?_
    refine g_iload_n 1 dX3_sign_39 rfl rfl ?_
    refine g_bipush 8 dX3_sign_40 (by decide) ?_
    refine g_iload_n 2 dX3_sign_42 rfl rfl ?_
    refine g_imul dX3_sign_43 ?_
    refine g_ishr dX3_sign_44 ?_
    refine g_i2b dX3_sign_45 ?_
    refine g_bastore dX3_sign_46 fun σ => ?_
    refine g_iinc (-1) dX3_sign_47 (by decide) rfl (lt_b rfl) ?_
    refine g_goto 20 dX3_sign_50 (by decide) ?_
    exact g_jmp (hag _ _) rfl
theorem mm_X3_sign (v0 : Option Nat) (v1 : Int32) (σ : Hp) : MM yX3_sign mi_X3_sign rI [vA v0, vI v1] σ (f_X3_sign v0 v1 σ) := by
  refine mm_of (by decide +kernel) rfl rfl (Nat.le_of_ble_eq_true rfl) ?_
  intro X
  unfold f_X3_sign
  refine g_aload_n 0 dX3_sign_0 rfl rfl ?_
  refine g_iconst 0 dX3_sign_1 (by decide) ?_
  refine g_putI fo_2_11 (by decide) rfl q1067 dX3_sign_2 fun σ => ?_
  refine g_aload_n 0 dX3_sign_5 rfl rfl ?_
  refine g_getI fo_2_8 (by decide) q1064 dX3_sign_6 fun x1 => ?_
  refine g_iconst 4 dX3_sign_9 (by decide) ?_
  refine g_iadd dX3_sign_10 ?_
  refine g_bipush 80 dX3_sign_11 (by decide) ?_
  refine g_icmp_le 18 dX3_sign_13 (by decide) ?_ ?_
  · refine g_iconst 3 dX3_sign_18 (by decide) ?_
    refine g_istore_n 2 dX3_sign_19 rfl (lt_b rfl) ?_
    refine g_jmp (ok_X3_sign_b20 X v0 v1 ?_ _ _ _) rfl
    · intro a4 σ
      refine g_aload_n 0 dX3_sign_53 rfl rfl ?_
      refine g_getI fo_2_8 (by decide) q1064 dX3_sign_54 fun x5 => ?_
      exact g_iret rfl dX3_sign_57
  · refine g_iconst (-1) dX3_sign_16 (by decide) ?_
    exact g_iret rfl dX3_sign_17
theorem dd_X3_sign : yX3_sign.cls ≠ "java/lang/invoke/MethodHandle" ∧ yX3_sign.cls ≠ "java/lang/invoke/VarHandle" ∧ (parseMethodDescriptor yX3_sign.desc).map (fun d => d.parameters.length) = some 1 := by decide +kernel
theorem dv_X3_sign : yX3_sign.cls = RX3 ∧ yX3_sign.cls ≠ "java/lang/invoke/MethodHandle" ∧ yX3_sign.cls ≠ "java/lang/invoke/VarHandle" ∧ (parseMethodDescriptor yX3_sign.desc).map (fun d => d.parameters.length) = some 1 := ⟨rfl, dd_X3_sign⟩
/-! RockingHorseModel.in(III)Z -/
abbrev mi_X3_in : Mi := (cX3_in, 3, "RockingHorseModel", 0, some .boolean, "in")
def f_X3_in (v0 : Int32) (v1 : Int32) (v2 : Int32) (σ : Hp) : Option (Int32 × Hp) :=
  if v0 < v1 then
    rz1 0 σ
  else
    if v2 < v0 then
      rz1 0 σ
    else
      rz1 1 σ
theorem mm_X3_in (v0 : Int32) (v1 : Int32) (v2 : Int32) (σ : Hp) : MM yX3_in mi_X3_in rI [vI v0, vI v1, vI v2] σ (f_X3_in v0 v1 v2 σ) := by
  refine mm_of (by decide +kernel) rfl rfl (Nat.le_of_ble_eq_true rfl) ?_
  intro X
  unfold f_X3_in
  refine g_iload_n 0 dX3_in_0 rfl rfl ?_
  refine g_iload_n 1 dX3_in_1 rfl rfl ?_
  refine g_icmp_lt 14 dX3_in_2 (by decide) ?_ ?_
  · refine g_iconst 0 dX3_in_14 (by decide) ?_
    exact g_zret rfl dX3_in_15
  · refine g_iload_n 0 dX3_in_5 rfl rfl ?_
    refine g_iload_n 2 dX3_in_6 rfl rfl ?_
    refine g_icmp_gt 14 dX3_in_7 (by decide) ?_ ?_
    · refine g_iconst 0 dX3_in_14 (by decide) ?_
      exact g_zret rfl dX3_in_15
    · refine g_iconst 1 dX3_in_10 (by decide) ?_
      refine g_goto 15 dX3_in_11 (by decide) ?_
      exact g_zret rfl dX3_in_15
theorem dd_X3_in : yX3_in.cls ≠ "java/lang/invoke/MethodHandle" ∧ yX3_in.cls ≠ "java/lang/invoke/VarHandle" ∧ (parseMethodDescriptor yX3_in.desc).map (fun d => d.parameters.length) = some 3 := by decide +kernel
/-! RockingHorseModel.begin([BII)V -/
abbrev mi_X3_begin : Mi := (cX3_begin, 4, "RockingHorseModel", 0, none, "begin")
def f_X3_begin (v0 : Option Nat) (v1 : Option Nat) (v2 : Int32) (v3 : Int32) (σ : Hp) : Option (Unit × Hp) :=
  pR 2 12 σ v0 v1 fun σ =>
  pI 0 2 13 σ v0 v2 fun σ =>
  pI 0 2 14 σ v0 v3 fun σ =>
  pI 0 2 15 σ v0 0 fun σ =>
  pI 0 2 16 σ v0 (-1) fun σ =>
  some ((), σ)
theorem mm_X3_begin (v0 : Option Nat) (v1 : Option Nat) (v2 : Int32) (v3 : Int32) (σ : Hp) : MM yX3_begin mi_X3_begin rV [vA v0, vA v1, vI v2, vI v3] σ (f_X3_begin v0 v1 v2 v3 σ) := by
  refine mm_of (by decide +kernel) rfl rfl (Nat.le_of_ble_eq_true rfl) ?_
  intro X
  unfold f_X3_begin
  refine g_aload_n 0 dX3_begin_0 rfl rfl ?_
  refine g_aload_n 1 dX3_begin_1 rfl rfl ?_
  refine g_putR fo_2_12 rfl q1068 dX3_begin_2 fun σ => ?_
  refine g_aload_n 0 dX3_begin_5 rfl rfl ?_
  refine g_iload_n 2 dX3_begin_6 rfl rfl ?_
  refine g_putI fo_2_13 (by decide) rfl q1069 dX3_begin_7 fun σ => ?_
  refine g_aload_n 0 dX3_begin_10 rfl rfl ?_
  refine g_iload_n 3 dX3_begin_11 rfl rfl ?_
  refine g_putI fo_2_14 (by decide) rfl q1070 dX3_begin_12 fun σ => ?_
  refine g_aload_n 0 dX3_begin_15 rfl rfl ?_
  refine g_iconst 0 dX3_begin_16 (by decide) ?_
  refine g_putI fo_2_15 (by decide) rfl q1071 dX3_begin_17 fun σ => ?_
  refine g_aload_n 0 dX3_begin_20 rfl rfl ?_
  refine g_iconst (-1) dX3_begin_21 (by decide) ?_
  refine g_putI fo_2_16 (by decide) rfl q1072 dX3_begin_22 fun σ => ?_
  exact g_vret rfl dX3_begin_25
theorem dd_X3_begin : yX3_begin.cls ≠ "java/lang/invoke/MethodHandle" ∧ yX3_begin.cls ≠ "java/lang/invoke/VarHandle" ∧ (parseMethodDescriptor yX3_begin.desc).map (fun d => d.parameters.length) = some 3 := by decide +kernel
theorem dv_X3_begin : yX3_begin.cls = RX3 ∧ yX3_begin.cls ≠ "java/lang/invoke/MethodHandle" ∧ yX3_begin.cls ≠ "java/lang/invoke/VarHandle" ∧ (parseMethodDescriptor yX3_begin.desc).map (fun d => d.parameters.length) = some 3 := ⟨rfl, dd_X3_begin⟩
/-! RockingHorseModel.fine()Z -/
abbrev mi_X3_fine : Mi := (cX3_fine, 1, "RockingHorseModel", 0, some .boolean, "fine")
def f_X3_fine (v0 : Option Nat) (σ : Hp) : Option (Int32 × Hp) :=
  gI 2 16 σ v0 fun x1 =>
  if x1 = (-1) then
    rz1 1 σ
  else
    rz1 0 σ
theorem mm_X3_fine (v0 : Option Nat) (σ : Hp) : MM yX3_fine mi_X3_fine rI [vA v0] σ (f_X3_fine v0 σ) := by
  refine mm_of (by decide +kernel) rfl rfl (Nat.le_of_ble_eq_true rfl) ?_
  intro X
  unfold f_X3_fine
  refine g_aload_n 0 dX3_fine_0 rfl rfl ?_
  refine g_getI fo_2_16 (by decide) q1072 dX3_fine_1 fun x1 => ?_
  refine g_iconst (-1) dX3_fine_4 (by decide) ?_
  refine g_icmp_ne 12 dX3_fine_5 (by decide) ?_ ?_
  · refine g_iconst 0 dX3_fine_12 (by decide) ?_
    exact g_zret rfl dX3_fine_13
  · refine g_iconst 1 dX3_fine_8 (by decide) ?_
    refine g_goto 13 dX3_fine_9 (by decide) ?_
    exact g_zret rfl dX3_fine_13
theorem dd_X3_fine : yX3_fine.cls ≠ "java/lang/invoke/MethodHandle" ∧ yX3_fine.cls ≠ "java/lang/invoke/VarHandle" ∧ (parseMethodDescriptor yX3_fine.desc).map (fun d => d.parameters.length) = some 0 := by decide +kernel
theorem dv_X3_fine : yX3_fine.cls = RX3 ∧ yX3_fine.cls ≠ "java/lang/invoke/MethodHandle" ∧ yX3_fine.cls ≠ "java/lang/invoke/VarHandle" ∧ (parseMethodDescriptor yX3_fine.desc).map (fun d => d.parameters.length) = some 0 := ⟨rfl, dd_X3_fine⟩
/-! RockingHorseModel.fault(I)V -/
abbrev mi_X3_fault : Mi := (cX3_fault, 2, "RockingHorseModel", 1, none, "fault")
def f_X3_fault (v0 : Option Nat) (v1 : Int32) (σ : Hp) : Option (Unit × Hp) :=
  ob 2 σ v0 fun _ => bnd (f_X3_fine v0 σ) fun x1 σ =>
  if x1 = 0 then
    some ((), σ)
  else
    pI 0 2 16 σ v0 v1 fun σ =>
    some ((), σ)
theorem mm_X3_fault (v0 : Option Nat) (v1 : Int32) (σ : Hp) : MM yX3_fault mi_X3_fault rV [vA v0, vI v1] σ (f_X3_fault v0 v1 σ) := by
  refine mm_of (by decide +kernel) rfl rfl (Nat.le_of_ble_eq_true rfl) ?_
  intro X
  unfold f_X3_fault
  refine g_aload_n 0 dX3_fault_0 rfl rfl ?_
  refine g_callV_I (mm_X3_fine _ _) rfl zc_2 q1238 q1240 qs52 q109 q1241 dv_X3_fine rfl (Nat.le_of_ble_eq_true rfl) (Nat.le_of_ble_eq_true rfl) (Nat.le_of_ble_eq_true rfl) dX3_fault_1 fun x1 σ => ?_
  refine g_if_eq 12 dX3_fault_4 (by decide) ?_ ?_
  · exact g_vret rfl dX3_fault_12
  · refine g_aload_n 0 dX3_fault_7 rfl rfl ?_
    refine g_iload_n 1 dX3_fault_8 rfl rfl ?_
    refine g_putI fo_2_16 (by decide) rfl q1072 dX3_fault_9 fun σ => ?_
    exact g_vret rfl dX3_fault_12
theorem dd_X3_fault : yX3_fault.cls ≠ "java/lang/invoke/MethodHandle" ∧ yX3_fault.cls ≠ "java/lang/invoke/VarHandle" ∧ (parseMethodDescriptor yX3_fault.desc).map (fun d => d.parameters.length) = some 1 := by decide +kernel
theorem dv_X3_fault : yX3_fault.cls = RX3 ∧ yX3_fault.cls ≠ "java/lang/invoke/MethodHandle" ∧ yX3_fault.cls ≠ "java/lang/invoke/VarHandle" ∧ (parseMethodDescriptor yX3_fault.desc).map (fun d => d.parameters.length) = some 1 := ⟨rfl, dd_X3_fault⟩
/-! RockingHorseModel.here()I -/
abbrev mi_X3_here : Mi := (cX3_here, 1, "RockingHorseModel", 0, some .int, "here")
def f_X3_here (v0 : Option Nat) (σ : Hp) : Option (Int32 × Hp) :=
  gI 2 15 σ v0 fun x1 =>
  gI 2 13 σ v0 fun x2 =>
  if x2 ≤ x1 then
    some ((-1), σ)
  else
    gI 2 15 σ v0 fun x3 =>
    gI 2 14 σ v0 fun x4 =>
    if x4 ≤ x3 then
      some ((-1), σ)
    else
      gR 2 12 σ v0 fun y5 =>
      gI 2 15 σ v0 fun x6 =>
      lI 101 σ y5 x6 fun x7 =>
      some ((x7 &&& 255), σ)
theorem mm_X3_here (v0 : Option Nat) (σ : Hp) : MM yX3_here mi_X3_here rI [vA v0] σ (f_X3_here v0 σ) := by
  refine mm_of (by decide +kernel) rfl rfl (Nat.le_of_ble_eq_true rfl) ?_
  intro X
  unfold f_X3_here
  refine g_aload_n 0 dX3_here_0 rfl rfl ?_
  refine g_getI fo_2_15 (by decide) q1071 dX3_here_1 fun x1 => ?_
  refine g_aload_n 0 dX3_here_4 rfl rfl ?_
  refine g_getI fo_2_13 (by decide) q1069 dX3_here_5 fun x2 => ?_
  refine g_icmp_ge 38 dX3_here_8 (by decide) ?_ ?_
  · refine g_iconst (-1) dX3_here_38 (by decide) ?_
    exact g_iret rfl dX3_here_39
  · refine g_aload_n 0 dX3_here_11 rfl rfl ?_
    refine g_getI fo_2_15 (by decide) q1071 dX3_here_12 fun x3 => ?_
    refine g_aload_n 0 dX3_here_15 rfl rfl ?_
    refine g_getI fo_2_14 (by decide) q1070 dX3_here_16 fun x4 => ?_
    refine g_icmp_ge 38 dX3_here_19 (by decide) ?_ ?_
    · refine g_iconst (-1) dX3_here_38 (by decide) ?_
      exact g_iret rfl dX3_here_39
    · refine g_aload_n 0 dX3_here_22 rfl rfl ?_
      refine g_getR fo_2_12 q1068 dX3_here_23 fun y5 => ?_
      refine g_aload_n 0 dX3_here_26 rfl rfl ?_
      refine g_getI fo_2_15 (by decide) q1071 dX3_here_27 fun x6 => ?_
      refine g_baload dX3_here_30 fun x7 => ?_
      refine g_sipush 255 dX3_here_31 (by decide) ?_
      refine g_iand dX3_here_34 ?_
      refine g_goto 39 dX3_here_35 (by decide) ?_
      exact g_iret rfl dX3_here_39
theorem dd_X3_here : yX3_here.cls ≠ "java/lang/invoke/MethodHandle" ∧ yX3_here.cls ≠ "java/lang/invoke/VarHandle" ∧ (parseMethodDescriptor yX3_here.desc).map (fun d => d.parameters.length) = some 0 := by decide +kernel
theorem dv_X3_here : yX3_here.cls = RX3 ∧ yX3_here.cls ≠ "java/lang/invoke/MethodHandle" ∧ yX3_here.cls ≠ "java/lang/invoke/VarHandle" ∧ (parseMethodDescriptor yX3_here.desc).map (fun d => d.parameters.length) = some 0 := ⟨rfl, dd_X3_here⟩
/-! RockingHorseModel.passes(C)Z -/
abbrev mi_X3_passes : Mi := (cX3_passes, 2, "RockingHorseModel", 1, some .boolean, "passes")
def f_X3_passes (v0 : Option Nat) (v1 : Int32) (σ : Hp) : Option (Int32 × Hp) :=
  ob 2 σ v0 fun _ => bnd (f_X3_fine v0 σ) fun x1 σ =>
  if x1 = 0 then
    rz1 0 σ
  else
    ob 2 σ v0 fun _ => bnd (f_X3_here v0 σ) fun x2 σ =>
    if x2 = v1 then
      gI 2 15 σ v0 fun x3 =>
      pI 0 2 15 σ v0 (x3 + 1) fun σ =>
      rz1 1 σ
    else
      rz1 0 σ
theorem mm_X3_passes (v0 : Option Nat) (v1 : Int32) (σ : Hp) : MM yX3_passes mi_X3_passes rI [vA v0, vI v1] σ (f_X3_passes v0 v1 σ) := by
  refine mm_of (by decide +kernel) rfl rfl (Nat.le_of_ble_eq_true rfl) ?_
  intro X
  unfold f_X3_passes
  refine g_aload_n 0 dX3_passes_0 rfl rfl ?_
  refine g_callV_I (mm_X3_fine _ _) rfl zc_2 q1238 q1240 qs52 q109 q1241 dv_X3_fine rfl (Nat.le_of_ble_eq_true rfl) (Nat.le_of_ble_eq_true rfl) (Nat.le_of_ble_eq_true rfl) dX3_passes_1 fun x1 σ => ?_
  refine g_if_eq 15 dX3_passes_4 (by decide) ?_ ?_
  · refine g_iconst 0 dX3_passes_15 (by decide) ?_
    exact g_zret rfl dX3_passes_16
  · refine g_aload_n 0 dX3_passes_7 rfl rfl ?_
    refine g_callV_I (mm_X3_here _ _) rfl zc_2 q1254 q1256 qs56 q109 q1257 dv_X3_here rfl (Nat.le_of_ble_eq_true rfl) (Nat.le_of_ble_eq_true rfl) (Nat.le_of_ble_eq_true rfl) dX3_passes_8 fun x2 σ => ?_
    refine g_iload_n 1 dX3_passes_11 rfl rfl ?_
    refine g_icmp_eq 17 dX3_passes_12 (by decide) ?_ ?_
    · refine g_aload_n 0 dX3_passes_17 rfl rfl ?_
      refine g_dup dX3_passes_18 rfl ?_
      refine g_getI fo_2_15 (by decide) q1071 dX3_passes_19 fun x3 => ?_
      refine g_iconst 1 dX3_passes_22 (by decide) ?_
      refine g_iadd dX3_passes_23 ?_
      refine g_putI fo_2_15 (by decide) rfl q1071 dX3_passes_24 fun σ => ?_
      refine g_iconst 1 dX3_passes_27 (by decide) ?_
      exact g_zret rfl dX3_passes_28
    · refine g_iconst 0 dX3_passes_15 (by decide) ?_
      exact g_zret rfl dX3_passes_16
theorem dd_X3_passes : yX3_passes.cls ≠ "java/lang/invoke/MethodHandle" ∧ yX3_passes.cls ≠ "java/lang/invoke/VarHandle" ∧ (parseMethodDescriptor yX3_passes.desc).map (fun d => d.parameters.length) = some 1 := by decide +kernel
theorem dv_X3_passes : yX3_passes.cls = RX3 ∧ yX3_passes.cls ≠ "java/lang/invoke/MethodHandle" ∧ yX3_passes.cls ≠ "java/lang/invoke/VarHandle" ∧ (parseMethodDescriptor yX3_passes.desc).map (fun d => d.parameters.length) = some 1 := ⟨rfl, dd_X3_passes⟩
/-! RockingHorseModel.wasRight()Z -/
abbrev mi_X3_wasRight : Mi := (cX3_wasRight, 1, "RockingHorseModel", 2, some .boolean, "wasRight")
def f_X3_wasRight (v0 : Option Nat) (σ : Hp) : Option (Int32 × Hp) :=
  gI 2 15 σ v0 fun x1 =>
  gI 2 13 σ v0 fun x2 =>
  jn (fun (a3 : Unit) σ =>
      ob 2 σ v0 fun _ => bnd (f_X3_fine v0 σ) fun x5 σ =>
      rz1 x5 σ) fun j4 =>
  if x2 ≤ x1 then
    j4 () σ
  else
    gI 2 15 σ v0 fun x6 =>
    ob 2 σ v0 fun _ => bnd (f_X3_fault v0 x6 σ) fun _ σ =>
    j4 () σ
theorem mm_X3_wasRight (v0 : Option Nat) (σ : Hp) : MM yX3_wasRight mi_X3_wasRight rI [vA v0] σ (f_X3_wasRight v0 σ) := by
  refine mm_of (by decide +kernel) rfl rfl (Nat.le_of_ble_eq_true rfl) ?_
  intro X
  unfold f_X3_wasRight
  refine g_aload_n 0 dX3_wasRight_0 rfl rfl ?_
  refine g_getI fo_2_15 (by decide) q1071 dX3_wasRight_1 fun x1 => ?_
  refine g_aload_n 0 dX3_wasRight_4 rfl rfl ?_
  refine g_getI fo_2_13 (by decide) q1069 dX3_wasRight_5 fun x2 => ?_
  refine g_jn (fun j4 => ∀ (a3 : Unit) (σ : Hp), GG X mi_X3_wasRight (QM X rI) 19 [(0, vA v0)] [] σ (j4 a3 σ)) ?_ ?_
  · intro a3 σ
    refine g_aload_n 0 dX3_wasRight_19 rfl rfl ?_
    refine g_callV_I (mm_X3_fine _ _) rfl zc_2 q1238 q1240 qs52 q109 q1241 dv_X3_fine rfl (Nat.le_of_ble_eq_true rfl) (Nat.le_of_ble_eq_true rfl) (Nat.le_of_ble_eq_true rfl) dX3_wasRight_20 fun x5 σ => ?_
    exact g_zret rfl dX3_wasRight_23
  · intro j4 hj4
    refine g_icmp_ge 19 dX3_wasRight_8 (by decide) ?_ ?_
    · exact g_jmp (hj4 _ _) rfl
    · refine g_aload_n 0 dX3_wasRight_11 rfl rfl ?_
      refine g_aload_n 0 dX3_wasRight_12 rfl rfl ?_
      refine g_getI fo_2_15 (by decide) q1071 dX3_wasRight_13 fun x6 => ?_
      refine g_callV_V (mm_X3_fault _ _ _) rfl zc_2 q1242 q1244 qs53 q109 q1245 dv_X3_fault rfl (Nat.le_of_ble_eq_true rfl) (Nat.le_of_ble_eq_true rfl) (Nat.le_of_ble_eq_true rfl) dX3_wasRight_16 fun _ σ => ?_
      exact g_jmp (hj4 _ _) rfl
theorem dd_X3_wasRight : yX3_wasRight.cls ≠ "java/lang/invoke/MethodHandle" ∧ yX3_wasRight.cls ≠ "java/lang/invoke/VarHandle" ∧ (parseMethodDescriptor yX3_wasRight.desc).map (fun d => d.parameters.length) = some 0 := by decide +kernel
theorem dv_X3_wasRight : yX3_wasRight.cls = RX3 ∧ yX3_wasRight.cls ≠ "java/lang/invoke/MethodHandle" ∧ yX3_wasRight.cls ≠ "java/lang/invoke/VarHandle" ∧ (parseMethodDescriptor yX3_wasRight.desc).map (fun d => d.parameters.length) = some 0 := ⟨rfl, dd_X3_wasRight⟩
/-! RockingHorseModel.need(C)V -/
abbrev mi_X3_need : Mi := (cX3_need, 2, "RockingHorseModel", 2, none, "need")
def f_X3_need (v0 : Option Nat) (v1 : Int32) (σ : Hp) : Option (Unit × Hp) :=
  ob 2 σ v0 fun _ => bnd (f_X3_passes v0 v1 σ) fun x1 σ =>
  if x1 = 0 then
    gI 2 15 σ v0 fun x2 =>
    ob 2 σ v0 fun _ => bnd (f_X3_fault v0 x2 σ) fun _ σ =>
    some ((), σ)
  else
    some ((), σ)
theorem mm_X3_need (v0 : Option Nat) (v1 : Int32) (σ : Hp) : MM yX3_need mi_X3_need rV [vA v0, vI v1] σ (f_X3_need v0 v1 σ) := by
  refine mm_of (by decide +kernel) rfl rfl (Nat.le_of_ble_eq_true rfl) ?_
  intro X
  unfold f_X3_need
  refine g_aload_n 0 dX3_need_0 rfl rfl ?_
  refine g_iload_n 1 dX3_need_1 rfl rfl ?_
  refine g_callV_I (mm_X3_passes _ _ _) rfl zc_2 q1258 q1260 qs57 q109 q1261 dv_X3_passes rfl (Nat.le_of_ble_eq_true rfl) (Nat.le_of_ble_eq_true rfl) (Nat.le_of_ble_eq_true rfl) dX3_need_2 fun x1 σ => ?_
  refine g_if_ne 16 dX3_need_5 (by decide) ?_ ?_
  · exact g_vret rfl dX3_need_16
  · refine g_aload_n 0 dX3_need_8 rfl rfl ?_
    refine g_aload_n 0 dX3_need_9 rfl rfl ?_
    refine g_getI fo_2_15 (by decide) q1071 dX3_need_10 fun x2 => ?_
    refine g_callV_V (mm_X3_fault _ _ _) rfl zc_2 q1242 q1244 qs53 q109 q1245 dv_X3_fault rfl (Nat.le_of_ble_eq_true rfl) (Nat.le_of_ble_eq_true rfl) (Nat.le_of_ble_eq_true rfl) dX3_need_13 fun _ σ => ?_
    exact g_vret rfl dX3_need_16
theorem dd_X3_need : yX3_need.cls ≠ "java/lang/invoke/MethodHandle" ∧ yX3_need.cls ≠ "java/lang/invoke/VarHandle" ∧ (parseMethodDescriptor yX3_need.desc).map (fun d => d.parameters.length) = some 1 := by decide +kernel
theorem dv_X3_need : yX3_need.cls = RX3 ∧ yX3_need.cls ≠ "java/lang/invoke/MethodHandle" ∧ yX3_need.cls ≠ "java/lang/invoke/VarHandle" ∧ (parseMethodDescriptor yX3_need.desc).map (fun d => d.parameters.length) = some 1 := ⟨rfl, dd_X3_need⟩
/-! RockingHorseModel.letterOf(I)I -/
abbrev mi_X3_letterOf : Mi := (cX3_letterOf, 1, "RockingHorseModel", 0, some .int, "letterOf")
def f_X3_letterOf (v0 : Int32) (σ : Hp) : Option (Int32 × Hp) :=
  if v0 = 104 then
    some (0, σ)
  else
    if v0 = 116 then
      some (1, σ)
    else
      if v0 = 119 then
        some (2, σ)
      else
        if v0 = 109 then
          some (3, σ)
        else
          if v0 = 105 then
            some (4, σ)
          else
            if v0 = 110 then
              some (5, σ)
            else
              if v0 = 99 then
                some (6, σ)
              else
                some ((-1), σ)
theorem mm_X3_letterOf (v0 : Int32) (σ : Hp) : MM yX3_letterOf mi_X3_letterOf rI [vI v0] σ (f_X3_letterOf v0 σ) := by
  refine mm_of (by decide +kernel) rfl rfl (Nat.le_of_ble_eq_true rfl) ?_
  intro X
  unfold f_X3_letterOf
  refine g_iload_n 0 dX3_letterOf_0 rfl rfl ?_
  refine g_bipush 104 dX3_letterOf_1 (by decide) ?_
  refine g_icmp_ne 10 dX3_letterOf_3 (by decide) ?_ ?_
  · refine g_iload_n 0 dX3_letterOf_10 rfl rfl ?_
    refine g_bipush 116 dX3_letterOf_11 (by decide) ?_
    refine g_icmp_ne 20 dX3_letterOf_13 (by decide) ?_ ?_
    · refine g_iload_n 0 dX3_letterOf_20 rfl rfl ?_
      refine g_bipush 119 dX3_letterOf_21 (by decide) ?_
      refine g_icmp_ne 30 dX3_letterOf_23 (by decide) ?_ ?_
      · refine g_iload_n 0 dX3_letterOf_30 rfl rfl ?_
        refine g_bipush 109 dX3_letterOf_31 (by decide) ?_
        refine g_icmp_ne 40 dX3_letterOf_33 (by decide) ?_ ?_
        · refine g_iload_n 0 dX3_letterOf_40 rfl rfl ?_
          refine g_bipush 105 dX3_letterOf_41 (by decide) ?_
          refine g_icmp_ne 50 dX3_letterOf_43 (by decide) ?_ ?_
          · refine g_iload_n 0 dX3_letterOf_50 rfl rfl ?_
            refine g_bipush 110 dX3_letterOf_51 (by decide) ?_
            refine g_icmp_ne 60 dX3_letterOf_53 (by decide) ?_ ?_
            · refine g_iload_n 0 dX3_letterOf_60 rfl rfl ?_
              refine g_bipush 99 dX3_letterOf_61 (by decide) ?_
              refine g_icmp_ne 71 dX3_letterOf_63 (by decide) ?_ ?_
              · refine g_iconst (-1) dX3_letterOf_71 (by decide) ?_
                exact g_iret rfl dX3_letterOf_72
              · refine g_bipush 6 dX3_letterOf_66 (by decide) ?_
                refine g_goto 72 dX3_letterOf_68 (by decide) ?_
                exact g_iret rfl dX3_letterOf_72
            · refine g_iconst 5 dX3_letterOf_56 (by decide) ?_
              refine g_goto 72 dX3_letterOf_57 (by decide) ?_
              exact g_iret rfl dX3_letterOf_72
          · refine g_iconst 4 dX3_letterOf_46 (by decide) ?_
            refine g_goto 72 dX3_letterOf_47 (by decide) ?_
            exact g_iret rfl dX3_letterOf_72
        · refine g_iconst 3 dX3_letterOf_36 (by decide) ?_
          refine g_goto 72 dX3_letterOf_37 (by decide) ?_
          exact g_iret rfl dX3_letterOf_72
      · refine g_iconst 2 dX3_letterOf_26 (by decide) ?_
        refine g_goto 72 dX3_letterOf_27 (by decide) ?_
        exact g_iret rfl dX3_letterOf_72
    · refine g_iconst 1 dX3_letterOf_16 (by decide) ?_
      refine g_goto 72 dX3_letterOf_17 (by decide) ?_
      exact g_iret rfl dX3_letterOf_72
  · refine g_iconst 0 dX3_letterOf_6 (by decide) ?_
    refine g_goto 72 dX3_letterOf_7 (by decide) ?_
    exact g_iret rfl dX3_letterOf_72
theorem dd_X3_letterOf : yX3_letterOf.cls ≠ "java/lang/invoke/MethodHandle" ∧ yX3_letterOf.cls ≠ "java/lang/invoke/VarHandle" ∧ (parseMethodDescriptor yX3_letterOf.desc).map (fun d => d.parameters.length) = some 1 := by decide +kernel
/-! RockingHorseModel.isMan(I)Z -/
abbrev mi_X3_isMan : Mi := (cX3_isMan, 2, "RockingHorseModel", 1, some .boolean, "isMan")
def f_X3_isMan (v0 : Option Nat) (v1 : Int32) (σ : Hp) : Option (Int32 × Hp) :=
  gI 2 3 σ v0 fun x1 =>
  bnd (f_X3_in v1 0 (x1 - 1) σ) fun x2 σ =>
  rz1 x2 σ
theorem mm_X3_isMan (v0 : Option Nat) (v1 : Int32) (σ : Hp) : MM yX3_isMan mi_X3_isMan rI [vA v0, vI v1] σ (f_X3_isMan v0 v1 σ) := by
  refine mm_of (by decide +kernel) rfl rfl (Nat.le_of_ble_eq_true rfl) ?_
  intro X
  unfold f_X3_isMan
  refine g_iload_n 1 dX3_isMan_0 rfl rfl ?_
  refine g_iconst 0 dX3_isMan_1 (by decide) ?_
  refine g_aload_n 0 dX3_isMan_2 rfl rfl ?_
  refine g_getI fo_2_3 (by decide) q1059 dX3_isMan_3 fun x1 => ?_
  refine g_iconst 1 dX3_isMan_6 (by decide) ?_
  refine g_isub dX3_isMan_7 ?_
  refine g_callS_I (mm_X3_in _ _ _ _) rfl q1223 q1224 q109 q1225 dd_X3_in rfl (Nat.le_of_ble_eq_true rfl) (Nat.le_of_ble_eq_true rfl) (Nat.le_of_ble_eq_true rfl) dX3_isMan_8 fun x2 σ => ?_
  exact g_zret rfl dX3_isMan_11
theorem dd_X3_isMan : yX3_isMan.cls ≠ "java/lang/invoke/MethodHandle" ∧ yX3_isMan.cls ≠ "java/lang/invoke/VarHandle" ∧ (parseMethodDescriptor yX3_isMan.desc).map (fun d => d.parameters.length) = some 1 := by decide +kernel
theorem dv_X3_isMan : yX3_isMan.cls = RX3 ∧ yX3_isMan.cls ≠ "java/lang/invoke/MethodHandle" ∧ yX3_isMan.cls ≠ "java/lang/invoke/VarHandle" ∧ (parseMethodDescriptor yX3_isMan.desc).map (fun d => d.parameters.length) = some 1 := ⟨rfl, dd_X3_isMan⟩
/-! RockingHorseModel.lost()I -/
abbrev mi_X3_lost : Mi := (cX3_lost, 1, "RockingHorseModel", 0, some .int, "lost")
def f_X3_lost (v0 : Option Nat) (σ : Hp) : Option (Int32 × Hp) :=
  pI 0 2 11 σ v0 1 fun σ =>
  some (0, σ)
theorem mm_X3_lost (v0 : Option Nat) (σ : Hp) : MM yX3_lost mi_X3_lost rI [vA v0] σ (f_X3_lost v0 σ) := by
  refine mm_of (by decide +kernel) rfl rfl (Nat.le_of_ble_eq_true rfl) ?_
  intro X
  unfold f_X3_lost
  refine g_aload_n 0 dX3_lost_0 rfl rfl ?_
  refine g_iconst 1 dX3_lost_1 (by decide) ?_
  refine g_putI fo_2_11 (by decide) rfl q1067 dX3_lost_2 fun σ => ?_
  refine g_iconst 0 dX3_lost_5 (by decide) ?_
  exact g_iret rfl dX3_lost_6
theorem dd_X3_lost : yX3_lost.cls ≠ "java/lang/invoke/MethodHandle" ∧ yX3_lost.cls ≠ "java/lang/invoke/VarHandle" ∧ (parseMethodDescriptor yX3_lost.desc).map (fun d => d.parameters.length) = some 0 := by decide +kernel
theorem dv_X3_lost : yX3_lost.cls = RX3 ∧ yX3_lost.cls ≠ "java/lang/invoke/MethodHandle" ∧ yX3_lost.cls ≠ "java/lang/invoke/VarHandle" ∧ (parseMethodDescriptor yX3_lost.desc).map (fun d => d.parameters.length) = some 0 := ⟨rfl, dd_X3_lost⟩
/-! RockingHorseModel.hoursOf([II)I -/
abbrev mi_X3_hoursOf : Mi := (cX3_hoursOf, 5, "RockingHorseModel", 0, some .int, "hoursOf")
def f_X3_hoursOf_b5 (v1 : Option Nat) (v2 : Int32) (k0 : Int32 → Hp → Option (Int32 × Hp)) (ag : (Int32 × Int32) → Hp → Option (Int32 × Hp)) (a : Int32 × Int32) (σ : Hp) : Option (Int32 × Hp) :=
  if 8 ≤ a.2 then
    k0 a.1 σ
  else
    lI 100 σ v1 a.2 fun x1 =>
    jn (fun (a2 : Int32) σ =>
        ag ((a.1 ||| a2), (a.2 + 1)) σ) fun j3 =>
    if x1 = v2 then
      j3 (shl 1 a.2) σ
    else
      j3 0 σ
def f_X3_hoursOf (v0 : Option Nat) (v1 : Option Nat) (v2 : Int32) (σ : Hp) : Option (Int32 × Hp) :=
  lp 2000 (f_X3_hoursOf_b5 v1 v2 (fun (a4 : Int32) σ =>
      some (a4, σ))) (0, 0) σ
theorem ok_X3_hoursOf_b5 (X : Mx) (v1 : Option Nat) (v2 : Int32) {k0 : Int32 → Hp → Option (Int32 × Hp)} (hk0 : ∀ (a : Int32) (σ : Hp), GG X mi_X3_hoursOf (QM X rI) 37 [(3, vI a)] [] σ (k0 a σ)) : ∀ (m : Nat) (a : Int32 × Int32) (σ : Hp), GG X mi_X3_hoursOf (QM X rI) 5 [(1, vA v1), (2, vI v2), (3, vI a.1), (4, vI a.2)] [] σ (lp m (f_X3_hoursOf_b5 v1 v2 k0) a σ) := by
  refine g_lp (fun (a : Int32 × Int32) => [(1, vA v1), (2, vI v2), (3, vI a.1), (4, vI a.2)]) ?_
  intro ag hag a σ
  unfold f_X3_hoursOf_b5
  refine g_iload dX3_hoursOf_5 rfl ?_
  refine g_bipush 8 dX3_hoursOf_7 (by decide) ?_
  refine g_icmp_ge 37 dX3_hoursOf_9 (by decide) ?_ ?_
  · exact g_jmp (hk0 _ _) rfl
  · refine g_iload_n 3 dX3_hoursOf_12 rfl rfl ?_
    refine g_aload_n 1 dX3_hoursOf_13 rfl rfl ?_
    refine g_iload dX3_hoursOf_14 rfl ?_
    refine g_iaload dX3_hoursOf_16 fun x1 => ?_
    refine g_iload_n 2 dX3_hoursOf_17 rfl rfl ?_
    refine g_jn (fun j3 => ∀ (a2 : Int32) (σ : Hp), GG X mi_X3_hoursOf (QM X rI) 29 [(1, vA v1), (2, vI v2), (4, vI a.2)] [vI a2, vI a.1] σ (j3 a2 σ)) ?_ ?_
    · intro a2 σ
      refine g_ior dX3_hoursOf_29 ?_
      refine g_istore_n 3 dX3_hoursOf_30 rfl (lt_b rfl) ?_
      refine g_iinc 1 dX3_hoursOf_31 (by decide) rfl (lt_b rfl) ?_
      refine g_goto 5 dX3_hoursOf_34 (by decide) ?_
      exact g_jmp (hag _ _) rfl
    · intro j3 hj3
      refine g_icmp_ne 28 dX3_hoursOf_18 (by decide) ?_ ?_
      · refine g_iconst 0 dX3_hoursOf_28 (by decide) ?_
        exact g_jmp (hj3 _ _) rfl
      · refine g_iconst 1 dX3_hoursOf_21 (by decide) ?_
        refine g_iload dX3_hoursOf_22 rfl ?_
        refine g_ishl dX3_hoursOf_24 ?_
        refine g_goto 29 dX3_hoursOf_25 (by decide) ?_
        exact g_jmp (hj3 _ _) rfl
theorem mm_X3_hoursOf (v0 : Option Nat) (v1 : Option Nat) (v2 : Int32) (σ : Hp) : MM yX3_hoursOf mi_X3_hoursOf rI [vA v0, vA v1, vI v2] σ (f_X3_hoursOf v0 v1 v2 σ) := by
  refine mm_of (by decide +kernel) rfl rfl (Nat.le_of_ble_eq_true rfl) ?_
  intro X
  unfold f_X3_hoursOf
  refine g_iconst 0 dX3_hoursOf_0 (by decide) ?_
  refine g_istore_n 3 dX3_hoursOf_1 rfl (lt_b rfl) ?_
  refine g_iconst 0 dX3_hoursOf_2 (by decide) ?_
  refine g_istore dX3_hoursOf_3 (lt_b rfl) ?_
  refine g_jmp (ok_X3_hoursOf_b5 X v1 v2 ?_ _ _ _) rfl
  · intro a4 σ
    refine g_iload_n 3 dX3_hoursOf_37 rfl rfl ?_
    exact g_iret rfl dX3_hoursOf_38
theorem dd_X3_hoursOf : yX3_hoursOf.cls ≠ "java/lang/invoke/MethodHandle" ∧ yX3_hoursOf.cls ≠ "java/lang/invoke/VarHandle" ∧ (parseMethodDescriptor yX3_hoursOf.desc).map (fun d => d.parameters.length) = some 2 := by decide +kernel
theorem dv_X3_hoursOf : yX3_hoursOf.cls = RX3 ∧ yX3_hoursOf.cls ≠ "java/lang/invoke/MethodHandle" ∧ yX3_hoursOf.cls ≠ "java/lang/invoke/VarHandle" ∧ (parseMethodDescriptor yX3_hoursOf.desc).map (fun d => d.parameters.length) = some 2 := ⟨rfl, dd_X3_hoursOf⟩
/-! RockingHorseModel.isHour(I)Z -/
abbrev mi_X3_isHour : Mi := (cX3_isHour, 1, "RockingHorseModel", 1, some .boolean, "isHour")
def f_X3_isHour (v0 : Int32) (σ : Hp) : Option (Int32 × Hp) :=
  bnd (f_X3_in v0 0 7 σ) fun x1 σ =>
  rz1 x1 σ
theorem mm_X3_isHour (v0 : Int32) (σ : Hp) : MM yX3_isHour mi_X3_isHour rI [vI v0] σ (f_X3_isHour v0 σ) := by
  refine mm_of (by decide +kernel) rfl rfl (Nat.le_of_ble_eq_true rfl) ?_
  intro X
  unfold f_X3_isHour
  refine g_iload_n 0 dX3_isHour_0 rfl rfl ?_
  refine g_iconst 0 dX3_isHour_1 (by decide) ?_
  refine g_bipush 7 dX3_isHour_2 (by decide) ?_
  refine g_callS_I (mm_X3_in _ _ _ _) rfl q1223 q1224 q109 q1225 dd_X3_in rfl (Nat.le_of_ble_eq_true rfl) (Nat.le_of_ble_eq_true rfl) (Nat.le_of_ble_eq_true rfl) dX3_isHour_4 fun x1 σ => ?_
  exact g_zret rfl dX3_isHour_7
theorem dd_X3_isHour : yX3_isHour.cls ≠ "java/lang/invoke/MethodHandle" ∧ yX3_isHour.cls ≠ "java/lang/invoke/VarHandle" ∧ (parseMethodDescriptor yX3_isHour.desc).map (fun d => d.parameters.length) = some 1 := by decide +kernel
/-! RockingHorseModel.set(II)I -/
abbrev mi_X3_set : Mi := (cX3_set, 4, "RockingHorseModel", 1, some .int, "set")
def f_X3_set (v0 : Option Nat) (v1 : Int32) (v2 : Int32) (σ : Hp) : Option (Int32 × Hp) :=
  pI 0 2 11 σ v0 0 fun σ =>
  jn (fun (a1 : Unit) σ =>
      jn (fun (a3 : Int32) σ =>
          jn (fun (a5 : Unit) σ =>
              some (a3, σ)) fun j6 =>
          if v1 = 0 then
            pI 0 2 1 σ v0 v2 fun σ =>
            j6 () σ
          else
            pI 0 2 2 σ v0 v2 fun σ =>
            j6 () σ) fun j4 =>
      if v1 = 0 then
        gI 2 1 σ v0 fun x8 =>
        j4 x8 σ
      else
        gI 2 2 σ v0 fun x7 =>
        j4 x7 σ) fun j2 =>
  if v1 = 0 then
    bnd (f_X3_in v2 1 8 σ) fun x10 σ =>
    if x10 = 0 then
      some ((-1), σ)
    else
      j2 () σ
  else
    if v1 = 1 then
      bnd (f_X3_in v2 0 9 σ) fun x9 σ =>
      if x9 = 0 then
        some ((-1), σ)
      else
        j2 () σ
    else
      some ((-1), σ)
theorem mm_X3_set (v0 : Option Nat) (v1 : Int32) (v2 : Int32) (σ : Hp) : MM yX3_set mi_X3_set rI [vA v0, vI v1, vI v2] σ (f_X3_set v0 v1 v2 σ) := by
  refine mm_of (by decide +kernel) rfl rfl (Nat.le_of_ble_eq_true rfl) ?_
  intro X
  unfold f_X3_set
  refine g_aload_n 0 dX3_set_0 rfl rfl ?_
  refine g_iconst 0 dX3_set_1 (by decide) ?_
  refine g_putI fo_2_11 (by decide) rfl q1067 dX3_set_2 fun σ => ?_
  refine g_iload_n 1 dX3_set_5 rfl rfl ?_
  refine g_jn (fun j2 => ∀ (a1 : Unit) (σ : Hp), GG X mi_X3_set (QM X rI) 39 [(0, vA v0), (1, vI v1), (2, vI v2)] [] σ (j2 a1 σ)) ?_ ?_
  · intro a1 σ
    refine g_iload_n 1 dX3_set_39 rfl rfl ?_
    refine g_jn (fun j4 => ∀ (a3 : Int32) (σ : Hp), GG X mi_X3_set (QM X rI) 54 [(0, vA v0), (1, vI v1), (2, vI v2)] [vI a3] σ (j4 a3 σ)) ?_ ?_
    · intro a3 σ
      refine g_istore_n 3 dX3_set_54 rfl (lt_b rfl) ?_
      refine g_iload_n 1 dX3_set_55 rfl rfl ?_
      refine g_jn (fun j6 => ∀ (a5 : Unit) (σ : Hp), GG X mi_X3_set (QM X rI) 72 [(3, vI a3)] [] σ (j6 a5 σ)) ?_ ?_
      · intro a5 σ
        refine g_iload_n 3 dX3_set_72 rfl rfl ?_
        exact g_iret rfl dX3_set_73
      · intro j6 hj6
        refine g_if_ne 67 dX3_set_56 (by decide) ?_ ?_
        · refine g_aload_n 0 dX3_set_67 rfl rfl ?_
          refine g_iload_n 2 dX3_set_68 rfl rfl ?_
          refine g_putI fo_2_2 (by decide) rfl q1058 dX3_set_69 fun σ => ?_
          exact g_jmp (hj6 _ _) rfl
        · refine g_aload_n 0 dX3_set_59 rfl rfl ?_
          refine g_iload_n 2 dX3_set_60 rfl rfl ?_
          refine g_putI fo_2_1 (by decide) rfl q1057 dX3_set_61 fun σ => ?_
          refine g_goto 72 dX3_set_64 (by decide) ?_
          exact g_jmp (hj6 _ _) rfl
    · intro j4 hj4
      refine g_if_ne 50 dX3_set_40 (by decide) ?_ ?_
      · refine g_aload_n 0 dX3_set_50 rfl rfl ?_
        refine g_getI fo_2_2 (by decide) q1058 dX3_set_51 fun x7 => ?_
        exact g_jmp (hj4 _ _) rfl
      · refine g_aload_n 0 dX3_set_43 rfl rfl ?_
        refine g_getI fo_2_1 (by decide) q1057 dX3_set_44 fun x8 => ?_
        refine g_goto 54 dX3_set_47 (by decide) ?_
        exact g_jmp (hj4 _ _) rfl
  · intro j2 hj2
    refine g_if_ne 22 dX3_set_6 (by decide) ?_ ?_
    · refine g_iload_n 1 dX3_set_22 rfl rfl ?_
      refine g_iconst 1 dX3_set_23 (by decide) ?_
      refine g_icmp_ne 37 dX3_set_24 (by decide) ?_ ?_
      · refine g_iconst (-1) dX3_set_37 (by decide) ?_
        exact g_iret rfl dX3_set_38
      · refine g_iload_n 2 dX3_set_27 rfl rfl ?_
        refine g_iconst 0 dX3_set_28 (by decide) ?_
        refine g_bipush 9 dX3_set_29 (by decide) ?_
        refine g_callS_I (mm_X3_in _ _ _ _) rfl q1223 q1224 q109 q1225 dd_X3_in rfl (Nat.le_of_ble_eq_true rfl) (Nat.le_of_ble_eq_true rfl) (Nat.le_of_ble_eq_true rfl) dX3_set_31 fun x9 σ => ?_
        refine g_if_ne 39 dX3_set_34 (by decide) ?_ ?_
        · exact g_jmp (hj2 _ _) rfl
        · refine g_iconst (-1) dX3_set_37 (by decide) ?_
          exact g_iret rfl dX3_set_38
    · refine g_iload_n 2 dX3_set_9 rfl rfl ?_
      refine g_iconst 1 dX3_set_10 (by decide) ?_
      refine g_bipush 8 dX3_set_11 (by decide) ?_
      refine g_callS_I (mm_X3_in _ _ _ _) rfl q1223 q1224 q109 q1225 dd_X3_in rfl (Nat.le_of_ble_eq_true rfl) (Nat.le_of_ble_eq_true rfl) (Nat.le_of_ble_eq_true rfl) dX3_set_13 fun x10 σ => ?_
      refine g_if_ne 39 dX3_set_16 (by decide) ?_ ?_
      · exact g_jmp (hj2 _ _) rfl
      · refine g_goto 37 dX3_set_19 (by decide) ?_
        refine g_iconst (-1) dX3_set_37 (by decide) ?_
        exact g_iret rfl dX3_set_38
theorem dd_X3_set : yX3_set.cls ≠ "java/lang/invoke/MethodHandle" ∧ yX3_set.cls ≠ "java/lang/invoke/VarHandle" ∧ (parseMethodDescriptor yX3_set.desc).map (fun d => d.parameters.length) = some 2 := by decide +kernel
theorem dv_X3_set : yX3_set.cls = RX3 ∧ yX3_set.cls ≠ "java/lang/invoke/MethodHandle" ∧ yX3_set.cls ≠ "java/lang/invoke/VarHandle" ∧ (parseMethodDescriptor yX3_set.desc).map (fun d => d.parameters.length) = some 2 := ⟨rfl, dd_X3_set⟩
/-! RockingHorseModel.sheet(IIII)I -/
abbrev mi_X3_sheet : Mi := (cX3_sheet, 9, "RockingHorseModel", 1, some .int, "sheet")
def f_X3_sheet_b43 (v0 : Option Nat) (v1 : Int32) (v2 : Int32) (v4 : Int32) (k0 : Int32 → Hp → Option (Int32 × Hp)) (ag : (Int32 × Int32 × Int32) → Hp → Option (Int32 × Hp)) (a : Int32 × Int32 × Int32) (σ : Hp) : Option (Int32 × Hp) :=
  gI 2 3 σ v0 fun x4 =>
  if x4 ≤ a.2.2 then
    k0 a.1 σ
  else
    jn (fun (a5 : Int32) σ =>
        gR 2 0 σ v0 fun y7 =>
        jn (fun (a8 : Int32) σ =>
            sI σ y7 (8 + a.2.2) a8 fun σ =>
            gR 2 0 σ v0 fun y10 =>
            lI 100 σ y10 (8 + a.2.2) fun x11 =>
            ag ((a.1 + x11), (a.2.1 + v4), (a.2.2 + 1)) σ) fun j9 =>
        if v1 = 3 then
          j9 0 σ
        else
          if a.2.2 < v2 then
            j9 (imax 0 (imin 99 a5)) σ
          else
            j9 0 σ) fun j6 =>
    if v1 = 0 then
      j6 (i2b a.2.1) σ
    else
      if v1 = 1 then
        j6 (i2s a.2.1) σ
      else
        j6 a.2.1 σ
def f_X3_sheet (v0 : Option Nat) (v1 : Int32) (v2 : Int32) (v3 : Int32) (v4 : Int32) (σ : Hp) : Option (Int32 × Hp) :=
  pI 0 2 11 σ v0 0 fun σ =>
  bnd (f_X3_in v1 0 3 σ) fun x1 σ =>
  if x1 = 0 then
    some ((-1), σ)
  else
    if v2 ≤ 8 then
      jn (fun (a2 : Unit) σ =>
          lp 2000 (f_X3_sheet_b43 v0 v1 v2 v4 (fun (a12 : Int32) σ =>
              if v1 = 3 then
                some ((-3), σ)
              else
                some (a12, σ))) (0, v3, 0) σ) fun j3 =>
      if 3 ≤ v1 then
        j3 () σ
      else
        if 0 ≤ v2 then
          j3 () σ
        else
          some ((-2), σ)
    else
      some ((-1), σ)
theorem ok_X3_sheet_b43 (X : Mx) (v0 : Option Nat) (v1 : Int32) (v2 : Int32) (v4 : Int32) {k0 : Int32 → Hp → Option (Int32 × Hp)} (hk0 : ∀ (a : Int32) (σ : Hp), GG X mi_X3_sheet (QM X rI) 141 [(1, vI v1), (5, vI a)] [] σ (k0 a σ)) : ∀ (m : Nat) (a : Int32 × Int32 × Int32) (σ : Hp), GG X mi_X3_sheet (QM X rI) 43 [(0, vA v0), (1, vI v1), (2, vI v2), (4, vI v4), (5, vI a.1), (6, vI a.2.1), (7, vI a.2.2)] [] σ (lp m (f_X3_sheet_b43 v0 v1 v2 v4 k0) a σ) := by
  refine g_lp (fun (a : Int32 × Int32 × Int32) => [(0, vA v0), (1, vI v1), (2, vI v2), (4, vI v4), (5, vI a.1), (6, vI a.2.1), (7, vI a.2.2)]) ?_
  intro ag hag a σ
  unfold f_X3_sheet_b43
  refine g_iload dX3_sheet_43 rfl ?_
  refine g_aload_n 0 dX3_sheet_45 rfl rfl ?_
  refine g_getI fo_2_3 (by decide) q1059 dX3_sheet_46 fun x4 => ?_
  refine g_icmp_ge 141 dX3_sheet_49 (by decide) ?_ ?_
  · exact g_jmp (hk0 _ _) rfl
  · refine g_iload_n 1 dX3_sheet_52 rfl rfl ?_
    refine g_jn (fun j6 => ∀ (a5 : Int32) (σ : Hp), GG X mi_X3_sheet (QM X rI) 75 [(0, vA v0), (1, vI v1), (2, vI v2), (4, vI v4), (5, vI a.1), (6, vI a.2.1), (7, vI a.2.2)] [vI a5] σ (j6 a5 σ)) ?_ ?_
    · intro a5 σ
      refine g_istore dX3_sheet_75 (lt_b rfl) ?_
      refine g_aload_n 0 dX3_sheet_77 rfl rfl ?_
      refine g_getR fo_2_0 q1056 dX3_sheet_78 fun y7 => ?_
      refine g_bipush 8 dX3_sheet_81 (by decide) ?_
      refine g_iload dX3_sheet_83 rfl ?_
      refine g_iadd dX3_sheet_85 ?_
      refine g_iload_n 1 dX3_sheet_86 rfl rfl ?_
      refine g_iconst 3 dX3_sheet_87 (by decide) ?_
      refine g_jn (fun j9 => ∀ (a8 : Int32) (σ : Hp), GG X mi_X3_sheet (QM X rI) 112 [(0, vA v0), (1, vI v1), (2, vI v2), (4, vI v4), (5, vI a.1), (6, vI a.2.1), (7, vI a.2.2)] [vI a8, vI (8 + a.2.2), vA y7] σ (j9 a8 σ)) ?_ ?_
      · intro a8 σ
        refine g_iastore dX3_sheet_112 fun σ => ?_
        refine g_iload dX3_sheet_113 rfl ?_
        refine g_aload_n 0 dX3_sheet_115 rfl rfl ?_
        refine g_getR fo_2_0 q1056 dX3_sheet_116 fun y10 => ?_
        refine g_bipush 8 dX3_sheet_119 (by decide) ?_
        refine g_iload dX3_sheet_121 rfl ?_
        refine g_iadd dX3_sheet_123 ?_
        refine g_iaload dX3_sheet_124 fun x11 => ?_
        refine g_iadd dX3_sheet_125 ?_
        refine g_istore dX3_sheet_126 (lt_b rfl) ?_
        refine g_iload dX3_sheet_128 rfl ?_
        refine g_iload dX3_sheet_130 rfl ?_
        refine g_iadd dX3_sheet_132 ?_
        refine g_istore dX3_sheet_133 (lt_b rfl) ?_
        refine g_iinc 1 dX3_sheet_135 (by decide) rfl (lt_b rfl) ?_
        refine g_goto 43 dX3_sheet_138 (by decide) ?_
        exact g_jmp (hag _ _) rfl
      · intro j9 hj9
        refine g_icmp_eq 97 dX3_sheet_88 (by decide) ?_ ?_
        · refine g_iconst 0 dX3_sheet_97 (by decide) ?_
          refine g_goto 112 dX3_sheet_98 (by decide) ?_
          exact g_jmp (hj9 _ _) rfl
        · refine g_iload dX3_sheet_91 rfl ?_
          refine g_iload_n 2 dX3_sheet_93 rfl rfl ?_
          refine g_icmp_lt 101 dX3_sheet_94 (by decide) ?_ ?_
          · refine g_iconst 0 dX3_sheet_101 (by decide) ?_
            refine g_bipush 99 dX3_sheet_102 (by decide) ?_
            refine g_iload dX3_sheet_104 rfl ?_
            refine g_mmin q1329 (by decide) (Nat.le_of_ble_eq_true rfl) dX3_sheet_106 ?_
            refine g_mmax q1330 (by decide) (Nat.le_of_ble_eq_true rfl) dX3_sheet_109 ?_
            exact g_jmp (hj9 _ _) rfl
          · refine g_iconst 0 dX3_sheet_97 (by decide) ?_
            refine g_goto 112 dX3_sheet_98 (by decide) ?_
            exact g_jmp (hj9 _ _) rfl
    · intro j6 hj6
      refine g_if_ne 62 dX3_sheet_53 (by decide) ?_ ?_
      · refine g_iload_n 1 dX3_sheet_62 rfl rfl ?_
        refine g_iconst 1 dX3_sheet_63 (by decide) ?_
        refine g_icmp_ne 73 dX3_sheet_64 (by decide) ?_ ?_
        · refine g_iload dX3_sheet_73 rfl ?_
          exact g_jmp (hj6 _ _) rfl
        · refine g_iload dX3_sheet_67 rfl ?_
          refine g_i2s dX3_sheet_69 ?_
          refine g_goto 75 dX3_sheet_70 (by decide) ?_
          exact g_jmp (hj6 _ _) rfl
      · refine g_iload dX3_sheet_56 rfl ?_
        refine g_i2b dX3_sheet_58 ?_
        refine g_goto 75 dX3_sheet_59 (by decide) ?_
        exact g_jmp (hj6 _ _) rfl
theorem mm_X3_sheet (v0 : Option Nat) (v1 : Int32) (v2 : Int32) (v3 : Int32) (v4 : Int32) (σ : Hp) : MM yX3_sheet mi_X3_sheet rI [vA v0, vI v1, vI v2, vI v3, vI v4] σ (f_X3_sheet v0 v1 v2 v3 v4 σ) := by
  refine mm_of (by decide +kernel) rfl rfl (Nat.le_of_ble_eq_true rfl) ?_
  intro X
  unfold f_X3_sheet
  refine g_aload_n 0 dX3_sheet_0 rfl rfl ?_
  refine g_iconst 0 dX3_sheet_1 (by decide) ?_
  refine g_putI fo_2_11 (by decide) rfl q1067 dX3_sheet_2 fun σ => ?_
  refine g_iload_n 1 dX3_sheet_5 rfl rfl ?_
  refine g_iconst 0 dX3_sheet_6 (by decide) ?_
  refine g_iconst 3 dX3_sheet_7 (by decide) ?_
  refine g_callS_I (mm_X3_in _ _ _ _) rfl q1223 q1224 q109 q1225 dd_X3_in rfl (Nat.le_of_ble_eq_true rfl) (Nat.le_of_ble_eq_true rfl) (Nat.le_of_ble_eq_true rfl) dX3_sheet_8 fun x1 σ => ?_
  refine g_if_eq 20 dX3_sheet_11 (by decide) ?_ ?_
  · refine g_iconst (-1) dX3_sheet_20 (by decide) ?_
    exact g_iret rfl dX3_sheet_21
  · refine g_iload_n 2 dX3_sheet_14 rfl rfl ?_
    refine g_bipush 8 dX3_sheet_15 (by decide) ?_
    refine g_icmp_le 22 dX3_sheet_17 (by decide) ?_ ?_
    · refine g_iload_n 1 dX3_sheet_22 rfl rfl ?_
      refine g_iconst 3 dX3_sheet_23 (by decide) ?_
      refine g_jn (fun j3 => ∀ (a2 : Unit) (σ : Hp), GG X mi_X3_sheet (QM X rI) 34 [(0, vA v0), (1, vI v1), (2, vI v2), (3, vI v3), (4, vI v4)] [] σ (j3 a2 σ)) ?_ ?_
      · intro a2 σ
        refine g_iconst 0 dX3_sheet_34 (by decide) ?_
        refine g_istore dX3_sheet_35 (lt_b rfl) ?_
        refine g_iload_n 3 dX3_sheet_37 rfl rfl ?_
        refine g_istore dX3_sheet_38 (lt_b rfl) ?_
        refine g_iconst 0 dX3_sheet_40 (by decide) ?_
        refine g_istore dX3_sheet_41 (lt_b rfl) ?_
        refine g_jmp (ok_X3_sheet_b43 X v0 v1 v2 v4 ?_ _ _ _) rfl
        · intro a12 σ
          refine g_iload_n 1 dX3_sheet_141 rfl rfl ?_
          refine g_iconst 3 dX3_sheet_142 (by decide) ?_
          refine g_icmp_ne 151 dX3_sheet_143 (by decide) ?_ ?_
          · refine g_iload dX3_sheet_151 rfl ?_
            exact g_iret rfl dX3_sheet_153
          · refine g_bipush (-3) dX3_sheet_146 (by decide) ?_
            refine g_goto 153 dX3_sheet_148 (by decide) ?_
            exact g_iret rfl dX3_sheet_153
      · intro j3 hj3
        refine g_icmp_ge 34 dX3_sheet_24 (by decide) ?_ ?_
        · exact g_jmp (hj3 _ _) rfl
        · refine g_iload_n 2 dX3_sheet_27 rfl rfl ?_
          refine g_if_ge 34 dX3_sheet_28 (by decide) ?_ ?_
          · exact g_jmp (hj3 _ _) rfl
          · refine g_bipush (-2) dX3_sheet_31 (by decide) ?_
            exact g_iret rfl dX3_sheet_33
    · refine g_iconst (-1) dX3_sheet_20 (by decide) ?_
      exact g_iret rfl dX3_sheet_21
theorem dd_X3_sheet : yX3_sheet.cls ≠ "java/lang/invoke/MethodHandle" ∧ yX3_sheet.cls ≠ "java/lang/invoke/VarHandle" ∧ (parseMethodDescriptor yX3_sheet.desc).map (fun d => d.parameters.length) = some 4 := by decide +kernel
theorem dv_X3_sheet : yX3_sheet.cls = RX3 ∧ yX3_sheet.cls ≠ "java/lang/invoke/MethodHandle" ∧ yX3_sheet.cls ≠ "java/lang/invoke/VarHandle" ∧ (parseMethodDescriptor yX3_sheet.desc).map (fun d => d.parameters.length) = some 4 := ⟨rfl, dd_X3_sheet⟩
/-! RockingHorseModel.lay([I[II)V -/
abbrev mi_X3_lay : Mi := (cX3_lay, 4, "RockingHorseModel", 0, none, "lay")
def f_X3_lay_b2 (v0 : Option Nat) (v1 : Option Nat) (v2 : Int32) (k0 : Unit → Hp → Option (Unit × Hp)) (ag : Int32 → Hp → Option (Unit × Hp)) (a : Int32) (σ : Hp) : Option (Unit × Hp) :=
  if 27 ≤ a then
    k0 () σ
  else
    lI 100 σ v0 a fun x1 =>
    sI σ v1 (v2 + a) x1 fun σ =>
    ag (a + 1) σ
def f_X3_lay (v0 : Option Nat) (v1 : Option Nat) (v2 : Int32) (σ : Hp) : Option (Unit × Hp) :=
  lp 2000 (f_X3_lay_b2 v0 v1 v2 (fun (a2 : Unit) σ =>
      some ((), σ))) 0 σ
theorem ok_X3_lay_b2 (X : Mx) (v0 : Option Nat) (v1 : Option Nat) (v2 : Int32) {k0 : Unit → Hp → Option (Unit × Hp)} (hk0 : ∀ (a : Unit) (σ : Hp), GG X mi_X3_lay (QM X rV) 22 [] [] σ (k0 a σ)) : ∀ (m : Nat) (a : Int32) (σ : Hp), GG X mi_X3_lay (QM X rV) 2 [(0, vA v0), (1, vA v1), (2, vI v2), (3, vI a)] [] σ (lp m (f_X3_lay_b2 v0 v1 v2 k0) a σ) := by
  refine g_lp (fun (a : Int32) => [(0, vA v0), (1, vA v1), (2, vI v2), (3, vI a)]) ?_
  intro ag hag a σ
  unfold f_X3_lay_b2
  refine g_iload_n 3 dX3_lay_2 rfl rfl ?_
  refine g_bipush 27 dX3_lay_3 (by decide) ?_
  refine g_icmp_ge 22 dX3_lay_5 (by decide) ?_ ?_
  · exact g_jmp (hk0 _ _) rfl
  · refine g_aload_n 1 dX3_lay_8 rfl rfl ?_
    refine g_iload_n 2 dX3_lay_9 rfl rfl ?_
    refine g_iload_n 3 dX3_lay_10 rfl rfl ?_
    refine g_iadd dX3_lay_11 ?_
    refine g_aload_n 0 dX3_lay_12 rfl rfl ?_
    refine g_iload_n 3 dX3_lay_13 rfl rfl ?_
    refine g_iaload dX3_lay_14 fun x1 => ?_
    refine g_iastore dX3_lay_15 fun σ => ?_
    refine g_iinc 1 dX3_lay_16 (by decide) rfl (lt_b rfl) ?_
    refine g_goto 2 dX3_lay_19 (by decide) ?_
    exact g_jmp (hag _ _) rfl
theorem mm_X3_lay (v0 : Option Nat) (v1 : Option Nat) (v2 : Int32) (σ : Hp) : MM yX3_lay mi_X3_lay rV [vA v0, vA v1, vI v2] σ (f_X3_lay v0 v1 v2 σ) := by
  refine mm_of (by decide +kernel) rfl rfl (Nat.le_of_ble_eq_true rfl) ?_
  intro X
  unfold f_X3_lay
  refine g_iconst 0 dX3_lay_0 (by decide) ?_
  refine g_istore_n 3 dX3_lay_1 rfl (lt_b rfl) ?_
  refine g_jmp (ok_X3_lay_b2 X v0 v1 v2 ?_ _ _ _) rfl
  · intro a2 σ
    exact g_vret rfl dX3_lay_22
theorem dd_X3_lay : yX3_lay.cls ≠ "java/lang/invoke/MethodHandle" ∧ yX3_lay.cls ≠ "java/lang/invoke/VarHandle" ∧ (parseMethodDescriptor yX3_lay.desc).map (fun d => d.parameters.length) = some 3 := by decide +kernel
/-! RockingHorseModel.isGift(II)Z -/
abbrev mi_X3_isGift : Mi := (cX3_isGift, 3, "RockingHorseModel", 2, some .boolean, "isGift")
def f_X3_isGift (v0 : Option Nat) (v1 : Int32) (v2 : Int32) (σ : Hp) : Option (Int32 × Hp) :=
  bnd (f_X3_isHour v1 σ) fun x1 σ =>
  if x1 = 0 then
    rz1 0 σ
  else
    if v2 = (-1) then
      rz1 1 σ
    else
      ob 2 σ v0 fun _ => bnd (f_X3_isMan v0 v2 σ) fun x2 σ =>
      if x2 = 0 then
        rz1 0 σ
      else
        rz1 1 σ
theorem mm_X3_isGift (v0 : Option Nat) (v1 : Int32) (v2 : Int32) (σ : Hp) : MM yX3_isGift mi_X3_isGift rI [vA v0, vI v1, vI v2] σ (f_X3_isGift v0 v1 v2 σ) := by
  refine mm_of (by decide +kernel) rfl rfl (Nat.le_of_ble_eq_true rfl) ?_
  intro X
  unfold f_X3_isGift
  refine g_iload_n 1 dX3_isGift_0 rfl rfl ?_
  refine g_callS_I (mm_X3_isHour _ _) rfl q1321 q1322 q109 q1323 dd_X3_isHour rfl (Nat.le_of_ble_eq_true rfl) (Nat.le_of_ble_eq_true rfl) (Nat.le_of_ble_eq_true rfl) dX3_isGift_1 fun x1 σ => ?_
  refine g_if_eq 24 dX3_isGift_4 (by decide) ?_ ?_
  · refine g_iconst 0 dX3_isGift_24 (by decide) ?_
    exact g_zret rfl dX3_isGift_25
  · refine g_iload_n 2 dX3_isGift_7 rfl rfl ?_
    refine g_iconst (-1) dX3_isGift_8 (by decide) ?_
    refine g_icmp_eq 20 dX3_isGift_9 (by decide) ?_ ?_
    · refine g_iconst 1 dX3_isGift_20 (by decide) ?_
      refine g_goto 25 dX3_isGift_21 (by decide) ?_
      exact g_zret rfl dX3_isGift_25
    · refine g_aload_n 0 dX3_isGift_12 rfl rfl ?_
      refine g_iload_n 2 dX3_isGift_13 rfl rfl ?_
      refine g_callV_I (mm_X3_isMan _ _ _) rfl zc_2 q1305 q1307 qs66 q109 q1308 dv_X3_isMan rfl (Nat.le_of_ble_eq_true rfl) (Nat.le_of_ble_eq_true rfl) (Nat.le_of_ble_eq_true rfl) dX3_isGift_14 fun x2 σ => ?_
      refine g_if_eq 24 dX3_isGift_17 (by decide) ?_ ?_
      · refine g_iconst 0 dX3_isGift_24 (by decide) ?_
        exact g_zret rfl dX3_isGift_25
      · refine g_iconst 1 dX3_isGift_20 (by decide) ?_
        refine g_goto 25 dX3_isGift_21 (by decide) ?_
        exact g_zret rfl dX3_isGift_25
theorem dd_X3_isGift : yX3_isGift.cls ≠ "java/lang/invoke/MethodHandle" ∧ yX3_isGift.cls ≠ "java/lang/invoke/VarHandle" ∧ (parseMethodDescriptor yX3_isGift.desc).map (fun d => d.parameters.length) = some 2 := by decide +kernel
theorem dv_X3_isGift : yX3_isGift.cls = RX3 ∧ yX3_isGift.cls ≠ "java/lang/invoke/MethodHandle" ∧ yX3_isGift.cls ≠ "java/lang/invoke/VarHandle" ∧ (parseMethodDescriptor yX3_isGift.desc).map (fun d => d.parameters.length) = some 2 := ⟨rfl, dd_X3_isGift⟩
/-! RockingHorseModel.illBits([I)I -/
abbrev mi_X3_illBits : Mi := (cX3_illBits, 4, "RockingHorseModel", 0, some .int, "illBits")
def f_X3_illBits_b4 (v0 : Option Nat) (v1 : Option Nat) (k0 : Int32 → Hp → Option (Int32 × Hp)) (ag : (Int32 × Int32) → Hp → Option (Int32 × Hp)) (a : Int32 × Int32) (σ : Hp) : Option (Int32 × Hp) :=
  gI 2 3 σ v0 fun x1 =>
  if x1 ≤ a.2 then
    k0 a.1 σ
  else
    lI 100 σ v1 (16 + a.2) fun x2 =>
    ag ((a.1 ||| (shl x2 a.2)), (a.2 + 1)) σ
def f_X3_illBits (v0 : Option Nat) (v1 : Option Nat) (σ : Hp) : Option (Int32 × Hp) :=
  lp 2000 (f_X3_illBits_b4 v0 v1 (fun (a3 : Int32) σ =>
      some (a3, σ))) (0, 0) σ
theorem ok_X3_illBits_b4 (X : Mx) (v0 : Option Nat) (v1 : Option Nat) {k0 : Int32 → Hp → Option (Int32 × Hp)} (hk0 : ∀ (a : Int32) (σ : Hp), GG X mi_X3_illBits (QM X rI) 29 [(2, vI a)] [] σ (k0 a σ)) : ∀ (m : Nat) (a : Int32 × Int32) (σ : Hp), GG X mi_X3_illBits (QM X rI) 4 [(0, vA v0), (1, vA v1), (2, vI a.1), (3, vI a.2)] [] σ (lp m (f_X3_illBits_b4 v0 v1 k0) a σ) := by
  refine g_lp (fun (a : Int32 × Int32) => [(0, vA v0), (1, vA v1), (2, vI a.1), (3, vI a.2)]) ?_
  intro ag hag a σ
  unfold f_X3_illBits_b4
  refine g_iload_n 3 dX3_illBits_4 rfl rfl ?_
  refine g_aload_n 0 dX3_illBits_5 rfl rfl ?_
  refine g_getI fo_2_3 (by decide) q1059 dX3_illBits_6 fun x1 => ?_
  refine g_icmp_ge 29 dX3_illBits_9 (by decide) ?_ ?_
  · exact g_jmp (hk0 _ _) rfl
  · refine g_iload_n 2 dX3_illBits_12 rfl rfl ?_
    refine g_aload_n 1 dX3_illBits_13 rfl rfl ?_
    refine g_bipush 16 dX3_illBits_14 (by decide) ?_
    refine g_iload_n 3 dX3_illBits_16 rfl rfl ?_
    refine g_iadd dX3_illBits_17 ?_
    refine g_iaload dX3_illBits_18 fun x2 => ?_
    refine g_iload_n 3 dX3_illBits_19 rfl rfl ?_
    refine g_ishl dX3_illBits_20 ?_
    refine g_ior dX3_illBits_21 ?_
    refine g_istore_n 2 dX3_illBits_22 rfl (lt_b rfl) ?_
    refine g_iinc 1 dX3_illBits_23 (by decide) rfl (lt_b rfl) ?_
    refine g_goto 4 dX3_illBits_26 (by decide) ?_
    exact g_jmp (hag _ _) rfl
theorem mm_X3_illBits (v0 : Option Nat) (v1 : Option Nat) (σ : Hp) : MM yX3_illBits mi_X3_illBits rI [vA v0, vA v1] σ (f_X3_illBits v0 v1 σ) := by
  refine mm_of (by decide +kernel) rfl rfl (Nat.le_of_ble_eq_true rfl) ?_
  intro X
  unfold f_X3_illBits
  refine g_iconst 0 dX3_illBits_0 (by decide) ?_
  refine g_istore_n 2 dX3_illBits_1 rfl (lt_b rfl) ?_
  refine g_iconst 0 dX3_illBits_2 (by decide) ?_
  refine g_istore_n 3 dX3_illBits_3 rfl (lt_b rfl) ?_
  refine g_jmp (ok_X3_illBits_b4 X v0 v1 ?_ _ _ _) rfl
  · intro a3 σ
    refine g_iload_n 2 dX3_illBits_29 rfl rfl ?_
    exact g_iret rfl dX3_illBits_30
theorem dd_X3_illBits : yX3_illBits.cls ≠ "java/lang/invoke/MethodHandle" ∧ yX3_illBits.cls ≠ "java/lang/invoke/VarHandle" ∧ (parseMethodDescriptor yX3_illBits.desc).map (fun d => d.parameters.length) = some 1 := by decide +kernel
theorem dv_X3_illBits : yX3_illBits.cls = RX3 ∧ yX3_illBits.cls ≠ "java/lang/invoke/MethodHandle" ∧ yX3_illBits.cls ≠ "java/lang/invoke/VarHandle" ∧ (parseMethodDescriptor yX3_illBits.desc).map (fun d => d.parameters.length) = some 1 := ⟨rfl, dd_X3_illBits⟩
/-! RockingHorseModel.has(II)Z -/
abbrev mi_X3_has : Mi := (cX3_has, 2, "RockingHorseModel", 0, some .boolean, "has")
def f_X3_has (v0 : Int32) (v1 : Int32) (σ : Hp) : Option (Int32 × Hp) :=
  if ((shr v0 v1) &&& 1) = 1 then
    rz1 1 σ
  else
    rz1 0 σ
theorem mm_X3_has (v0 : Int32) (v1 : Int32) (σ : Hp) : MM yX3_has mi_X3_has rI [vI v0, vI v1] σ (f_X3_has v0 v1 σ) := by
  refine mm_of (by decide +kernel) rfl rfl (Nat.le_of_ble_eq_true rfl) ?_
  intro X
  unfold f_X3_has
  refine g_iload_n 0 dX3_has_0 rfl rfl ?_
  refine g_iload_n 1 dX3_has_1 rfl rfl ?_
  refine g_ishr dX3_has_2 ?_
  refine g_iconst 1 dX3_has_3 (by decide) ?_
  refine g_iand dX3_has_4 ?_
  refine g_iconst 1 dX3_has_5 (by decide) ?_
  refine g_icmp_ne 13 dX3_has_6 (by decide) ?_ ?_
  · refine g_iconst 0 dX3_has_13 (by decide) ?_
    exact g_zret rfl dX3_has_14
  · refine g_iconst 1 dX3_has_9 (by decide) ?_
    refine g_goto 14 dX3_has_10 (by decide) ?_
    exact g_zret rfl dX3_has_14
theorem dd_X3_has : yX3_has.cls ≠ "java/lang/invoke/MethodHandle" ∧ yX3_has.cls ≠ "java/lang/invoke/VarHandle" ∧ (parseMethodDescriptor yX3_has.desc).map (fun d => d.parameters.length) = some 2 := by decide +kernel
/-! RockingHorseModel.tell(J)V -/
abbrev mi_X3_tell : Mi := (cX3_tell, 3, "RockingHorseModel", 0, none, "tell")
def f_X3_tell (v0 : Option Nat) (v1 : Int64) (σ : Hp) : Option (Unit × Hp) :=
  gR 2 9 σ v0 fun y1 =>
  gI 2 10 σ v0 fun x2 =>
  sL σ y1 x2 v1 fun σ =>
  gI 2 10 σ v0 fun x3 =>
  pI 0 2 10 σ v0 (x3 + 1) fun σ =>
  some ((), σ)
theorem mm_X3_tell (v0 : Option Nat) (v1 : Int64) (σ : Hp) : MM yX3_tell mi_X3_tell rV [vA v0, vL v1] σ (f_X3_tell v0 v1 σ) := by
  refine mm_of (by decide +kernel) rfl rfl (Nat.le_of_ble_eq_true rfl) ?_
  intro X
  unfold f_X3_tell
  refine g_aload_n 0 dX3_tell_0 rfl rfl ?_
  refine g_getR fo_2_9 q1065 dX3_tell_1 fun y1 => ?_
  refine g_aload_n 0 dX3_tell_4 rfl rfl ?_
  refine g_getI fo_2_10 (by decide) q1066 dX3_tell_5 fun x2 => ?_
  refine g_lload_n 1 dX3_tell_8 rfl rfl ?_
  refine g_lastore dX3_tell_9 fun σ => ?_
  refine g_aload_n 0 dX3_tell_10 rfl rfl ?_
  refine g_dup dX3_tell_11 rfl ?_
  refine g_getI fo_2_10 (by decide) q1066 dX3_tell_12 fun x3 => ?_
  refine g_iconst 1 dX3_tell_15 (by decide) ?_
  refine g_iadd dX3_tell_16 ?_
  refine g_putI fo_2_10 (by decide) rfl q1066 dX3_tell_17 fun σ => ?_
  exact g_vret rfl dX3_tell_20
theorem dd_X3_tell : yX3_tell.cls ≠ "java/lang/invoke/MethodHandle" ∧ yX3_tell.cls ≠ "java/lang/invoke/VarHandle" ∧ (parseMethodDescriptor yX3_tell.desc).map (fun d => d.parameters.length) = some 1 := by decide +kernel
theorem dv_X3_tell : yX3_tell.cls = RX3 ∧ yX3_tell.cls ≠ "java/lang/invoke/MethodHandle" ∧ yX3_tell.cls ≠ "java/lang/invoke/VarHandle" ∧ (parseMethodDescriptor yX3_tell.desc).map (fun d => d.parameters.length) = some 1 := ⟨rfl, dd_X3_tell⟩
/-! RockingHorseModel.tired([I)I -/
abbrev mi_X3_tired : Mi := (cX3_tired, 4, "RockingHorseModel", 0, some .int, "tired")
def f_X3_tired_b4 (v0 : Option Nat) (v1 : Option Nat) (k0 : Int32 → Hp → Option (Int32 × Hp)) (ag : (Int32 × Int32) → Hp → Option (Int32 × Hp)) (a : Int32 × Int32) (σ : Hp) : Option (Int32 × Hp) :=
  gI 2 3 σ v0 fun x1 =>
  if x1 ≤ a.2 then
    k0 a.1 σ
  else
    lI 100 σ v1 (8 + a.2) fun x2 =>
    ag ((a.1 + x2), (a.2 + 1)) σ
def f_X3_tired (v0 : Option Nat) (v1 : Option Nat) (σ : Hp) : Option (Int32 × Hp) :=
  lp 2000 (f_X3_tired_b4 v0 v1 (fun (a3 : Int32) σ =>
      some (a3, σ))) (0, 0) σ
theorem ok_X3_tired_b4 (X : Mx) (v0 : Option Nat) (v1 : Option Nat) {k0 : Int32 → Hp → Option (Int32 × Hp)} (hk0 : ∀ (a : Int32) (σ : Hp), GG X mi_X3_tired (QM X rI) 27 [(2, vI a)] [] σ (k0 a σ)) : ∀ (m : Nat) (a : Int32 × Int32) (σ : Hp), GG X mi_X3_tired (QM X rI) 4 [(0, vA v0), (1, vA v1), (2, vI a.1), (3, vI a.2)] [] σ (lp m (f_X3_tired_b4 v0 v1 k0) a σ) := by
  refine g_lp (fun (a : Int32 × Int32) => [(0, vA v0), (1, vA v1), (2, vI a.1), (3, vI a.2)]) ?_
  intro ag hag a σ
  unfold f_X3_tired_b4
  refine g_iload_n 3 dX3_tired_4 rfl rfl ?_
  refine g_aload_n 0 dX3_tired_5 rfl rfl ?_
  refine g_getI fo_2_3 (by decide) q1059 dX3_tired_6 fun x1 => ?_
  refine g_icmp_ge 27 dX3_tired_9 (by decide) ?_ ?_
  · exact g_jmp (hk0 _ _) rfl
  · refine g_iload_n 2 dX3_tired_12 rfl rfl ?_
    refine g_aload_n 1 dX3_tired_13 rfl rfl ?_
    refine g_bipush 8 dX3_tired_14 (by decide) ?_
    refine g_iload_n 3 dX3_tired_16 rfl rfl ?_
    refine g_iadd dX3_tired_17 ?_
    refine g_iaload dX3_tired_18 fun x2 => ?_
    refine g_iadd dX3_tired_19 ?_
    refine g_istore_n 2 dX3_tired_20 rfl (lt_b rfl) ?_
    refine g_iinc 1 dX3_tired_21 (by decide) rfl (lt_b rfl) ?_
    refine g_goto 4 dX3_tired_24 (by decide) ?_
    exact g_jmp (hag _ _) rfl
theorem mm_X3_tired (v0 : Option Nat) (v1 : Option Nat) (σ : Hp) : MM yX3_tired mi_X3_tired rI [vA v0, vA v1] σ (f_X3_tired v0 v1 σ) := by
  refine mm_of (by decide +kernel) rfl rfl (Nat.le_of_ble_eq_true rfl) ?_
  intro X
  unfold f_X3_tired
  refine g_iconst 0 dX3_tired_0 (by decide) ?_
  refine g_istore_n 2 dX3_tired_1 rfl (lt_b rfl) ?_
  refine g_iconst 0 dX3_tired_2 (by decide) ?_
  refine g_istore_n 3 dX3_tired_3 rfl (lt_b rfl) ?_
  refine g_jmp (ok_X3_tired_b4 X v0 v1 ?_ _ _ _) rfl
  · intro a3 σ
    refine g_iload_n 2 dX3_tired_27 rfl rfl ?_
    exact g_iret rfl dX3_tired_28
theorem dd_X3_tired : yX3_tired.cls ≠ "java/lang/invoke/MethodHandle" ∧ yX3_tired.cls ≠ "java/lang/invoke/VarHandle" ∧ (parseMethodDescriptor yX3_tired.desc).map (fun d => d.parameters.length) = some 1 := by decide +kernel
theorem dv_X3_tired : yX3_tired.cls = RX3 ∧ yX3_tired.cls ≠ "java/lang/invoke/MethodHandle" ∧ yX3_tired.cls ≠ "java/lang/invoke/VarHandle" ∧ (parseMethodDescriptor yX3_tired.desc).map (fun d => d.parameters.length) = some 1 := ⟨rfl, dd_X3_tired⟩
/-! RockingHorseModel.areTwo(II)Z -/
abbrev mi_X3_areTwo : Mi := (cX3_areTwo, 3, "RockingHorseModel", 2, some .boolean, "areTwo")
def f_X3_areTwo (v0 : Option Nat) (v1 : Int32) (v2 : Int32) (σ : Hp) : Option (Int32 × Hp) :=
  ob 2 σ v0 fun _ => bnd (f_X3_isMan v0 v1 σ) fun x1 σ =>
  if x1 = 0 then
    rz1 0 σ
  else
    ob 2 σ v0 fun _ => bnd (f_X3_isMan v0 v2 σ) fun x2 σ =>
    if x2 = 0 then
      rz1 0 σ
    else
      if v1 = v2 then
        rz1 0 σ
      else
        rz1 1 σ
theorem mm_X3_areTwo (v0 : Option Nat) (v1 : Int32) (v2 : Int32) (σ : Hp) : MM yX3_areTwo mi_X3_areTwo rI [vA v0, vI v1, vI v2] σ (f_X3_areTwo v0 v1 v2 σ) := by
  refine mm_of (by decide +kernel) rfl rfl (Nat.le_of_ble_eq_true rfl) ?_
  intro X
  unfold f_X3_areTwo
  refine g_aload_n 0 dX3_areTwo_0 rfl rfl ?_
  refine g_iload_n 1 dX3_areTwo_1 rfl rfl ?_
  refine g_callV_I (mm_X3_isMan _ _ _) rfl zc_2 q1305 q1307 qs66 q109 q1308 dv_X3_isMan rfl (Nat.le_of_ble_eq_true rfl) (Nat.le_of_ble_eq_true rfl) (Nat.le_of_ble_eq_true rfl) dX3_areTwo_2 fun x1 σ => ?_
  refine g_if_eq 25 dX3_areTwo_5 (by decide) ?_ ?_
  · refine g_iconst 0 dX3_areTwo_25 (by decide) ?_
    exact g_zret rfl dX3_areTwo_26
  · refine g_aload_n 0 dX3_areTwo_8 rfl rfl ?_
    refine g_iload_n 2 dX3_areTwo_9 rfl rfl ?_
    refine g_callV_I (mm_X3_isMan _ _ _) rfl zc_2 q1305 q1307 qs66 q109 q1308 dv_X3_isMan rfl (Nat.le_of_ble_eq_true rfl) (Nat.le_of_ble_eq_true rfl) (Nat.le_of_ble_eq_true rfl) dX3_areTwo_10 fun x2 σ => ?_
    refine g_if_eq 25 dX3_areTwo_13 (by decide) ?_ ?_
    · refine g_iconst 0 dX3_areTwo_25 (by decide) ?_
      exact g_zret rfl dX3_areTwo_26
    · refine g_iload_n 1 dX3_areTwo_16 rfl rfl ?_
      refine g_iload_n 2 dX3_areTwo_17 rfl rfl ?_
      refine g_icmp_eq 25 dX3_areTwo_18 (by decide) ?_ ?_
      · refine g_iconst 0 dX3_areTwo_25 (by decide) ?_
        exact g_zret rfl dX3_areTwo_26
      · refine g_iconst 1 dX3_areTwo_21 (by decide) ?_
        refine g_goto 26 dX3_areTwo_22 (by decide) ?_
        exact g_zret rfl dX3_areTwo_26
theorem dd_X3_areTwo : yX3_areTwo.cls ≠ "java/lang/invoke/MethodHandle" ∧ yX3_areTwo.cls ≠ "java/lang/invoke/VarHandle" ∧ (parseMethodDescriptor yX3_areTwo.desc).map (fun d => d.parameters.length) = some 2 := by decide +kernel
theorem dv_X3_areTwo : yX3_areTwo.cls = RX3 ∧ yX3_areTwo.cls ≠ "java/lang/invoke/MethodHandle" ∧ yX3_areTwo.cls ≠ "java/lang/invoke/VarHandle" ∧ (parseMethodDescriptor yX3_areTwo.desc).map (fun d => d.parameters.length) = some 2 := ⟨rfl, dd_X3_areTwo⟩
/-! RockingHorseModel.goExchange(II)V -/
abbrev mi_X3_goExchange : Mi := (cX3_goExchange, 4, "RockingHorseModel", 0, none, "goExchange")
def f_X3_goExchange_b2 (v0 : Option Nat) (v1 : Int32) (v2 : Int32) (k0 : Unit → Hp → Option (Unit × Hp)) (ag : Int32 → Hp → Option (Unit × Hp)) (a : Int32) (σ : Hp) : Option (Unit × Hp) :=
  if 8 ≤ a then
    k0 () σ
  else
    gR 2 0 σ v0 fun y1 =>
    gR 2 0 σ v0 fun y2 =>
    lI 100 σ y2 a fun x3 =>
    jn (fun (a4 : Int32) σ =>
        sI σ y1 a a4 fun σ =>
        ag (a + 1) σ) fun j5 =>
    if x3 = v1 then
      j5 v2 σ
    else
      gR 2 0 σ v0 fun y6 =>
      lI 100 σ y6 a fun x7 =>
      if x7 = v2 then
        j5 v1 σ
      else
        gR 2 0 σ v0 fun y8 =>
        lI 100 σ y8 a fun x9 =>
        j5 x9 σ
def f_X3_goExchange (v0 : Option Nat) (v1 : Int32) (v2 : Int32) (σ : Hp) : Option (Unit × Hp) :=
  lp 2000 (f_X3_goExchange_b2 v0 v1 v2 (fun (a10 : Unit) σ =>
      some ((), σ))) 0 σ
theorem ok_X3_goExchange_b2 (X : Mx) (v0 : Option Nat) (v1 : Int32) (v2 : Int32) {k0 : Unit → Hp → Option (Unit × Hp)} (hk0 : ∀ (a : Unit) (σ : Hp), GG X mi_X3_goExchange (QM X rV) 54 [] [] σ (k0 a σ)) : ∀ (m : Nat) (a : Int32) (σ : Hp), GG X mi_X3_goExchange (QM X rV) 2 [(0, vA v0), (1, vI v1), (2, vI v2), (3, vI a)] [] σ (lp m (f_X3_goExchange_b2 v0 v1 v2 k0) a σ) := by
  refine g_lp (fun (a : Int32) => [(0, vA v0), (1, vI v1), (2, vI v2), (3, vI a)]) ?_
  intro ag hag a σ
  unfold f_X3_goExchange_b2
  refine g_iload_n 3 dX3_goExchange_2 rfl rfl ?_
  refine g_bipush 8 dX3_goExchange_3 (by decide) ?_
  refine g_icmp_ge 54 dX3_goExchange_5 (by decide) ?_ ?_
  · exact g_jmp (hk0 _ _) rfl
  · refine g_aload_n 0 dX3_goExchange_8 rfl rfl ?_
    refine g_getR fo_2_0 q1056 dX3_goExchange_9 fun y1 => ?_
    refine g_iload_n 3 dX3_goExchange_12 rfl rfl ?_
    refine g_aload_n 0 dX3_goExchange_13 rfl rfl ?_
    refine g_getR fo_2_0 q1056 dX3_goExchange_14 fun y2 => ?_
    refine g_iload_n 3 dX3_goExchange_17 rfl rfl ?_
    refine g_iaload dX3_goExchange_18 fun x3 => ?_
    refine g_iload_n 1 dX3_goExchange_19 rfl rfl ?_
    refine g_jn (fun j5 => ∀ (a4 : Int32) (σ : Hp), GG X mi_X3_goExchange (QM X rV) 47 [(0, vA v0), (1, vI v1), (2, vI v2), (3, vI a)] [vI a4, vI a, vA y1] σ (j5 a4 σ)) ?_ ?_
    · intro a4 σ
      refine g_iastore dX3_goExchange_47 fun σ => ?_
      refine g_iinc 1 dX3_goExchange_48 (by decide) rfl (lt_b rfl) ?_
      refine g_goto 2 dX3_goExchange_51 (by decide) ?_
      exact g_jmp (hag _ _) rfl
    · intro j5 hj5
      refine g_icmp_ne 27 dX3_goExchange_20 (by decide) ?_ ?_
      · refine g_aload_n 0 dX3_goExchange_27 rfl rfl ?_
        refine g_getR fo_2_0 q1056 dX3_goExchange_28 fun y6 => ?_
        refine g_iload_n 3 dX3_goExchange_31 rfl rfl ?_
        refine g_iaload dX3_goExchange_32 fun x7 => ?_
        refine g_iload_n 2 dX3_goExchange_33 rfl rfl ?_
        refine g_icmp_ne 41 dX3_goExchange_34 (by decide) ?_ ?_
        · refine g_aload_n 0 dX3_goExchange_41 rfl rfl ?_
          refine g_getR fo_2_0 q1056 dX3_goExchange_42 fun y8 => ?_
          refine g_iload_n 3 dX3_goExchange_45 rfl rfl ?_
          refine g_iaload dX3_goExchange_46 fun x9 => ?_
          exact g_jmp (hj5 _ _) rfl
        · refine g_iload_n 1 dX3_goExchange_37 rfl rfl ?_
          refine g_goto 47 dX3_goExchange_38 (by decide) ?_
          exact g_jmp (hj5 _ _) rfl
      · refine g_iload_n 2 dX3_goExchange_23 rfl rfl ?_
        refine g_goto 47 dX3_goExchange_24 (by decide) ?_
        exact g_jmp (hj5 _ _) rfl
theorem mm_X3_goExchange (v0 : Option Nat) (v1 : Int32) (v2 : Int32) (σ : Hp) : MM yX3_goExchange mi_X3_goExchange rV [vA v0, vI v1, vI v2] σ (f_X3_goExchange v0 v1 v2 σ) := by
  refine mm_of (by decide +kernel) rfl rfl (Nat.le_of_ble_eq_true rfl) ?_
  intro X
  unfold f_X3_goExchange
  refine g_iconst 0 dX3_goExchange_0 (by decide) ?_
  refine g_istore_n 3 dX3_goExchange_1 rfl (lt_b rfl) ?_
  refine g_jmp (ok_X3_goExchange_b2 X v0 v1 v2 ?_ _ _ _) rfl
  · intro a10 σ
    exact g_vret rfl dX3_goExchange_54
theorem dd_X3_goExchange : yX3_goExchange.cls ≠ "java/lang/invoke/MethodHandle" ∧ yX3_goExchange.cls ≠ "java/lang/invoke/VarHandle" ∧ (parseMethodDescriptor yX3_goExchange.desc).map (fun d => d.parameters.length) = some 2 := by decide +kernel
theorem dv_X3_goExchange : yX3_goExchange.cls = RX3 ∧ yX3_goExchange.cls ≠ "java/lang/invoke/MethodHandle" ∧ yX3_goExchange.cls ≠ "java/lang/invoke/VarHandle" ∧ (parseMethodDescriptor yX3_goExchange.desc).map (fun d => d.parameters.length) = some 2 := ⟨rfl, dd_X3_goExchange⟩
/-! RockingHorseModel.undo()I -/
abbrev mi_X3_undo : Mi := (cX3_undo, 2, "RockingHorseModel", 0, some .int, "undo")
def f_X3_undo_b26 (v0 : Option Nat) (k0 : Unit → Hp → Option (Int32 × Hp)) (ag : Int32 → Hp → Option (Int32 × Hp)) (a : Int32) (σ : Hp) : Option (Int32 × Hp) :=
  if 27 ≤ a then
    k0 () σ
  else
    gR 2 0 σ v0 fun y3 =>
    gR 2 23 σ v0 fun y4 =>
    gI 2 24 σ v0 fun x5 =>
    lI 100 σ y4 ((27 * x5) + a) fun x6 =>
    sI σ y3 a x6 fun σ =>
    ag (a + 1) σ
def f_X3_undo (v0 : Option Nat) (σ : Hp) : Option (Int32 × Hp) :=
  pI 0 2 11 σ v0 0 fun σ =>
  gI 2 24 σ v0 fun x1 =>
  if x1 = 0 then
    some ((-1), σ)
  else
    gI 2 24 σ v0 fun x2 =>
    pI 0 2 24 σ v0 (x2 - 1) fun σ =>
    lp 2000 (f_X3_undo_b26 v0 (fun (a7 : Unit) σ =>
        gI 2 24 σ v0 fun x8 =>
        some (x8, σ))) 0 σ
theorem ok_X3_undo_b26 (X : Mx) (v0 : Option Nat) {k0 : Unit → Hp → Option (Int32 × Hp)} (hk0 : ∀ (a : Unit) (σ : Hp), GG X mi_X3_undo (QM X rI) 58 [(0, vA v0)] [] σ (k0 a σ)) : ∀ (m : Nat) (a : Int32) (σ : Hp), GG X mi_X3_undo (QM X rI) 26 [(0, vA v0), (1, vI a)] [] σ (lp m (f_X3_undo_b26 v0 k0) a σ) := by
  refine g_lp (fun (a : Int32) => [(0, vA v0), (1, vI a)]) ?_
  intro ag hag a σ
  unfold f_X3_undo_b26
  refine g_iload_n 1 dX3_undo_26 rfl rfl ?_
  refine g_bipush 27 dX3_undo_27 (by decide) ?_
  refine g_icmp_ge 58 dX3_undo_29 (by decide) ?_ ?_
  · exact g_jmp (hk0 _ _) rfl
  · refine g_aload_n 0 dX3_undo_32 rfl rfl ?_
    refine g_getR fo_2_0 q1056 dX3_undo_33 fun y3 => ?_
    refine g_iload_n 1 dX3_undo_36 rfl rfl ?_
    refine g_aload_n 0 dX3_undo_37 rfl rfl ?_
    refine g_getR fo_2_23 q1079 dX3_undo_38 fun y4 => ?_
    refine g_bipush 27 dX3_undo_41 (by decide) ?_
    refine g_aload_n 0 dX3_undo_43 rfl rfl ?_
    refine g_getI fo_2_24 (by decide) q1080 dX3_undo_44 fun x5 => ?_
    refine g_imul dX3_undo_47 ?_
    refine g_iload_n 1 dX3_undo_48 rfl rfl ?_
    refine g_iadd dX3_undo_49 ?_
    refine g_iaload dX3_undo_50 fun x6 => ?_
    refine g_iastore dX3_undo_51 fun σ => ?_
    refine g_iinc 1 dX3_undo_52 (by decide) rfl (lt_b rfl) ?_
    refine g_goto 26 dX3_undo_55 (by decide) ?_
    exact g_jmp (hag _ _) rfl
theorem mm_X3_undo (v0 : Option Nat) (σ : Hp) : MM yX3_undo mi_X3_undo rI [vA v0] σ (f_X3_undo v0 σ) := by
  refine mm_of (by decide +kernel) rfl rfl (Nat.le_of_ble_eq_true rfl) ?_
  intro X
  unfold f_X3_undo
  refine g_aload_n 0 dX3_undo_0 rfl rfl ?_
  refine g_iconst 0 dX3_undo_1 (by decide) ?_
  refine g_putI fo_2_11 (by decide) rfl q1067 dX3_undo_2 fun σ => ?_
  refine g_aload_n 0 dX3_undo_5 rfl rfl ?_
  refine g_getI fo_2_24 (by decide) q1080 dX3_undo_6 fun x1 => ?_
  refine g_if_ne 14 dX3_undo_9 (by decide) ?_ ?_
  · refine g_aload_n 0 dX3_undo_14 rfl rfl ?_
    refine g_dup dX3_undo_15 rfl ?_
    refine g_getI fo_2_24 (by decide) q1080 dX3_undo_16 fun x2 => ?_
    refine g_iconst 1 dX3_undo_19 (by decide) ?_
    refine g_isub dX3_undo_20 ?_
    refine g_putI fo_2_24 (by decide) rfl q1080 dX3_undo_21 fun σ => ?_
    refine g_iconst 0 dX3_undo_24 (by decide) ?_
    refine g_istore_n 1 dX3_undo_25 rfl (lt_b rfl) ?_
    refine g_jmp (ok_X3_undo_b26 X v0 ?_ _ _ _) rfl
    · intro a7 σ
      refine g_aload_n 0 dX3_undo_58 rfl rfl ?_
      refine g_getI fo_2_24 (by decide) q1080 dX3_undo_59 fun x8 => ?_
      exact g_iret rfl dX3_undo_62
  · refine g_iconst (-1) dX3_undo_12 (by decide) ?_
    exact g_iret rfl dX3_undo_13
theorem dd_X3_undo : yX3_undo.cls ≠ "java/lang/invoke/MethodHandle" ∧ yX3_undo.cls ≠ "java/lang/invoke/VarHandle" ∧ (parseMethodDescriptor yX3_undo.desc).map (fun d => d.parameters.length) = some 0 := by decide +kernel
theorem dv_X3_undo : yX3_undo.cls = RX3 ∧ yX3_undo.cls ≠ "java/lang/invoke/MethodHandle" ∧ yX3_undo.cls ≠ "java/lang/invoke/VarHandle" ∧ (parseMethodDescriptor yX3_undo.desc).map (fun d => d.parameters.length) = some 0 := ⟨rfl, dd_X3_undo⟩
/-! RockingHorseModel.night()I -/
abbrev mi_X3_night : Mi := (cX3_night, 1, "RockingHorseModel", 0, some .int, "night")
def f_X3_night (v0 : Option Nat) (σ : Hp) : Option (Int32 × Hp) :=
  gI 2 1 σ v0 fun x1 =>
  some (((shl 1 x1) - 1), σ)
theorem mm_X3_night (v0 : Option Nat) (σ : Hp) : MM yX3_night mi_X3_night rI [vA v0] σ (f_X3_night v0 σ) := by
  refine mm_of (by decide +kernel) rfl rfl (Nat.le_of_ble_eq_true rfl) ?_
  intro X
  unfold f_X3_night
  refine g_iconst 1 dX3_night_0 (by decide) ?_
  refine g_aload_n 0 dX3_night_1 rfl rfl ?_
  refine g_getI fo_2_1 (by decide) q1057 dX3_night_2 fun x1 => ?_
  refine g_ishl dX3_night_5 ?_
  refine g_iconst 1 dX3_night_6 (by decide) ?_
  refine g_isub dX3_night_7 ?_
  exact g_iret rfl dX3_night_8
theorem dd_X3_night : yX3_night.cls ≠ "java/lang/invoke/MethodHandle" ∧ yX3_night.cls ≠ "java/lang/invoke/VarHandle" ∧ (parseMethodDescriptor yX3_night.desc).map (fun d => d.parameters.length) = some 0 := by decide +kernel
theorem dv_X3_night : yX3_night.cls = RX3 ∧ yX3_night.cls ≠ "java/lang/invoke/MethodHandle" ∧ yX3_night.cls ≠ "java/lang/invoke/VarHandle" ∧ (parseMethodDescriptor yX3_night.desc).map (fun d => d.parameters.length) = some 0 := ⟨rfl, dd_X3_night⟩
/-! RockingHorseModel.hardBy(II)I -/
abbrev mi_X3_hardBy : Mi := (cX3_hardBy, 5, "RockingHorseModel", 1, some .int, "hardBy")
def f_X3_hardBy_b5 (v0 : Option Nat) (v1 : Int32) (v2 : Int32) (k0 : Int32 → Hp → Option (Int32 × Hp)) (ag : (Int32 × Int32) → Hp → Option (Int32 × Hp)) (a : Int32 × Int32) (σ : Hp) : Option (Int32 × Hp) :=
  if 8 ≤ a.2 then
    k0 a.1 σ
  else
    bnd (f_X3_has v2 a.2 σ) fun x1 σ =>
    jn (fun (a2 : Int32) σ =>
        ag ((a.1 + a2), (a.2 + 1)) σ) fun j3 =>
    if x1 = 0 then
      j3 0 σ
    else
      gR 2 36 σ v0 fun y4 =>
      lI 100 σ y4 ((8 * v1) + a.2) fun x5 =>
      j3 x5 σ
def f_X3_hardBy (v0 : Option Nat) (v1 : Int32) (v2 : Int32) (σ : Hp) : Option (Int32 × Hp) :=
  lp 2000 (f_X3_hardBy_b5 v0 v1 v2 (fun (a6 : Int32) σ =>
      some (a6, σ))) (0, 0) σ
theorem ok_X3_hardBy_b5 (X : Mx) (v0 : Option Nat) (v1 : Int32) (v2 : Int32) {k0 : Int32 → Hp → Option (Int32 × Hp)} (hk0 : ∀ (a : Int32) (σ : Hp), GG X mi_X3_hardBy (QM X rI) 46 [(3, vI a)] [] σ (k0 a σ)) : ∀ (m : Nat) (a : Int32 × Int32) (σ : Hp), GG X mi_X3_hardBy (QM X rI) 5 [(0, vA v0), (1, vI v1), (2, vI v2), (3, vI a.1), (4, vI a.2)] [] σ (lp m (f_X3_hardBy_b5 v0 v1 v2 k0) a σ) := by
  refine g_lp (fun (a : Int32 × Int32) => [(0, vA v0), (1, vI v1), (2, vI v2), (3, vI a.1), (4, vI a.2)]) ?_
  intro ag hag a σ
  unfold f_X3_hardBy_b5
  refine g_iload dX3_hardBy_5 rfl ?_
  refine g_bipush 8 dX3_hardBy_7 (by decide) ?_
  refine g_icmp_ge 46 dX3_hardBy_9 (by decide) ?_ ?_
  · exact g_jmp (hk0 _ _) rfl
  · refine g_iload_n 3 dX3_hardBy_12 rfl rfl ?_
    refine g_iload_n 2 dX3_hardBy_13 rfl rfl ?_
    refine g_iload dX3_hardBy_14 rfl ?_
    refine g_callS_I (mm_X3_has _ _ _) rfl q1378 q1379 q109 q1380 dd_X3_has rfl (Nat.le_of_ble_eq_true rfl) (Nat.le_of_ble_eq_true rfl) (Nat.le_of_ble_eq_true rfl) dX3_hardBy_16 fun x1 σ => ?_
    refine g_jn (fun j3 => ∀ (a2 : Int32) (σ : Hp), GG X mi_X3_hardBy (QM X rI) 38 [(0, vA v0), (1, vI v1), (2, vI v2), (4, vI a.2)] [vI a2, vI a.1] σ (j3 a2 σ)) ?_ ?_
    · intro a2 σ
      refine g_iadd dX3_hardBy_38 ?_
      refine g_istore_n 3 dX3_hardBy_39 rfl (lt_b rfl) ?_
      refine g_iinc 1 dX3_hardBy_40 (by decide) rfl (lt_b rfl) ?_
      refine g_goto 5 dX3_hardBy_43 (by decide) ?_
      exact g_jmp (hag _ _) rfl
    · intro j3 hj3
      refine g_if_eq 37 dX3_hardBy_19 (by decide) ?_ ?_
      · refine g_iconst 0 dX3_hardBy_37 (by decide) ?_
        exact g_jmp (hj3 _ _) rfl
      · refine g_aload_n 0 dX3_hardBy_22 rfl rfl ?_
        refine g_getR fo_2_36 q1092 dX3_hardBy_23 fun y4 => ?_
        refine g_bipush 8 dX3_hardBy_26 (by decide) ?_
        refine g_iload_n 1 dX3_hardBy_28 rfl rfl ?_
        refine g_imul dX3_hardBy_29 ?_
        refine g_iload dX3_hardBy_30 rfl ?_
        refine g_iadd dX3_hardBy_32 ?_
        refine g_iaload dX3_hardBy_33 fun x5 => ?_
        refine g_goto 38 dX3_hardBy_34 (by decide) ?_
        exact g_jmp (hj3 _ _) rfl
theorem mm_X3_hardBy (v0 : Option Nat) (v1 : Int32) (v2 : Int32) (σ : Hp) : MM yX3_hardBy mi_X3_hardBy rI [vA v0, vI v1, vI v2] σ (f_X3_hardBy v0 v1 v2 σ) := by
  refine mm_of (by decide +kernel) rfl rfl (Nat.le_of_ble_eq_true rfl) ?_
  intro X
  unfold f_X3_hardBy
  refine g_iconst 0 dX3_hardBy_0 (by decide) ?_
  refine g_istore_n 3 dX3_hardBy_1 rfl (lt_b rfl) ?_
  refine g_iconst 0 dX3_hardBy_2 (by decide) ?_
  refine g_istore dX3_hardBy_3 (lt_b rfl) ?_
  refine g_jmp (ok_X3_hardBy_b5 X v0 v1 v2 ?_ _ _ _) rfl
  · intro a6 σ
    refine g_iload_n 3 dX3_hardBy_46 rfl rfl ?_
    exact g_iret rfl dX3_hardBy_47
theorem dd_X3_hardBy : yX3_hardBy.cls ≠ "java/lang/invoke/MethodHandle" ∧ yX3_hardBy.cls ≠ "java/lang/invoke/VarHandle" ∧ (parseMethodDescriptor yX3_hardBy.desc).map (fun d => d.parameters.length) = some 2 := by decide +kernel
theorem dv_X3_hardBy : yX3_hardBy.cls = RX3 ∧ yX3_hardBy.cls ≠ "java/lang/invoke/MethodHandle" ∧ yX3_hardBy.cls ≠ "java/lang/invoke/VarHandle" ∧ (parseMethodDescriptor yX3_hardBy.desc).map (fun d => d.parameters.length) = some 2 := ⟨rfl, dd_X3_hardBy⟩
/-! RockingHorseModel.keepMay()V -/
abbrev mi_X3_keepMay : Mi := (cX3_keepMay, 2, "RockingHorseModel", 0, none, "keepMay")
def f_X3_keepMay_b2 (v0 : Option Nat) (k0 : Unit → Hp → Option (Unit × Hp)) (ag : Int32 → Hp → Option (Unit × Hp)) (a : Int32) (σ : Hp) : Option (Unit × Hp) :=
  if 8 ≤ a then
    k0 () σ
  else
    gR 2 34 σ v0 fun y1 =>
    gR 2 32 σ v0 fun y2 =>
    lI 100 σ y2 a fun x3 =>
    sI σ y1 a x3 fun σ =>
    gR 2 35 σ v0 fun y4 =>
    gR 2 33 σ v0 fun y5 =>
    lI 100 σ y5 a fun x6 =>
    sI σ y4 a x6 fun σ =>
    ag (a + 1) σ
def f_X3_keepMay (v0 : Option Nat) (σ : Hp) : Option (Unit × Hp) :=
  lp 2000 (f_X3_keepMay_b2 v0 (fun (a7 : Unit) σ =>
      some ((), σ))) 0 σ
theorem ok_X3_keepMay_b2 (X : Mx) (v0 : Option Nat) {k0 : Unit → Hp → Option (Unit × Hp)} (hk0 : ∀ (a : Unit) (σ : Hp), GG X mi_X3_keepMay (QM X rV) 38 [] [] σ (k0 a σ)) : ∀ (m : Nat) (a : Int32) (σ : Hp), GG X mi_X3_keepMay (QM X rV) 2 [(0, vA v0), (1, vI a)] [] σ (lp m (f_X3_keepMay_b2 v0 k0) a σ) := by
  refine g_lp (fun (a : Int32) => [(0, vA v0), (1, vI a)]) ?_
  intro ag hag a σ
  unfold f_X3_keepMay_b2
  refine g_iload_n 1 dX3_keepMay_2 rfl rfl ?_
  refine g_bipush 8 dX3_keepMay_3 (by decide) ?_
  refine g_icmp_ge 38 dX3_keepMay_5 (by decide) ?_ ?_
  · exact g_jmp (hk0 _ _) rfl
  · refine g_aload_n 0 dX3_keepMay_8 rfl rfl ?_
    refine g_getR fo_2_34 q1090 dX3_keepMay_9 fun y1 => ?_
    refine g_iload_n 1 dX3_keepMay_12 rfl rfl ?_
    refine g_aload_n 0 dX3_keepMay_13 rfl rfl ?_
    refine g_getR fo_2_32 q1088 dX3_keepMay_14 fun y2 => ?_
    refine g_iload_n 1 dX3_keepMay_17 rfl rfl ?_
    refine g_iaload dX3_keepMay_18 fun x3 => ?_
    refine g_iastore dX3_keepMay_19 fun σ => ?_
    refine g_aload_n 0 dX3_keepMay_20 rfl rfl ?_
    refine g_getR fo_2_35 q1091 dX3_keepMay_21 fun y4 => ?_
    refine g_iload_n 1 dX3_keepMay_24 rfl rfl ?_
    refine g_aload_n 0 dX3_keepMay_25 rfl rfl ?_
    refine g_getR fo_2_33 q1089 dX3_keepMay_26 fun y5 => ?_
    refine g_iload_n 1 dX3_keepMay_29 rfl rfl ?_
    refine g_iaload dX3_keepMay_30 fun x6 => ?_
    refine g_iastore dX3_keepMay_31 fun σ => ?_
    refine g_iinc 1 dX3_keepMay_32 (by decide) rfl (lt_b rfl) ?_
    refine g_goto 2 dX3_keepMay_35 (by decide) ?_
    exact g_jmp (hag _ _) rfl
theorem mm_X3_keepMay (v0 : Option Nat) (σ : Hp) : MM yX3_keepMay mi_X3_keepMay rV [vA v0] σ (f_X3_keepMay v0 σ) := by
  refine mm_of (by decide +kernel) rfl rfl (Nat.le_of_ble_eq_true rfl) ?_
  intro X
  unfold f_X3_keepMay
  refine g_iconst 0 dX3_keepMay_0 (by decide) ?_
  refine g_istore_n 1 dX3_keepMay_1 rfl (lt_b rfl) ?_
  refine g_jmp (ok_X3_keepMay_b2 X v0 ?_ _ _ _) rfl
  · intro a7 σ
    exact g_vret rfl dX3_keepMay_38
theorem dd_X3_keepMay : yX3_keepMay.cls ≠ "java/lang/invoke/MethodHandle" ∧ yX3_keepMay.cls ≠ "java/lang/invoke/VarHandle" ∧ (parseMethodDescriptor yX3_keepMay.desc).map (fun d => d.parameters.length) = some 0 := by decide +kernel
theorem dv_X3_keepMay : yX3_keepMay.cls = RX3 ∧ yX3_keepMay.cls ≠ "java/lang/invoke/MethodHandle" ∧ yX3_keepMay.cls ≠ "java/lang/invoke/VarHandle" ∧ (parseMethodDescriptor yX3_keepMay.desc).map (fun d => d.parameters.length) = some 0 := ⟨rfl, dd_X3_keepMay⟩
/-! RockingHorseModel.fix(II)V -/
abbrev mi_X3_fix : Mi := (cX3_fix, 4, "RockingHorseModel", 0, none, "fix")
def f_X3_fix_b2 (v0 : Option Nat) (v1 : Int32) (v2 : Int32) (k0 : Unit → Hp → Option (Unit × Hp)) (ag : Int32 → Hp → Option (Unit × Hp)) (a : Int32) (σ : Hp) : Option (Unit × Hp) :=
  gI 2 3 σ v0 fun x1 =>
  if x1 ≤ a then
    k0 () σ
  else
    jn (fun (a2 : Unit) σ =>
        ag (a + 1) σ) fun j3 =>
    if a = v2 then
      j3 () σ
    else
      gR 2 32 σ v0 fun y4 =>
      lI 100 σ y4 a fun x5 =>
      sI σ y4 a (x5 &&& ((shl 1 v1) ^^^ (-1))) fun σ =>
      j3 () σ
def f_X3_fix (v0 : Option Nat) (v1 : Int32) (v2 : Int32) (σ : Hp) : Option (Unit × Hp) :=
  lp 2000 (f_X3_fix_b2 v0 v1 v2 (fun (a6 : Unit) σ =>
      gR 2 33 σ v0 fun y7 =>
      lI 100 σ y7 v2 fun x8 =>
      sI σ y7 v2 (x8 ||| (shl 1 v1)) fun σ =>
      some ((), σ))) 0 σ
theorem ok_X3_fix_b2 (X : Mx) (v0 : Option Nat) (v1 : Int32) (v2 : Int32) {k0 : Unit → Hp → Option (Unit × Hp)} (hk0 : ∀ (a : Unit) (σ : Hp), GG X mi_X3_fix (QM X rV) 35 [(0, vA v0), (1, vI v1), (2, vI v2)] [] σ (k0 a σ)) : ∀ (m : Nat) (a : Int32) (σ : Hp), GG X mi_X3_fix (QM X rV) 2 [(0, vA v0), (1, vI v1), (2, vI v2), (3, vI a)] [] σ (lp m (f_X3_fix_b2 v0 v1 v2 k0) a σ) := by
  refine g_lp (fun (a : Int32) => [(0, vA v0), (1, vI v1), (2, vI v2), (3, vI a)]) ?_
  intro ag hag a σ
  unfold f_X3_fix_b2
  refine g_iload_n 3 dX3_fix_2 rfl rfl ?_
  refine g_aload_n 0 dX3_fix_3 rfl rfl ?_
  refine g_getI fo_2_3 (by decide) q1059 dX3_fix_4 fun x1 => ?_
  refine g_icmp_ge 35 dX3_fix_7 (by decide) ?_ ?_
  · exact g_jmp (hk0 _ _) rfl
  · refine g_iload_n 3 dX3_fix_10 rfl rfl ?_
    refine g_iload_n 2 dX3_fix_11 rfl rfl ?_
    refine g_jn (fun j3 => ∀ (a2 : Unit) (σ : Hp), GG X mi_X3_fix (QM X rV) 29 [(0, vA v0), (1, vI v1), (2, vI v2), (3, vI a)] [] σ (j3 a2 σ)) ?_ ?_
    · intro a2 σ
      refine g_iinc 1 dX3_fix_29 (by decide) rfl (lt_b rfl) ?_
      refine g_goto 2 dX3_fix_32 (by decide) ?_
      exact g_jmp (hag _ _) rfl
    · intro j3 hj3
      refine g_icmp_eq 29 dX3_fix_12 (by decide) ?_ ?_
      · exact g_jmp (hj3 _ _) rfl
      · refine g_aload_n 0 dX3_fix_15 rfl rfl ?_
        refine g_getR fo_2_32 q1088 dX3_fix_16 fun y4 => ?_
        refine g_iload_n 3 dX3_fix_19 rfl rfl ?_
        refine g_dup2 dX3_fix_20 rfl rfl ?_
        refine g_iaload dX3_fix_21 fun x5 => ?_
        refine g_iconst 1 dX3_fix_22 (by decide) ?_
        refine g_iload_n 1 dX3_fix_23 rfl rfl ?_
        refine g_ishl dX3_fix_24 ?_
        refine g_iconst (-1) dX3_fix_25 (by decide) ?_
        refine g_ixor dX3_fix_26 ?_
        refine g_iand dX3_fix_27 ?_
        refine g_iastore dX3_fix_28 fun σ => ?_
        exact g_jmp (hj3 _ _) rfl
theorem mm_X3_fix (v0 : Option Nat) (v1 : Int32) (v2 : Int32) (σ : Hp) : MM yX3_fix mi_X3_fix rV [vA v0, vI v1, vI v2] σ (f_X3_fix v0 v1 v2 σ) := by
  refine mm_of (by decide +kernel) rfl rfl (Nat.le_of_ble_eq_true rfl) ?_
  intro X
  unfold f_X3_fix
  refine g_iconst 0 dX3_fix_0 (by decide) ?_
  refine g_istore_n 3 dX3_fix_1 rfl (lt_b rfl) ?_
  refine g_jmp (ok_X3_fix_b2 X v0 v1 v2 ?_ _ _ _) rfl
  · intro a6 σ
    refine g_aload_n 0 dX3_fix_35 rfl rfl ?_
    refine g_getR fo_2_33 q1089 dX3_fix_36 fun y7 => ?_
    refine g_iload_n 2 dX3_fix_39 rfl rfl ?_
    refine g_dup2 dX3_fix_40 rfl rfl ?_
    refine g_iaload dX3_fix_41 fun x8 => ?_
    refine g_iconst 1 dX3_fix_42 (by decide) ?_
    refine g_iload_n 1 dX3_fix_43 rfl rfl ?_
    refine g_ishl dX3_fix_44 ?_
    refine g_ior dX3_fix_45 ?_
    refine g_iastore dX3_fix_46 fun σ => ?_
    exact g_vret rfl dX3_fix_47
theorem dd_X3_fix : yX3_fix.cls ≠ "java/lang/invoke/MethodHandle" ∧ yX3_fix.cls ≠ "java/lang/invoke/VarHandle" ∧ (parseMethodDescriptor yX3_fix.desc).map (fun d => d.parameters.length) = some 2 := by decide +kernel
theorem dv_X3_fix : yX3_fix.cls = RX3 ∧ yX3_fix.cls ≠ "java/lang/invoke/MethodHandle" ∧ yX3_fix.cls ≠ "java/lang/invoke/VarHandle" ∧ (parseMethodDescriptor yX3_fix.desc).map (fun d => d.parameters.length) = some 2 := ⟨rfl, dd_X3_fix⟩
/-! RockingHorseModel.areRight(I)Z -/
abbrev mi_X3_areRight : Mi := (cX3_areRight, 2, "RockingHorseModel", 0, some .boolean, "areRight")
def f_X3_areRight (v0 : Option Nat) (v1 : Int32) (σ : Hp) : Option (Int32 × Hp) :=
  gR 2 33 σ v0 fun y1 =>
  lI 100 σ y1 v1 fun x2 =>
  gR 2 32 σ v0 fun y3 =>
  lI 100 σ y3 v1 fun x4 =>
  if (x2 &&& (x4 ^^^ (-1))) = 0 then
    rz1 1 σ
  else
    rz1 0 σ
theorem mm_X3_areRight (v0 : Option Nat) (v1 : Int32) (σ : Hp) : MM yX3_areRight mi_X3_areRight rI [vA v0, vI v1] σ (f_X3_areRight v0 v1 σ) := by
  refine mm_of (by decide +kernel) rfl rfl (Nat.le_of_ble_eq_true rfl) ?_
  intro X
  unfold f_X3_areRight
  refine g_aload_n 0 dX3_areRight_0 rfl rfl ?_
  refine g_getR fo_2_33 q1089 dX3_areRight_1 fun y1 => ?_
  refine g_iload_n 1 dX3_areRight_4 rfl rfl ?_
  refine g_iaload dX3_areRight_5 fun x2 => ?_
  refine g_aload_n 0 dX3_areRight_6 rfl rfl ?_
  refine g_getR fo_2_32 q1088 dX3_areRight_7 fun y3 => ?_
  refine g_iload_n 1 dX3_areRight_10 rfl rfl ?_
  refine g_iaload dX3_areRight_11 fun x4 => ?_
  refine g_iconst (-1) dX3_areRight_12 (by decide) ?_
  refine g_ixor dX3_areRight_13 ?_
  refine g_iand dX3_areRight_14 ?_
  refine g_if_ne 22 dX3_areRight_15 (by decide) ?_ ?_
  · refine g_iconst 0 dX3_areRight_22 (by decide) ?_
    exact g_zret rfl dX3_areRight_23
  · refine g_iconst 1 dX3_areRight_18 (by decide) ?_
    refine g_goto 23 dX3_areRight_19 (by decide) ?_
    exact g_zret rfl dX3_areRight_23
theorem dd_X3_areRight : yX3_areRight.cls ≠ "java/lang/invoke/MethodHandle" ∧ yX3_areRight.cls ≠ "java/lang/invoke/VarHandle" ∧ (parseMethodDescriptor yX3_areRight.desc).map (fun d => d.parameters.length) = some 1 := by decide +kernel
theorem dv_X3_areRight : yX3_areRight.cls = RX3 ∧ yX3_areRight.cls ≠ "java/lang/invoke/MethodHandle" ∧ yX3_areRight.cls ≠ "java/lang/invoke/VarHandle" ∧ (parseMethodDescriptor yX3_areRight.desc).map (fun d => d.parameters.length) = some 1 := ⟨rfl, dd_X3_areRight⟩
/-! RockingHorseModel.bringMay()V -/
abbrev mi_X3_bringMay : Mi := (cX3_bringMay, 2, "RockingHorseModel", 0, none, "bringMay")
def f_X3_bringMay_b2 (v0 : Option Nat) (k0 : Unit → Hp → Option (Unit × Hp)) (ag : Int32 → Hp → Option (Unit × Hp)) (a : Int32) (σ : Hp) : Option (Unit × Hp) :=
  if 8 ≤ a then
    k0 () σ
  else
    gR 2 32 σ v0 fun y1 =>
    gR 2 34 σ v0 fun y2 =>
    lI 100 σ y2 a fun x3 =>
    sI σ y1 a x3 fun σ =>
    gR 2 33 σ v0 fun y4 =>
    gR 2 35 σ v0 fun y5 =>
    lI 100 σ y5 a fun x6 =>
    sI σ y4 a x6 fun σ =>
    ag (a + 1) σ
def f_X3_bringMay (v0 : Option Nat) (σ : Hp) : Option (Unit × Hp) :=
  lp 2000 (f_X3_bringMay_b2 v0 (fun (a7 : Unit) σ =>
      some ((), σ))) 0 σ
theorem ok_X3_bringMay_b2 (X : Mx) (v0 : Option Nat) {k0 : Unit → Hp → Option (Unit × Hp)} (hk0 : ∀ (a : Unit) (σ : Hp), GG X mi_X3_bringMay (QM X rV) 38 [] [] σ (k0 a σ)) : ∀ (m : Nat) (a : Int32) (σ : Hp), GG X mi_X3_bringMay (QM X rV) 2 [(0, vA v0), (1, vI a)] [] σ (lp m (f_X3_bringMay_b2 v0 k0) a σ) := by
  refine g_lp (fun (a : Int32) => [(0, vA v0), (1, vI a)]) ?_
  intro ag hag a σ
  unfold f_X3_bringMay_b2
  refine g_iload_n 1 dX3_bringMay_2 rfl rfl ?_
  refine g_bipush 8 dX3_bringMay_3 (by decide) ?_
  refine g_icmp_ge 38 dX3_bringMay_5 (by decide) ?_ ?_
  · exact g_jmp (hk0 _ _) rfl
  · refine g_aload_n 0 dX3_bringMay_8 rfl rfl ?_
    refine g_getR fo_2_32 q1088 dX3_bringMay_9 fun y1 => ?_
    refine g_iload_n 1 dX3_bringMay_12 rfl rfl ?_
    refine g_aload_n 0 dX3_bringMay_13 rfl rfl ?_
    refine g_getR fo_2_34 q1090 dX3_bringMay_14 fun y2 => ?_
    refine g_iload_n 1 dX3_bringMay_17 rfl rfl ?_
    refine g_iaload dX3_bringMay_18 fun x3 => ?_
    refine g_iastore dX3_bringMay_19 fun σ => ?_
    refine g_aload_n 0 dX3_bringMay_20 rfl rfl ?_
    refine g_getR fo_2_33 q1089 dX3_bringMay_21 fun y4 => ?_
    refine g_iload_n 1 dX3_bringMay_24 rfl rfl ?_
    refine g_aload_n 0 dX3_bringMay_25 rfl rfl ?_
    refine g_getR fo_2_35 q1091 dX3_bringMay_26 fun y5 => ?_
    refine g_iload_n 1 dX3_bringMay_29 rfl rfl ?_
    refine g_iaload dX3_bringMay_30 fun x6 => ?_
    refine g_iastore dX3_bringMay_31 fun σ => ?_
    refine g_iinc 1 dX3_bringMay_32 (by decide) rfl (lt_b rfl) ?_
    refine g_goto 2 dX3_bringMay_35 (by decide) ?_
    exact g_jmp (hag _ _) rfl
theorem mm_X3_bringMay (v0 : Option Nat) (σ : Hp) : MM yX3_bringMay mi_X3_bringMay rV [vA v0] σ (f_X3_bringMay v0 σ) := by
  refine mm_of (by decide +kernel) rfl rfl (Nat.le_of_ble_eq_true rfl) ?_
  intro X
  unfold f_X3_bringMay
  refine g_iconst 0 dX3_bringMay_0 (by decide) ?_
  refine g_istore_n 1 dX3_bringMay_1 rfl (lt_b rfl) ?_
  refine g_jmp (ok_X3_bringMay_b2 X v0 ?_ _ _ _) rfl
  · intro a7 σ
    exact g_vret rfl dX3_bringMay_38
theorem dd_X3_bringMay : yX3_bringMay.cls ≠ "java/lang/invoke/MethodHandle" ∧ yX3_bringMay.cls ≠ "java/lang/invoke/VarHandle" ∧ (parseMethodDescriptor yX3_bringMay.desc).map (fun d => d.parameters.length) = some 0 := by decide +kernel
theorem dv_X3_bringMay : yX3_bringMay.cls = RX3 ∧ yX3_bringMay.cls ≠ "java/lang/invoke/MethodHandle" ∧ yX3_bringMay.cls ≠ "java/lang/invoke/VarHandle" ∧ (parseMethodDescriptor yX3_bringMay.desc).map (fun d => d.parameters.length) = some 0 := ⟨rfl, dd_X3_bringMay⟩
/-! RockingHorseModel.tellLine()V -/
abbrev mi_X3_tellLine : Mi := (cX3_tellLine, 2, "RockingHorseModel", 1, none, "tellLine")
def f_X3_tellLine_b7 (v0 : Option Nat) (k0 : Unit → Hp → Option (Unit × Hp)) (ag : Int32 → Hp → Option (Unit × Hp)) (a : Int32) (σ : Hp) : Option (Unit × Hp) :=
  gI 2 1 σ v0 fun x1 =>
  if x1 ≤ a then
    k0 () σ
  else
    gR 2 40 σ v0 fun y2 =>
    lI 100 σ y2 a fun x3 =>
    ob 2 σ v0 fun _ => bnd (f_X3_tell v0 (Int32.toInt64 x3) σ) fun _ σ =>
    ag (a + 1) σ
def f_X3_tellLine (v0 : Option Nat) (σ : Hp) : Option (Unit × Hp) :=
  pI 0 2 10 σ v0 0 fun σ =>
  lp 2000 (f_X3_tellLine_b7 v0 (fun (a4 : Unit) σ =>
      some ((), σ))) 0 σ
theorem ok_X3_tellLine_b7 (X : Mx) (v0 : Option Nat) {k0 : Unit → Hp → Option (Unit × Hp)} (hk0 : ∀ (a : Unit) (σ : Hp), GG X mi_X3_tellLine (QM X rV) 32 [] [] σ (k0 a σ)) : ∀ (m : Nat) (a : Int32) (σ : Hp), GG X mi_X3_tellLine (QM X rV) 7 [(0, vA v0), (1, vI a)] [] σ (lp m (f_X3_tellLine_b7 v0 k0) a σ) := by
  refine g_lp (fun (a : Int32) => [(0, vA v0), (1, vI a)]) ?_
  intro ag hag a σ
  unfold f_X3_tellLine_b7
  refine g_iload_n 1 dX3_tellLine_7 rfl rfl ?_
  refine g_aload_n 0 dX3_tellLine_8 rfl rfl ?_
  refine g_getI fo_2_1 (by decide) q1057 dX3_tellLine_9 fun x1 => ?_
  refine g_icmp_ge 32 dX3_tellLine_12 (by decide) ?_ ?_
  · exact g_jmp (hk0 _ _) rfl
  · refine g_aload_n 0 dX3_tellLine_15 rfl rfl ?_
    refine g_aload_n 0 dX3_tellLine_16 rfl rfl ?_
    refine g_getR fo_2_40 q1096 dX3_tellLine_17 fun y2 => ?_
    refine g_iload_n 1 dX3_tellLine_20 rfl rfl ?_
    refine g_iaload dX3_tellLine_21 fun x3 => ?_
    refine g_i2l dX3_tellLine_22 ?_
    refine g_callV_V (mm_X3_tell _ _ _) rfl zc_2 q1382 q1384 qs75 q109 q1385 dv_X3_tell rfl (Nat.le_of_ble_eq_true rfl) (Nat.le_of_ble_eq_true rfl) (Nat.le_of_ble_eq_true rfl) dX3_tellLine_23 fun _ σ => ?_
    refine g_iinc 1 dX3_tellLine_26 (by decide) rfl (lt_b rfl) ?_
    refine g_goto 7 dX3_tellLine_29 (by decide) ?_
    exact g_jmp (hag _ _) rfl
theorem mm_X3_tellLine (v0 : Option Nat) (σ : Hp) : MM yX3_tellLine mi_X3_tellLine rV [vA v0] σ (f_X3_tellLine v0 σ) := by
  refine mm_of (by decide +kernel) rfl rfl (Nat.le_of_ble_eq_true rfl) ?_
  intro X
  unfold f_X3_tellLine
  refine g_aload_n 0 dX3_tellLine_0 rfl rfl ?_
  refine g_iconst 0 dX3_tellLine_1 (by decide) ?_
  refine g_putI fo_2_10 (by decide) rfl q1066 dX3_tellLine_2 fun σ => ?_
  refine g_iconst 0 dX3_tellLine_5 (by decide) ?_
  refine g_istore_n 1 dX3_tellLine_6 rfl (lt_b rfl) ?_
  refine g_jmp (ok_X3_tellLine_b7 X v0 ?_ _ _ _) rfl
  · intro a4 σ
    exact g_vret rfl dX3_tellLine_32
theorem dd_X3_tellLine : yX3_tellLine.cls ≠ "java/lang/invoke/MethodHandle" ∧ yX3_tellLine.cls ≠ "java/lang/invoke/VarHandle" ∧ (parseMethodDescriptor yX3_tellLine.desc).map (fun d => d.parameters.length) = some 0 := by decide +kernel
theorem dv_X3_tellLine : yX3_tellLine.cls = RX3 ∧ yX3_tellLine.cls ≠ "java/lang/invoke/MethodHandle" ∧ yX3_tellLine.cls ≠ "java/lang/invoke/VarHandle" ∧ (parseMethodDescriptor yX3_tellLine.desc).map (fun d => d.parameters.length) = some 0 := ⟨rfl, dd_X3_tellLine⟩
/-! RockingHorseModel.shared(II)I -/
abbrev mi_X3_shared : Mi := (cX3_shared, 3, "RockingHorseModel", 3, some .int, "shared")
def f_X3_shared (v0 : Option Nat) (v1 : Int32) (v2 : Int32) (σ : Hp) : Option (Int32 × Hp) :=
  pI 0 2 11 σ v0 0 fun σ =>
  ob 2 σ v0 fun _ => bnd (f_X3_areTwo v0 v1 v2 σ) fun x1 σ =>
  if x1 = 0 then
    some ((-1), σ)
  else
    pI 0 2 10 σ v0 0 fun σ =>
    gR 2 6 σ v0 fun y2 =>
    lI 100 σ y2 v1 fun x3 =>
    gR 2 6 σ v0 fun y4 =>
    lI 100 σ y4 v2 fun x5 =>
    ob 2 σ v0 fun _ => bnd (f_X3_tell v0 (Int32.toInt64 (255 &&& ((x3 ||| x5) ^^^ (-1)))) σ) fun _ σ =>
    gR 2 6 σ v0 fun y6 =>
    lI 100 σ y6 v1 fun x7 =>
    gR 2 6 σ v0 fun y8 =>
    lI 100 σ y8 v2 fun x9 =>
    some ((x7 &&& x9), σ)
theorem mm_X3_shared (v0 : Option Nat) (v1 : Int32) (v2 : Int32) (σ : Hp) : MM yX3_shared mi_X3_shared rI [vA v0, vI v1, vI v2] σ (f_X3_shared v0 v1 v2 σ) := by
  refine mm_of (by decide +kernel) rfl rfl (Nat.le_of_ble_eq_true rfl) ?_
  intro X
  unfold f_X3_shared
  refine g_aload_n 0 dX3_shared_0 rfl rfl ?_
  refine g_iconst 0 dX3_shared_1 (by decide) ?_
  refine g_putI fo_2_11 (by decide) rfl q1067 dX3_shared_2 fun σ => ?_
  refine g_aload_n 0 dX3_shared_5 rfl rfl ?_
  refine g_iload_n 1 dX3_shared_6 rfl rfl ?_
  refine g_iload_n 2 dX3_shared_7 rfl rfl ?_
  refine g_callV_I (mm_X3_areTwo _ _ _ _) rfl zc_2 q1402 q1404 qs79 q109 q1405 dv_X3_areTwo rfl (Nat.le_of_ble_eq_true rfl) (Nat.le_of_ble_eq_true rfl) (Nat.le_of_ble_eq_true rfl) dX3_shared_8 fun x1 σ => ?_
  refine g_if_ne 16 dX3_shared_11 (by decide) ?_ ?_
  · refine g_aload_n 0 dX3_shared_16 rfl rfl ?_
    refine g_iconst 0 dX3_shared_17 (by decide) ?_
    refine g_putI fo_2_10 (by decide) rfl q1066 dX3_shared_18 fun σ => ?_
    refine g_aload_n 0 dX3_shared_21 rfl rfl ?_
    refine g_sipush 255 dX3_shared_22 (by decide) ?_
    refine g_aload_n 0 dX3_shared_25 rfl rfl ?_
    refine g_getR fo_2_6 q1062 dX3_shared_26 fun y2 => ?_
    refine g_iload_n 1 dX3_shared_29 rfl rfl ?_
    refine g_iaload dX3_shared_30 fun x3 => ?_
    refine g_aload_n 0 dX3_shared_31 rfl rfl ?_
    refine g_getR fo_2_6 q1062 dX3_shared_32 fun y4 => ?_
    refine g_iload_n 2 dX3_shared_35 rfl rfl ?_
    refine g_iaload dX3_shared_36 fun x5 => ?_
    refine g_ior dX3_shared_37 ?_
    refine g_iconst (-1) dX3_shared_38 (by decide) ?_
    refine g_ixor dX3_shared_39 ?_
    refine g_iand dX3_shared_40 ?_
    refine g_i2l dX3_shared_41 ?_
    refine g_callV_V (mm_X3_tell _ _ _) rfl zc_2 q1382 q1384 qs75 q109 q1385 dv_X3_tell rfl (Nat.le_of_ble_eq_true rfl) (Nat.le_of_ble_eq_true rfl) (Nat.le_of_ble_eq_true rfl) dX3_shared_42 fun _ σ => ?_
    refine g_aload_n 0 dX3_shared_45 rfl rfl ?_
    refine g_getR fo_2_6 q1062 dX3_shared_46 fun y6 => ?_
    refine g_iload_n 1 dX3_shared_49 rfl rfl ?_
    refine g_iaload dX3_shared_50 fun x7 => ?_
    refine g_aload_n 0 dX3_shared_51 rfl rfl ?_
    refine g_getR fo_2_6 q1062 dX3_shared_52 fun y8 => ?_
    refine g_iload_n 2 dX3_shared_55 rfl rfl ?_
    refine g_iaload dX3_shared_56 fun x9 => ?_
    refine g_iand dX3_shared_57 ?_
    exact g_iret rfl dX3_shared_58
  · refine g_iconst (-1) dX3_shared_14 (by decide) ?_
    exact g_iret rfl dX3_shared_15
theorem dd_X3_shared : yX3_shared.cls ≠ "java/lang/invoke/MethodHandle" ∧ yX3_shared.cls ≠ "java/lang/invoke/VarHandle" ∧ (parseMethodDescriptor yX3_shared.desc).map (fun d => d.parameters.length) = some 2 := by decide +kernel
theorem dv_X3_shared : yX3_shared.cls = RX3 ∧ yX3_shared.cls ≠ "java/lang/invoke/MethodHandle" ∧ yX3_shared.cls ≠ "java/lang/invoke/VarHandle" ∧ (parseMethodDescriptor yX3_shared.desc).map (fun d => d.parameters.length) = some 2 := ⟨rfl, dd_X3_shared⟩
/-! RockingHorseModel.ableMany(I)I -/
abbrev mi_X3_ableMany : Mi := (cX3_ableMany, 4, "RockingHorseModel", 1, some .int, "ableMany")
def f_X3_ableMany_b4 (v0 : Option Nat) (v1 : Int32) (k0 : Int32 → Hp → Option (Int32 × Hp)) (ag : (Int32 × Int32) → Hp → Option (Int32 × Hp)) (a : Int32 × Int32) (σ : Hp) : Option (Int32 × Hp) :=
  gI 2 3 σ v0 fun x1 =>
  if x1 ≤ a.2 then
    k0 a.1 σ
  else
    gR 2 0 σ v0 fun y2 =>
    lI 100 σ y2 (16 + a.2) fun x3 =>
    jn (fun (a4 : Int32) σ =>
        ag ((a.1 + a4), (a.2 + 1)) σ) fun j5 =>
    if x3 = 0 then
      gR 2 6 σ v0 fun y6 =>
      lI 100 σ y6 a.2 fun x7 =>
      bnd (f_X3_has x7 v1 σ) fun x8 σ =>
      if x8 = 0 then
        j5 0 σ
      else
        j5 1 σ
    else
      j5 0 σ
def f_X3_ableMany (v0 : Option Nat) (v1 : Int32) (σ : Hp) : Option (Int32 × Hp) :=
  lp 2000 (f_X3_ableMany_b4 v0 v1 (fun (a9 : Int32) σ =>
      some (a9, σ))) (0, 0) σ
theorem ok_X3_ableMany_b4 (X : Mx) (v0 : Option Nat) (v1 : Int32) {k0 : Int32 → Hp → Option (Int32 × Hp)} (hk0 : ∀ (a : Int32) (σ : Hp), GG X mi_X3_ableMany (QM X rI) 51 [(2, vI a)] [] σ (k0 a σ)) : ∀ (m : Nat) (a : Int32 × Int32) (σ : Hp), GG X mi_X3_ableMany (QM X rI) 4 [(0, vA v0), (1, vI v1), (2, vI a.1), (3, vI a.2)] [] σ (lp m (f_X3_ableMany_b4 v0 v1 k0) a σ) := by
  refine g_lp (fun (a : Int32 × Int32) => [(0, vA v0), (1, vI v1), (2, vI a.1), (3, vI a.2)]) ?_
  intro ag hag a σ
  unfold f_X3_ableMany_b4
  refine g_iload_n 3 dX3_ableMany_4 rfl rfl ?_
  refine g_aload_n 0 dX3_ableMany_5 rfl rfl ?_
  refine g_getI fo_2_3 (by decide) q1059 dX3_ableMany_6 fun x1 => ?_
  refine g_icmp_ge 51 dX3_ableMany_9 (by decide) ?_ ?_
  · exact g_jmp (hk0 _ _) rfl
  · refine g_iload_n 2 dX3_ableMany_12 rfl rfl ?_
    refine g_aload_n 0 dX3_ableMany_13 rfl rfl ?_
    refine g_getR fo_2_0 q1056 dX3_ableMany_14 fun y2 => ?_
    refine g_bipush 16 dX3_ableMany_17 (by decide) ?_
    refine g_iload_n 3 dX3_ableMany_19 rfl rfl ?_
    refine g_iadd dX3_ableMany_20 ?_
    refine g_iaload dX3_ableMany_21 fun x3 => ?_
    refine g_jn (fun j5 => ∀ (a4 : Int32) (σ : Hp), GG X mi_X3_ableMany (QM X rI) 43 [(0, vA v0), (1, vI v1), (3, vI a.2)] [vI a4, vI a.1] σ (j5 a4 σ)) ?_ ?_
    · intro a4 σ
      refine g_iadd dX3_ableMany_43 ?_
      refine g_istore_n 2 dX3_ableMany_44 rfl (lt_b rfl) ?_
      refine g_iinc 1 dX3_ableMany_45 (by decide) rfl (lt_b rfl) ?_
      refine g_goto 4 dX3_ableMany_48 (by decide) ?_
      exact g_jmp (hag _ _) rfl
    · intro j5 hj5
      refine g_if_ne 42 dX3_ableMany_22 (by decide) ?_ ?_
      · refine g_iconst 0 dX3_ableMany_42 (by decide) ?_
        exact g_jmp (hj5 _ _) rfl
      · refine g_aload_n 0 dX3_ableMany_25 rfl rfl ?_
        refine g_getR fo_2_6 q1062 dX3_ableMany_26 fun y6 => ?_
        refine g_iload_n 3 dX3_ableMany_29 rfl rfl ?_
        refine g_iaload dX3_ableMany_30 fun x7 => ?_
        refine g_iload_n 1 dX3_ableMany_31 rfl rfl ?_
        refine g_callS_I (mm_X3_has _ _ _) rfl q1378 q1379 q109 q1380 dd_X3_has rfl (Nat.le_of_ble_eq_true rfl) (Nat.le_of_ble_eq_true rfl) (Nat.le_of_ble_eq_true rfl) dX3_ableMany_32 fun x8 σ => ?_
        refine g_if_eq 42 dX3_ableMany_35 (by decide) ?_ ?_
        · refine g_iconst 0 dX3_ableMany_42 (by decide) ?_
          exact g_jmp (hj5 _ _) rfl
        · refine g_iconst 1 dX3_ableMany_38 (by decide) ?_
          refine g_goto 43 dX3_ableMany_39 (by decide) ?_
          exact g_jmp (hj5 _ _) rfl
theorem mm_X3_ableMany (v0 : Option Nat) (v1 : Int32) (σ : Hp) : MM yX3_ableMany mi_X3_ableMany rI [vA v0, vI v1] σ (f_X3_ableMany v0 v1 σ) := by
  refine mm_of (by decide +kernel) rfl rfl (Nat.le_of_ble_eq_true rfl) ?_
  intro X
  unfold f_X3_ableMany
  refine g_iconst 0 dX3_ableMany_0 (by decide) ?_
  refine g_istore_n 2 dX3_ableMany_1 rfl (lt_b rfl) ?_
  refine g_iconst 0 dX3_ableMany_2 (by decide) ?_
  refine g_istore_n 3 dX3_ableMany_3 rfl (lt_b rfl) ?_
  refine g_jmp (ok_X3_ableMany_b4 X v0 v1 ?_ _ _ _) rfl
  · intro a9 σ
    refine g_iload_n 2 dX3_ableMany_51 rfl rfl ?_
    exact g_iret rfl dX3_ableMany_52
theorem dd_X3_ableMany : yX3_ableMany.cls ≠ "java/lang/invoke/MethodHandle" ∧ yX3_ableMany.cls ≠ "java/lang/invoke/VarHandle" ∧ (parseMethodDescriptor yX3_ableMany.desc).map (fun d => d.parameters.length) = some 1 := by decide +kernel
theorem dv_X3_ableMany : yX3_ableMany.cls = RX3 ∧ yX3_ableMany.cls ≠ "java/lang/invoke/MethodHandle" ∧ yX3_ableMany.cls ≠ "java/lang/invoke/VarHandle" ∧ (parseMethodDescriptor yX3_ableMany.desc).map (fun d => d.parameters.length) = some 1 := ⟨rfl, dd_X3_ableMany⟩
/-! RockingHorseModel.changes()I -/
abbrev mi_X3_changes : Mi := (cX3_changes, 8, "RockingHorseModel", 1, some .int, "changes")
def f_X3_changes_b14 (v0 : Option Nat) (k0 : (Int32 × Int32 × Int32) → Hp → Option (Int32 × Hp)) (ag : (Int32 × Int32 × Int32 × Int32) → Hp → Option (Int32 × Hp)) (a : Int32 × Int32 × Int32 × Int32) (σ : Hp) : Option (Int32 × Hp) :=
  gI 2 1 σ v0 fun x1 =>
  if x1 ≤ a.2.2.2 then
    k0 (a.1, a.2.1, a.2.2.1) σ
  else
    gR 2 0 σ v0 fun y2 =>
    lI 100 σ y2 (a.2.2.2 - 1) fun x3 =>
    gR 2 0 σ v0 fun y4 =>
    lI 100 σ y4 a.2.2.2 fun x5 =>
    jn (fun (a6 : Int32 × Int32 × Int32) σ =>
        ag (a6.1, a6.2.1, a6.2.2, (a.2.2.2 + 1)) σ) fun j7 =>
    if x3 = (-1) then
      j7 (a.1, a.2.1, a.2.2.1) σ
    else
      if x5 = (-1) then
        j7 (a.1, a.2.1, a.2.2.1) σ
      else
        if x3 = x5 then
          j7 (a.1, a.2.1, a.2.2.1) σ
        else
          gR 2 5 σ v0 fun y8 =>
          lI 100 σ y8 x3 fun x9 =>
          gR 2 5 σ v0 fun y10 =>
          lI 100 σ y10 x5 fun x11 =>
          gI 2 2 σ v0 fun x12 =>
          jn (fun (a13 : Int32) σ =>
              j7 ((a.1 + 1), (a.2.1 + a13), (a.2.2.1 + (iabs (x9 - x11)))) σ) fun j14 =>
          if (iabs (x9 - x11)) ≤ x12 then
            j14 0 σ
          else
            j14 1 σ
def f_X3_changes (v0 : Option Nat) (σ : Hp) : Option (Int32 × Hp) :=
  pI 0 2 11 σ v0 0 fun σ =>
  lp 2000 (f_X3_changes_b14 v0 (fun (a15 : Int32 × Int32 × Int32) σ =>
      pI 0 2 10 σ v0 0 fun σ =>
      ob 2 σ v0 fun _ => bnd (f_X3_tell v0 (Int32.toInt64 a15.2.1) σ) fun _ σ =>
      ob 2 σ v0 fun _ => bnd (f_X3_tell v0 (Int32.toInt64 a15.2.2) σ) fun _ σ =>
      some (a15.1, σ))) (0, 0, 0, 1) σ
theorem ok_X3_changes_b14 (X : Mx) (v0 : Option Nat) {k0 : (Int32 × Int32 × Int32) → Hp → Option (Int32 × Hp)} (hk0 : ∀ (a : Int32 × Int32 × Int32) (σ : Hp), GG X mi_X3_changes (QM X rI) 116 [(0, vA v0), (1, vI a.1), (2, vI a.2.1), (3, vI a.2.2)] [] σ (k0 a σ)) : ∀ (m : Nat) (a : Int32 × Int32 × Int32 × Int32) (σ : Hp), GG X mi_X3_changes (QM X rI) 14 [(0, vA v0), (1, vI a.1), (2, vI a.2.1), (3, vI a.2.2.1), (4, vI a.2.2.2)] [] σ (lp m (f_X3_changes_b14 v0 k0) a σ) := by
  refine g_lp (fun (a : Int32 × Int32 × Int32 × Int32) => [(0, vA v0), (1, vI a.1), (2, vI a.2.1), (3, vI a.2.2.1), (4, vI a.2.2.2)]) ?_
  intro ag hag a σ
  unfold f_X3_changes_b14
  refine g_iload dX3_changes_14 rfl ?_
  refine g_aload_n 0 dX3_changes_16 rfl rfl ?_
  refine g_getI fo_2_1 (by decide) q1057 dX3_changes_17 fun x1 => ?_
  refine g_icmp_ge 116 dX3_changes_20 (by decide) ?_ ?_
  · exact g_jmp (hk0 _ _) rfl
  · refine g_aload_n 0 dX3_changes_23 rfl rfl ?_
    refine g_getR fo_2_0 q1056 dX3_changes_24 fun y2 => ?_
    refine g_iload dX3_changes_27 rfl ?_
    refine g_iconst 1 dX3_changes_29 (by decide) ?_
    refine g_isub dX3_changes_30 ?_
    refine g_iaload dX3_changes_31 fun x3 => ?_
    refine g_istore dX3_changes_32 (lt_b rfl) ?_
    refine g_aload_n 0 dX3_changes_34 rfl rfl ?_
    refine g_getR fo_2_0 q1056 dX3_changes_35 fun y4 => ?_
    refine g_iload dX3_changes_38 rfl ?_
    refine g_iaload dX3_changes_40 fun x5 => ?_
    refine g_istore dX3_changes_41 (lt_b rfl) ?_
    refine g_iload dX3_changes_43 rfl ?_
    refine g_iconst (-1) dX3_changes_45 (by decide) ?_
    refine g_jn (fun j7 => ∀ (a6 : Int32 × Int32 × Int32) (σ : Hp), GG X mi_X3_changes (QM X rI) 110 [(0, vA v0), (1, vI a6.1), (2, vI a6.2.1), (3, vI a6.2.2), (4, vI a.2.2.2)] [] σ (j7 a6 σ)) ?_ ?_
    · intro a6 σ
      refine g_iinc 1 dX3_changes_110 (by decide) rfl (lt_b rfl) ?_
      refine g_goto 14 dX3_changes_113 (by decide) ?_
      exact g_jmp (hag _ _) rfl
    · intro j7 hj7
      refine g_icmp_eq 110 dX3_changes_46 (by decide) ?_ ?_
      · exact g_jmp (hj7 _ _) rfl
      · refine g_iload dX3_changes_49 rfl ?_
        refine g_iconst (-1) dX3_changes_51 (by decide) ?_
        refine g_icmp_eq 110 dX3_changes_52 (by decide) ?_ ?_
        · exact g_jmp (hj7 _ _) rfl
        · refine g_iload dX3_changes_55 rfl ?_
          refine g_iload dX3_changes_57 rfl ?_
          refine g_icmp_ne 65 dX3_changes_59 (by decide) ?_ ?_
          · refine g_aload_n 0 dX3_changes_65 rfl rfl ?_
            refine g_getR fo_2_5 q1061 dX3_changes_66 fun y8 => ?_
            refine g_iload dX3_changes_69 rfl ?_
            refine g_iaload dX3_changes_71 fun x9 => ?_
            refine g_aload_n 0 dX3_changes_72 rfl rfl ?_
            refine g_getR fo_2_5 q1061 dX3_changes_73 fun y10 => ?_
            refine g_iload dX3_changes_76 rfl ?_
            refine g_iaload dX3_changes_78 fun x11 => ?_
            refine g_isub dX3_changes_79 ?_
            refine g_mabs q1381 (by decide) (Nat.le_of_ble_eq_true rfl) dX3_changes_80 ?_
            refine g_istore dX3_changes_83 (lt_b rfl) ?_
            refine g_iinc 1 dX3_changes_85 (by decide) rfl (lt_b rfl) ?_
            refine g_iload_n 2 dX3_changes_88 rfl rfl ?_
            refine g_iload dX3_changes_89 rfl ?_
            refine g_aload_n 0 dX3_changes_91 rfl rfl ?_
            refine g_getI fo_2_2 (by decide) q1058 dX3_changes_92 fun x12 => ?_
            refine g_jn (fun j14 => ∀ (a13 : Int32) (σ : Hp), GG X mi_X3_changes (QM X rI) 103 [(0, vA v0), (1, vI (a.1 + 1)), (3, vI a.2.2.1), (4, vI a.2.2.2), (7, vI (iabs (x9 - x11)))] [vI a13, vI a.2.1] σ (j14 a13 σ)) ?_ ?_
            · intro a13 σ
              refine g_iadd dX3_changes_103 ?_
              refine g_istore_n 2 dX3_changes_104 rfl (lt_b rfl) ?_
              refine g_iload_n 3 dX3_changes_105 rfl rfl ?_
              refine g_iload dX3_changes_106 rfl ?_
              refine g_iadd dX3_changes_108 ?_
              refine g_istore_n 3 dX3_changes_109 rfl (lt_b rfl) ?_
              exact g_jmp (hj7 _ _) rfl
            · intro j14 hj14
              refine g_icmp_le 102 dX3_changes_95 (by decide) ?_ ?_
              · refine g_iconst 0 dX3_changes_102 (by decide) ?_
                exact g_jmp (hj14 _ _) rfl
              · refine g_iconst 1 dX3_changes_98 (by decide) ?_
                refine g_goto 103 dX3_changes_99 (by decide) ?_
                exact g_jmp (hj14 _ _) rfl
          · refine g_goto 110 dX3_changes_62 (by decide) ?_
            exact g_jmp (hj7 _ _) rfl
theorem mm_X3_changes (v0 : Option Nat) (σ : Hp) : MM yX3_changes mi_X3_changes rI [vA v0] σ (f_X3_changes v0 σ) := by
  refine mm_of (by decide +kernel) rfl rfl (Nat.le_of_ble_eq_true rfl) ?_
  intro X
  unfold f_X3_changes
  refine g_aload_n 0 dX3_changes_0 rfl rfl ?_
  refine g_iconst 0 dX3_changes_1 (by decide) ?_
  refine g_putI fo_2_11 (by decide) rfl q1067 dX3_changes_2 fun σ => ?_
  refine g_iconst 0 dX3_changes_5 (by decide) ?_
  refine g_istore_n 1 dX3_changes_6 rfl (lt_b rfl) ?_
  refine g_iconst 0 dX3_changes_7 (by decide) ?_
  refine g_istore_n 2 dX3_changes_8 rfl (lt_b rfl) ?_
  refine g_iconst 0 dX3_changes_9 (by decide) ?_
  refine g_istore_n 3 dX3_changes_10 rfl (lt_b rfl) ?_
  refine g_iconst 1 dX3_changes_11 (by decide) ?_
  refine g_istore dX3_changes_12 (lt_b rfl) ?_
  refine g_jmp (ok_X3_changes_b14 X v0 ?_ _ _ _) rfl
  · intro a15 σ
    refine g_aload_n 0 dX3_changes_116 rfl rfl ?_
    refine g_iconst 0 dX3_changes_117 (by decide) ?_
    refine g_putI fo_2_10 (by decide) rfl q1066 dX3_changes_118 fun σ => ?_
    refine g_aload_n 0 dX3_changes_121 rfl rfl ?_
    refine g_iload_n 2 dX3_changes_122 rfl rfl ?_
    refine g_i2l dX3_changes_123 ?_
    refine g_callV_V (mm_X3_tell _ _ _) rfl zc_2 q1382 q1384 qs75 q109 q1385 dv_X3_tell rfl (Nat.le_of_ble_eq_true rfl) (Nat.le_of_ble_eq_true rfl) (Nat.le_of_ble_eq_true rfl) dX3_changes_124 fun _ σ => ?_
    refine g_aload_n 0 dX3_changes_127 rfl rfl ?_
    refine g_iload_n 3 dX3_changes_128 rfl rfl ?_
    refine g_i2l dX3_changes_129 ?_
    refine g_callV_V (mm_X3_tell _ _ _) rfl zc_2 q1382 q1384 qs75 q109 q1385 dv_X3_tell rfl (Nat.le_of_ble_eq_true rfl) (Nat.le_of_ble_eq_true rfl) (Nat.le_of_ble_eq_true rfl) dX3_changes_130 fun _ σ => ?_
    refine g_iload_n 1 dX3_changes_133 rfl rfl ?_
    exact g_iret rfl dX3_changes_134
theorem dd_X3_changes : yX3_changes.cls ≠ "java/lang/invoke/MethodHandle" ∧ yX3_changes.cls ≠ "java/lang/invoke/VarHandle" ∧ (parseMethodDescriptor yX3_changes.desc).map (fun d => d.parameters.length) = some 0 := by decide +kernel
theorem dv_X3_changes : yX3_changes.cls = RX3 ∧ yX3_changes.cls ≠ "java/lang/invoke/MethodHandle" ∧ yX3_changes.cls ≠ "java/lang/invoke/VarHandle" ∧ (parseMethodDescriptor yX3_changes.desc).map (fun d => d.parameters.length) = some 0 := ⟨rfl, dd_X3_changes⟩
/-! RockingHorseModel.meets(III)I -/
abbrev mi_X3_meets : Mi := (cX3_meets, 7, "RockingHorseModel", 3, some .int, "meets")
def f_X3_meets_b36 (v0 : Option Nat) (v1 : Int32) (v2 : Int32) (v3 : Int32) (k0 : (Int32 × Int32) → Hp → Option (Int32 × Hp)) (ag : (Int32 × Int32 × Int32) → Hp → Option (Int32 × Hp)) (a : Int32 × Int32 × Int32) (σ : Hp) : Option (Int32 × Hp) :=
  if 999 < a.2.2 then
    k0 (a.1, a.2.1) σ
  else
    gR 2 5 σ v0 fun y3 =>
    lI 100 σ y3 v1 fun x4 =>
    idv v3 <|
    gR 2 5 σ v0 fun y5 =>
    lI 100 σ y5 v2 fun x6 =>
    idv v3 <|
    jn (fun (a7 : Int32 × Int32) σ =>
        ag (a7.1, a7.2, (a.2.2 + 1)) σ) fun j8 =>
    if (irm ((x4 * a.2.2) + v1) v3) = (irm ((x6 * a.2.2) + v2) v3) then
      jn (fun (a9 : Int32) σ =>
          j8 (a9, (a.2.1 + 1)) σ) fun j10 =>
      if a.2.1 = 0 then
        j10 a.2.2 σ
      else
        j10 a.1 σ
    else
      j8 (a.1, a.2.1) σ
def f_X3_meets (v0 : Option Nat) (v1 : Int32) (v2 : Int32) (v3 : Int32) (σ : Hp) : Option (Int32 × Hp) :=
  pI 0 2 11 σ v0 0 fun σ =>
  ob 2 σ v0 fun _ => bnd (f_X3_areTwo v0 v1 v2 σ) fun x1 σ =>
  if x1 = 0 then
    some ((-1), σ)
  else
    bnd (f_X3_in v3 2 40 σ) fun x2 σ =>
    if x2 = 0 then
      some ((-1), σ)
    else
      lp 2000 (f_X3_meets_b36 v0 v1 v2 v3 (fun (a11 : Int32 × Int32) σ =>
          if a11.2 = 0 then
            some ((-2), σ)
          else
            pI 0 2 10 σ v0 0 fun σ =>
            gR 2 5 σ v0 fun y12 =>
            lI 100 σ y12 v1 fun x13 =>
            idv v3 <|
            ob 2 σ v0 fun _ => bnd (f_X3_tell v0 (Int32.toInt64 (irm ((x13 * a11.1) + v1) v3)) σ) fun _ σ =>
            ob 2 σ v0 fun _ => bnd (f_X3_tell v0 (Int32.toInt64 a11.2) σ) fun _ σ =>
            some (a11.1, σ))) ((-2), 0, 1) σ
theorem ok_X3_meets_b36 (X : Mx) (v0 : Option Nat) (v1 : Int32) (v2 : Int32) (v3 : Int32) {k0 : (Int32 × Int32) → Hp → Option (Int32 × Hp)} (hk0 : ∀ (a : Int32 × Int32) (σ : Hp), GG X mi_X3_meets (QM X rI) 99 [(0, vA v0), (1, vI v1), (3, vI v3), (4, vI a.1), (5, vI a.2)] [] σ (k0 a σ)) : ∀ (m : Nat) (a : Int32 × Int32 × Int32) (σ : Hp), GG X mi_X3_meets (QM X rI) 36 [(0, vA v0), (1, vI v1), (2, vI v2), (3, vI v3), (4, vI a.1), (5, vI a.2.1), (6, vI a.2.2)] [] σ (lp m (f_X3_meets_b36 v0 v1 v2 v3 k0) a σ) := by
  refine g_lp (fun (a : Int32 × Int32 × Int32) => [(0, vA v0), (1, vI v1), (2, vI v2), (3, vI v3), (4, vI a.1), (5, vI a.2.1), (6, vI a.2.2)]) ?_
  intro ag hag a σ
  unfold f_X3_meets_b36
  refine g_iload dX3_meets_36 rfl ?_
  refine g_sipush 999 dX3_meets_38 (by decide) ?_
  refine g_icmp_gt 99 dX3_meets_41 (by decide) ?_ ?_
  · exact g_jmp (hk0 _ _) rfl
  · refine g_aload_n 0 dX3_meets_44 rfl rfl ?_
    refine g_getR fo_2_5 q1061 dX3_meets_45 fun y3 => ?_
    refine g_iload_n 1 dX3_meets_48 rfl rfl ?_
    refine g_iaload dX3_meets_49 fun x4 => ?_
    refine g_iload dX3_meets_50 rfl ?_
    refine g_imul dX3_meets_52 ?_
    refine g_iload_n 1 dX3_meets_53 rfl rfl ?_
    refine g_iadd dX3_meets_54 ?_
    refine g_iload_n 3 dX3_meets_55 rfl rfl ?_
    refine g_irem dX3_meets_56 ?_
    refine g_aload_n 0 dX3_meets_57 rfl rfl ?_
    refine g_getR fo_2_5 q1061 dX3_meets_58 fun y5 => ?_
    refine g_iload_n 2 dX3_meets_61 rfl rfl ?_
    refine g_iaload dX3_meets_62 fun x6 => ?_
    refine g_iload dX3_meets_63 rfl ?_
    refine g_imul dX3_meets_65 ?_
    refine g_iload_n 2 dX3_meets_66 rfl rfl ?_
    refine g_iadd dX3_meets_67 ?_
    refine g_iload_n 3 dX3_meets_68 rfl rfl ?_
    refine g_irem dX3_meets_69 ?_
    refine g_jn (fun j8 => ∀ (a7 : Int32 × Int32) (σ : Hp), GG X mi_X3_meets (QM X rI) 93 [(0, vA v0), (1, vI v1), (2, vI v2), (3, vI v3), (4, vI a7.1), (5, vI a7.2), (6, vI a.2.2)] [] σ (j8 a7 σ)) ?_ ?_
    · intro a7 σ
      refine g_iinc 1 dX3_meets_93 (by decide) rfl (lt_b rfl) ?_
      refine g_goto 36 dX3_meets_96 (by decide) ?_
      exact g_jmp (hag _ _) rfl
    · intro j8 hj8
      refine g_icmp_eq 76 dX3_meets_70 (by decide) ?_ ?_
      · refine g_iload dX3_meets_76 rfl ?_
        refine g_jn (fun j10 => ∀ (a9 : Int32) (σ : Hp), GG X mi_X3_meets (QM X rI) 88 [(0, vA v0), (1, vI v1), (2, vI v2), (3, vI v3), (5, vI a.2.1), (6, vI a.2.2)] [vI a9] σ (j10 a9 σ)) ?_ ?_
        · intro a9 σ
          refine g_istore dX3_meets_88 (lt_b rfl) ?_
          refine g_iinc 1 dX3_meets_90 (by decide) rfl (lt_b rfl) ?_
          exact g_jmp (hj8 _ _) rfl
        · intro j10 hj10
          refine g_if_ne 86 dX3_meets_78 (by decide) ?_ ?_
          · refine g_iload dX3_meets_86 rfl ?_
            exact g_jmp (hj10 _ _) rfl
          · refine g_iload dX3_meets_81 rfl ?_
            refine g_goto 88 dX3_meets_83 (by decide) ?_
            exact g_jmp (hj10 _ _) rfl
      · refine g_goto 93 dX3_meets_73 (by decide) ?_
        exact g_jmp (hj8 _ _) rfl
theorem mm_X3_meets (v0 : Option Nat) (v1 : Int32) (v2 : Int32) (v3 : Int32) (σ : Hp) : MM yX3_meets mi_X3_meets rI [vA v0, vI v1, vI v2, vI v3] σ (f_X3_meets v0 v1 v2 v3 σ) := by
  refine mm_of (by decide +kernel) rfl rfl (Nat.le_of_ble_eq_true rfl) ?_
  intro X
  unfold f_X3_meets
  refine g_aload_n 0 dX3_meets_0 rfl rfl ?_
  refine g_iconst 0 dX3_meets_1 (by decide) ?_
  refine g_putI fo_2_11 (by decide) rfl q1067 dX3_meets_2 fun σ => ?_
  refine g_aload_n 0 dX3_meets_5 rfl rfl ?_
  refine g_iload_n 1 dX3_meets_6 rfl rfl ?_
  refine g_iload_n 2 dX3_meets_7 rfl rfl ?_
  refine g_callV_I (mm_X3_areTwo _ _ _ _) rfl zc_2 q1402 q1404 qs79 q109 q1405 dv_X3_areTwo rfl (Nat.le_of_ble_eq_true rfl) (Nat.le_of_ble_eq_true rfl) (Nat.le_of_ble_eq_true rfl) dX3_meets_8 fun x1 σ => ?_
  refine g_if_eq 24 dX3_meets_11 (by decide) ?_ ?_
  · refine g_iconst (-1) dX3_meets_24 (by decide) ?_
    exact g_iret rfl dX3_meets_25
  · refine g_iload_n 3 dX3_meets_14 rfl rfl ?_
    refine g_iconst 2 dX3_meets_15 (by decide) ?_
    refine g_bipush 40 dX3_meets_16 (by decide) ?_
    refine g_callS_I (mm_X3_in _ _ _ _) rfl q1223 q1224 q109 q1225 dd_X3_in rfl (Nat.le_of_ble_eq_true rfl) (Nat.le_of_ble_eq_true rfl) (Nat.le_of_ble_eq_true rfl) dX3_meets_18 fun x2 σ => ?_
    refine g_if_ne 26 dX3_meets_21 (by decide) ?_ ?_
    · refine g_bipush (-2) dX3_meets_26 (by decide) ?_
      refine g_istore dX3_meets_28 (lt_b rfl) ?_
      refine g_iconst 0 dX3_meets_30 (by decide) ?_
      refine g_istore dX3_meets_31 (lt_b rfl) ?_
      refine g_iconst 1 dX3_meets_33 (by decide) ?_
      refine g_istore dX3_meets_34 (lt_b rfl) ?_
      refine g_jmp (ok_X3_meets_b36 X v0 v1 v2 v3 ?_ _ _ _) rfl
      · intro a11 σ
        refine g_iload dX3_meets_99 rfl ?_
        refine g_if_ne 107 dX3_meets_101 (by decide) ?_ ?_
        · refine g_aload_n 0 dX3_meets_107 rfl rfl ?_
          refine g_iconst 0 dX3_meets_108 (by decide) ?_
          refine g_putI fo_2_10 (by decide) rfl q1066 dX3_meets_109 fun σ => ?_
          refine g_aload_n 0 dX3_meets_112 rfl rfl ?_
          refine g_aload_n 0 dX3_meets_113 rfl rfl ?_
          refine g_getR fo_2_5 q1061 dX3_meets_114 fun y12 => ?_
          refine g_iload_n 1 dX3_meets_117 rfl rfl ?_
          refine g_iaload dX3_meets_118 fun x13 => ?_
          refine g_iload dX3_meets_119 rfl ?_
          refine g_imul dX3_meets_121 ?_
          refine g_iload_n 1 dX3_meets_122 rfl rfl ?_
          refine g_iadd dX3_meets_123 ?_
          refine g_iload_n 3 dX3_meets_124 rfl rfl ?_
          refine g_irem dX3_meets_125 ?_
          refine g_i2l dX3_meets_126 ?_
          refine g_callV_V (mm_X3_tell _ _ _) rfl zc_2 q1382 q1384 qs75 q109 q1385 dv_X3_tell rfl (Nat.le_of_ble_eq_true rfl) (Nat.le_of_ble_eq_true rfl) (Nat.le_of_ble_eq_true rfl) dX3_meets_127 fun _ σ => ?_
          refine g_aload_n 0 dX3_meets_130 rfl rfl ?_
          refine g_iload dX3_meets_131 rfl ?_
          refine g_i2l dX3_meets_133 ?_
          refine g_callV_V (mm_X3_tell _ _ _) rfl zc_2 q1382 q1384 qs75 q109 q1385 dv_X3_tell rfl (Nat.le_of_ble_eq_true rfl) (Nat.le_of_ble_eq_true rfl) (Nat.le_of_ble_eq_true rfl) dX3_meets_134 fun _ σ => ?_
          refine g_iload dX3_meets_137 rfl ?_
          exact g_iret rfl dX3_meets_139
        · refine g_bipush (-2) dX3_meets_104 (by decide) ?_
          exact g_iret rfl dX3_meets_106
    · refine g_iconst (-1) dX3_meets_24 (by decide) ?_
      exact g_iret rfl dX3_meets_25
theorem dd_X3_meets : yX3_meets.cls ≠ "java/lang/invoke/MethodHandle" ∧ yX3_meets.cls ≠ "java/lang/invoke/VarHandle" ∧ (parseMethodDescriptor yX3_meets.desc).map (fun d => d.parameters.length) = some 3 := by decide +kernel
theorem dv_X3_meets : yX3_meets.cls = RX3 ∧ yX3_meets.cls ≠ "java/lang/invoke/MethodHandle" ∧ yX3_meets.cls ≠ "java/lang/invoke/VarHandle" ∧ (parseMethodDescriptor yX3_meets.desc).map (fun d => d.parameters.length) = some 3 := ⟨rfl, dd_X3_meets⟩
/-! RockingHorseModel.found(III)I -/
abbrev mi_X3_found : Mi := (cX3_found, 4, "RockingHorseModel", 2, some .int, "found")
def f_X3_found (v0 : Option Nat) (v1 : Int32) (v2 : Int32) (v3 : Int32) (σ : Hp) : Option (Int32 × Hp) :=
  pI 0 2 11 σ v0 0 fun σ =>
  bnd (f_X3_isHour v1 σ) fun x1 σ =>
  if x1 = 0 then
    some ((-1), σ)
  else
    ob 2 σ v0 fun _ => bnd (f_X3_isMan v0 v2 σ) fun x2 σ =>
    if x2 = 0 then
      some ((-1), σ)
    else
      bnd (f_X3_in v3 0 1 σ) fun x3 σ =>
      if x3 = 0 then
        some ((-1), σ)
      else
        gI 2 45 σ v0 fun x4 =>
        if x4 = 12 then
          some ((-1), σ)
        else
          gR 2 42 σ v0 fun y5 =>
          gI 2 45 σ v0 fun x6 =>
          sI σ y5 x6 v1 fun σ =>
          gR 2 43 σ v0 fun y7 =>
          gI 2 45 σ v0 fun x8 =>
          sI σ y7 x8 v2 fun σ =>
          gI 2 44 σ v0 fun x9 =>
          gI 2 45 σ v0 fun x10 =>
          gI 2 45 σ v0 fun x11 =>
          pI 0 2 44 σ v0 ((x9 &&& ((shl 1 x10) ^^^ (-1))) ||| (shl v3 x11)) fun σ =>
          gI 2 45 σ v0 fun x12 =>
          pI 0 2 45 σ v0 (x12 + 1) fun σ =>
          gI 2 45 σ v0 fun x13 =>
          some (x13, σ)
theorem mm_X3_found (v0 : Option Nat) (v1 : Int32) (v2 : Int32) (v3 : Int32) (σ : Hp) : MM yX3_found mi_X3_found rI [vA v0, vI v1, vI v2, vI v3] σ (f_X3_found v0 v1 v2 v3 σ) := by
  refine mm_of (by decide +kernel) rfl rfl (Nat.le_of_ble_eq_true rfl) ?_
  intro X
  unfold f_X3_found
  refine g_aload_n 0 dX3_found_0 rfl rfl ?_
  refine g_iconst 0 dX3_found_1 (by decide) ?_
  refine g_putI fo_2_11 (by decide) rfl q1067 dX3_found_2 fun σ => ?_
  refine g_iload_n 1 dX3_found_5 rfl rfl ?_
  refine g_callS_I (mm_X3_isHour _ _) rfl q1321 q1322 q109 q1323 dd_X3_isHour rfl (Nat.le_of_ble_eq_true rfl) (Nat.le_of_ble_eq_true rfl) (Nat.le_of_ble_eq_true rfl) dX3_found_6 fun x1 σ => ?_
  refine g_if_eq 38 dX3_found_9 (by decide) ?_ ?_
  · refine g_iconst (-1) dX3_found_38 (by decide) ?_
    exact g_iret rfl dX3_found_39
  · refine g_aload_n 0 dX3_found_12 rfl rfl ?_
    refine g_iload_n 2 dX3_found_13 rfl rfl ?_
    refine g_callV_I (mm_X3_isMan _ _ _) rfl zc_2 q1305 q1307 qs66 q109 q1308 dv_X3_isMan rfl (Nat.le_of_ble_eq_true rfl) (Nat.le_of_ble_eq_true rfl) (Nat.le_of_ble_eq_true rfl) dX3_found_14 fun x2 σ => ?_
    refine g_if_eq 38 dX3_found_17 (by decide) ?_ ?_
    · refine g_iconst (-1) dX3_found_38 (by decide) ?_
      exact g_iret rfl dX3_found_39
    · refine g_iload_n 3 dX3_found_20 rfl rfl ?_
      refine g_iconst 0 dX3_found_21 (by decide) ?_
      refine g_iconst 1 dX3_found_22 (by decide) ?_
      refine g_callS_I (mm_X3_in _ _ _ _) rfl q1223 q1224 q109 q1225 dd_X3_in rfl (Nat.le_of_ble_eq_true rfl) (Nat.le_of_ble_eq_true rfl) (Nat.le_of_ble_eq_true rfl) dX3_found_23 fun x3 σ => ?_
      refine g_if_eq 38 dX3_found_26 (by decide) ?_ ?_
      · refine g_iconst (-1) dX3_found_38 (by decide) ?_
        exact g_iret rfl dX3_found_39
      · refine g_aload_n 0 dX3_found_29 rfl rfl ?_
        refine g_getI fo_2_45 (by decide) q1101 dX3_found_30 fun x4 => ?_
        refine g_bipush 12 dX3_found_33 (by decide) ?_
        refine g_icmp_ne 40 dX3_found_35 (by decide) ?_ ?_
        · refine g_aload_n 0 dX3_found_40 rfl rfl ?_
          refine g_getR fo_2_42 q1098 dX3_found_41 fun y5 => ?_
          refine g_aload_n 0 dX3_found_44 rfl rfl ?_
          refine g_getI fo_2_45 (by decide) q1101 dX3_found_45 fun x6 => ?_
          refine g_iload_n 1 dX3_found_48 rfl rfl ?_
          refine g_iastore dX3_found_49 fun σ => ?_
          refine g_aload_n 0 dX3_found_50 rfl rfl ?_
          refine g_getR fo_2_43 q1099 dX3_found_51 fun y7 => ?_
          refine g_aload_n 0 dX3_found_54 rfl rfl ?_
          refine g_getI fo_2_45 (by decide) q1101 dX3_found_55 fun x8 => ?_
          refine g_iload_n 2 dX3_found_58 rfl rfl ?_
          refine g_iastore dX3_found_59 fun σ => ?_
          refine g_aload_n 0 dX3_found_60 rfl rfl ?_
          refine g_aload_n 0 dX3_found_61 rfl rfl ?_
          refine g_getI fo_2_44 (by decide) q1100 dX3_found_62 fun x9 => ?_
          refine g_iconst 1 dX3_found_65 (by decide) ?_
          refine g_aload_n 0 dX3_found_66 rfl rfl ?_
          refine g_getI fo_2_45 (by decide) q1101 dX3_found_67 fun x10 => ?_
          refine g_ishl dX3_found_70 ?_
          refine g_iconst (-1) dX3_found_71 (by decide) ?_
          refine g_ixor dX3_found_72 ?_
          refine g_iand dX3_found_73 ?_
          refine g_iload_n 3 dX3_found_74 rfl rfl ?_
          refine g_aload_n 0 dX3_found_75 rfl rfl ?_
          refine g_getI fo_2_45 (by decide) q1101 dX3_found_76 fun x11 => ?_
          refine g_ishl dX3_found_79 ?_
          refine g_ior dX3_found_80 ?_
          refine g_putI fo_2_44 (by decide) rfl q1100 dX3_found_81 fun σ => ?_
          refine g_aload_n 0 dX3_found_84 rfl rfl ?_
          refine g_dup dX3_found_85 rfl ?_
          refine g_getI fo_2_45 (by decide) q1101 dX3_found_86 fun x12 => ?_
          refine g_iconst 1 dX3_found_89 (by decide) ?_
          refine g_iadd dX3_found_90 ?_
          refine g_putI fo_2_45 (by decide) rfl q1101 dX3_found_91 fun σ => ?_
          refine g_aload_n 0 dX3_found_94 rfl rfl ?_
          refine g_getI fo_2_45 (by decide) q1101 dX3_found_95 fun x13 => ?_
          exact g_iret rfl dX3_found_98
        · refine g_iconst (-1) dX3_found_38 (by decide) ?_
          exact g_iret rfl dX3_found_39
theorem dd_X3_found : yX3_found.cls ≠ "java/lang/invoke/MethodHandle" ∧ yX3_found.cls ≠ "java/lang/invoke/VarHandle" ∧ (parseMethodDescriptor yX3_found.desc).map (fun d => d.parameters.length) = some 3 := by decide +kernel
theorem dv_X3_found : yX3_found.cls = RX3 ∧ yX3_found.cls ≠ "java/lang/invoke/MethodHandle" ∧ yX3_found.cls ≠ "java/lang/invoke/VarHandle" ∧ (parseMethodDescriptor yX3_found.desc).map (fun d => d.parameters.length) = some 3 := ⟨rfl, dd_X3_found⟩
/-! RockingHorseModel.forget()I -/
abbrev mi_X3_forget : Mi := (cX3_forget, 2, "RockingHorseModel", 0, some .int, "forget")
def f_X3_forget (v0 : Option Nat) (σ : Hp) : Option (Int32 × Hp) :=
  pI 0 2 11 σ v0 0 fun σ =>
  gI 2 45 σ v0 fun x1 =>
  pI 0 2 45 σ v0 0 fun σ =>
  some (x1, σ)
theorem mm_X3_forget (v0 : Option Nat) (σ : Hp) : MM yX3_forget mi_X3_forget rI [vA v0] σ (f_X3_forget v0 σ) := by
  refine mm_of (by decide +kernel) rfl rfl (Nat.le_of_ble_eq_true rfl) ?_
  intro X
  unfold f_X3_forget
  refine g_aload_n 0 dX3_forget_0 rfl rfl ?_
  refine g_iconst 0 dX3_forget_1 (by decide) ?_
  refine g_putI fo_2_11 (by decide) rfl q1067 dX3_forget_2 fun σ => ?_
  refine g_aload_n 0 dX3_forget_5 rfl rfl ?_
  refine g_getI fo_2_45 (by decide) q1101 dX3_forget_6 fun x1 => ?_
  refine g_istore_n 1 dX3_forget_9 rfl (lt_b rfl) ?_
  refine g_aload_n 0 dX3_forget_10 rfl rfl ?_
  refine g_iconst 0 dX3_forget_11 (by decide) ?_
  refine g_putI fo_2_45 (by decide) rfl q1101 dX3_forget_12 fun σ => ?_
  refine g_iload_n 1 dX3_forget_15 rfl rfl ?_
  exact g_iret rfl dX3_forget_16
theorem dd_X3_forget : yX3_forget.cls ≠ "java/lang/invoke/MethodHandle" ∧ yX3_forget.cls ≠ "java/lang/invoke/VarHandle" ∧ (parseMethodDescriptor yX3_forget.desc).map (fun d => d.parameters.length) = some 0 := by decide +kernel
theorem dv_X3_forget : yX3_forget.cls = RX3 ∧ yX3_forget.cls ≠ "java/lang/invoke/MethodHandle" ∧ yX3_forget.cls ≠ "java/lang/invoke/VarHandle" ∧ (parseMethodDescriptor yX3_forget.desc).map (fun d => d.parameters.length) = some 0 := ⟨rfl, dd_X3_forget⟩
/-! RockingHorseModel.tellPart(JJ)V -/
abbrev mi_X3_tellPart : Mi := (cX3_tellPart, 7, "RockingHorseModel", 101, none, "tellPart")
def f_X3_tellPart (v0 : Option Nat) (v1 : Int64) (v3 : Int64) (σ : Hp) : Option (Unit × Hp) :=
  bnd (f_X3_common 100 v1 v3 σ) fun x1 σ =>
  pI 0 2 10 σ v0 0 fun σ =>
  ldv x1 <|
  ob 2 σ v0 fun _ => bnd (f_X3_tell v0 (v1 / x1) σ) fun _ σ =>
  ldv x1 <|
  ob 2 σ v0 fun _ => bnd (f_X3_tell v0 (v3 / x1) σ) fun _ σ =>
  some ((), σ)
theorem mm_X3_tellPart (v0 : Option Nat) (v1 : Int64) (v3 : Int64) (σ : Hp) : MM yX3_tellPart mi_X3_tellPart rV [vA v0, vL v1, vL v3] σ (f_X3_tellPart v0 v1 v3 σ) := by
  refine mm_of (by decide +kernel) rfl rfl (Nat.le_of_ble_eq_true rfl) ?_
  intro X
  unfold f_X3_tellPart
  refine g_lload_n 1 dX3_tellPart_0 rfl rfl ?_
  refine g_lload_n 3 dX3_tellPart_1 rfl rfl ?_
  refine g_callS_L (mm_X3_common 100 _ _ _) rfl q1603 q1604 q109 q1605 dd_X3_common rfl (Nat.le_of_ble_eq_true rfl) (Nat.le_of_ble_eq_true rfl) (Nat.le_of_ble_eq_true rfl) dX3_tellPart_2 fun x1 σ => ?_
  refine g_lstore dX3_tellPart_5 (lt_b rfl) ?_
  refine g_aload_n 0 dX3_tellPart_7 rfl rfl ?_
  refine g_iconst 0 dX3_tellPart_8 (by decide) ?_
  refine g_putI fo_2_10 (by decide) rfl q1066 dX3_tellPart_9 fun σ => ?_
  refine g_aload_n 0 dX3_tellPart_12 rfl rfl ?_
  refine g_lload_n 1 dX3_tellPart_13 rfl rfl ?_
  refine g_lload dX3_tellPart_14 rfl ?_
  refine g_ldiv dX3_tellPart_16 ?_
  refine g_callV_V (mm_X3_tell _ _ _) rfl zc_2 q1382 q1384 qs75 q109 q1385 dv_X3_tell rfl (Nat.le_of_ble_eq_true rfl) (Nat.le_of_ble_eq_true rfl) (Nat.le_of_ble_eq_true rfl) dX3_tellPart_17 fun _ σ => ?_
  refine g_aload_n 0 dX3_tellPart_20 rfl rfl ?_
  refine g_lload_n 3 dX3_tellPart_21 rfl rfl ?_
  refine g_lload dX3_tellPart_22 rfl ?_
  refine g_ldiv dX3_tellPart_24 ?_
  refine g_callV_V (mm_X3_tell _ _ _) rfl zc_2 q1382 q1384 qs75 q109 q1385 dv_X3_tell rfl (Nat.le_of_ble_eq_true rfl) (Nat.le_of_ble_eq_true rfl) (Nat.le_of_ble_eq_true rfl) dX3_tellPart_25 fun _ σ => ?_
  exact g_vret rfl dX3_tellPart_28
theorem dd_X3_tellPart : yX3_tellPart.cls ≠ "java/lang/invoke/MethodHandle" ∧ yX3_tellPart.cls ≠ "java/lang/invoke/VarHandle" ∧ (parseMethodDescriptor yX3_tellPart.desc).map (fun d => d.parameters.length) = some 2 := by decide +kernel
theorem dv_X3_tellPart : yX3_tellPart.cls = RX3 ∧ yX3_tellPart.cls ≠ "java/lang/invoke/MethodHandle" ∧ yX3_tellPart.cls ≠ "java/lang/invoke/VarHandle" ∧ (parseMethodDescriptor yX3_tellPart.desc).map (fun d => d.parameters.length) = some 2 := ⟨rfl, dd_X3_tellPart⟩
/-! RockingHorseModel.well()I -/
abbrev mi_X3_well : Mi := (cX3_well, 1, "RockingHorseModel", 1, some .int, "well")
def f_X3_well (v0 : Option Nat) (σ : Hp) : Option (Int32 × Hp) :=
  gI 2 3 σ v0 fun x1 =>
  gR 2 0 σ v0 fun y2 =>
  ob 2 σ v0 fun _ => bnd (f_X3_illBits v0 y2 σ) fun x3 σ =>
  some ((((shl 1 x1) - 1) &&& (x3 ^^^ (-1))), σ)
theorem mm_X3_well (v0 : Option Nat) (σ : Hp) : MM yX3_well mi_X3_well rI [vA v0] σ (f_X3_well v0 σ) := by
  refine mm_of (by decide +kernel) rfl rfl (Nat.le_of_ble_eq_true rfl) ?_
  intro X
  unfold f_X3_well
  refine g_iconst 1 dX3_well_0 (by decide) ?_
  refine g_aload_n 0 dX3_well_1 rfl rfl ?_
  refine g_getI fo_2_3 (by decide) q1059 dX3_well_2 fun x1 => ?_
  refine g_ishl dX3_well_5 ?_
  refine g_iconst 1 dX3_well_6 (by decide) ?_
  refine g_isub dX3_well_7 ?_
  refine g_aload_n 0 dX3_well_8 rfl rfl ?_
  refine g_aload_n 0 dX3_well_9 rfl rfl ?_
  refine g_getR fo_2_0 q1056 dX3_well_10 fun y2 => ?_
  refine g_callV_I (mm_X3_illBits _ _ _) rfl zc_2 q1362 q1364 qs72 q109 q1365 dv_X3_illBits rfl (Nat.le_of_ble_eq_true rfl) (Nat.le_of_ble_eq_true rfl) (Nat.le_of_ble_eq_true rfl) dX3_well_13 fun x3 σ => ?_
  refine g_iconst (-1) dX3_well_16 (by decide) ?_
  refine g_ixor dX3_well_17 ?_
  refine g_iand dX3_well_18 ?_
  exact g_iret rfl dX3_well_19
theorem dd_X3_well : yX3_well.cls ≠ "java/lang/invoke/MethodHandle" ∧ yX3_well.cls ≠ "java/lang/invoke/VarHandle" ∧ (parseMethodDescriptor yX3_well.desc).map (fun d => d.parameters.length) = some 0 := by decide +kernel
theorem dv_X3_well : yX3_well.cls = RX3 ∧ yX3_well.cls ≠ "java/lang/invoke/MethodHandle" ∧ yX3_well.cls ≠ "java/lang/invoke/VarHandle" ∧ (parseMethodDescriptor yX3_well.desc).map (fun d => d.parameters.length) = some 0 := ⟨rfl, dd_X3_well⟩
