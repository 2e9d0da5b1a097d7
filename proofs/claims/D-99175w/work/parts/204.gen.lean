set_option maxRecDepth 100000
/-! RockingHorse.first(I)I -/
abbrev mi_X1_first : Mi := (cX1_first, 3, "RockingHorse", 104, some .int, "first")
def f_X1_first_b27 (v0 : Option Nat) (v1 : Int32) (k0 : Unit → Hp → Option (Int32 × Hp)) (ag : Int32 → Hp → Option (Int32 × Hp)) (a : Int32) (σ : Hp) : Option (Int32 × Hp) :=
  if v1 ≤ a then
    k0 () σ
  else
    gR 0 1 σ v0 fun y4 =>
    ob 0 σ v0 fun _ => bnd (f_X1_nightGoes v0 y4 σ) fun _ σ =>
    gI 0 28 σ v0 fun x5 =>
    if x5 = 0 then
      ag (a + 1) σ
    else
      pI 0 0 52 σ v0 0 fun σ =>
      gI 0 28 σ v0 fun x6 =>
      bnd (f_J10_numberOfTrailingZeros x6 σ) fun x7 σ =>
      ob 0 σ v0 fun _ => bnd (f_X1_tells v0 (Int32.toInt64 x7) σ) fun _ σ =>
      some (a, σ)
def f_X1_first (v0 : Option Nat) (v1 : Int32) (σ : Hp) : Option (Int32 × Hp) :=
  bnd (f_X1_in (Int32.toInt64 v1) 1 60 σ) fun x1 σ =>
  if x1 = 0 then
    some ((-1), σ)
  else
    gR 0 1 σ v0 fun y2 =>
    gR 0 0 σ v0 fun y3 =>
    ob 1 σ y2 fun _ => bnd (f_X2_becomes y2 y3 σ) fun _ σ =>
    lp 2000 (f_X1_first_b27 v0 v1 (fun (a8 : Unit) σ =>
        some ((-2), σ))) 0 σ
theorem ok_X1_first_b27 (X : Mx) (v0 : Option Nat) (v1 : Int32) {k0 : Unit → Hp → Option (Int32 × Hp)} (hk0 : ∀ (a : Unit) (σ : Hp), GG X mi_X1_first (QM X rI) 75 [] [] σ (k0 a σ)) : ∀ (m : Nat) (a : Int32) (σ : Hp), GG X mi_X1_first (QM X rI) 27 [(0, vA v0), (1, vI v1), (2, vI a)] [] σ (lp m (f_X1_first_b27 v0 v1 k0) a σ) := by
  refine g_lp (fun (a : Int32) => [(0, vA v0), (1, vI v1), (2, vI a)]) ?_
  intro ag hag a σ
  unfold f_X1_first_b27
  refine g_iload_n 2 dX1_first_27 rfl rfl ?_
  refine g_iload_n 1 dX1_first_28 rfl rfl ?_
  refine g_icmp_ge 75 dX1_first_29 (by decide) ?_ ?_
  · exact g_jmp (hk0 _ _) rfl
  · refine g_aload_n 0 dX1_first_32 rfl rfl ?_
    refine g_aload_n 0 dX1_first_33 rfl rfl ?_
    refine g_getR fo_0_1 q172 dX1_first_34 fun y4 => ?_
    refine g_callV_V (mm_X1_nightGoes _ _ _) rfl zc_0 q669 q671 qs19 q107 q672 dv_X1_nightGoes rfl (Nat.le_of_ble_eq_true rfl) (Nat.le_of_ble_eq_true rfl) (Nat.le_of_ble_eq_true rfl) dX1_first_37 fun _ σ => ?_
    refine g_aload_n 0 dX1_first_40 rfl rfl ?_
    refine g_getI fo_0_28 (by decide) q205 dX1_first_41 fun x5 => ?_
    refine g_if_ne 50 dX1_first_44 (by decide) ?_ ?_
    · refine g_aload_n 0 dX1_first_50 rfl rfl ?_
      refine g_iconst 0 dX1_first_51 (by decide) ?_
      refine g_putI fo_0_52 (by decide) rfl q229 dX1_first_52 fun σ => ?_
      refine g_aload_n 0 dX1_first_55 rfl rfl ?_
      refine g_aload_n 0 dX1_first_56 rfl rfl ?_
      refine g_getI fo_0_28 (by decide) q205 dX1_first_57 fun x6 => ?_
      refine g_callS_I (mm_J10_numberOfTrailingZeros _ _) rfl q717 q718 q125 q719 dd_J10_numberOfTrailingZeros rfl (Nat.le_of_ble_eq_true rfl) (Nat.le_of_ble_eq_true rfl) (Nat.le_of_ble_eq_true rfl) dX1_first_60 fun x7 σ => ?_
      refine g_i2l dX1_first_63 ?_
      refine g_callV_V (mm_X1_tells _ _ _) rfl zc_0 q683 q685 qs21 q107 q686 dv_X1_tells rfl (Nat.le_of_ble_eq_true rfl) (Nat.le_of_ble_eq_true rfl) (Nat.le_of_ble_eq_true rfl) dX1_first_64 fun _ σ => ?_
      refine g_iload_n 2 dX1_first_67 rfl rfl ?_
      exact g_iret rfl dX1_first_68
    · refine g_goto 69 dX1_first_47 (by decide) ?_
      refine g_iinc 1 dX1_first_69 (by decide) rfl (lt_b rfl) ?_
      refine g_goto 27 dX1_first_72 (by decide) ?_
      exact g_jmp (hag _ _) rfl
theorem mm_X1_first (v0 : Option Nat) (v1 : Int32) (σ : Hp) : MM yX1_first mi_X1_first rI [vA v0, vI v1] σ (f_X1_first v0 v1 σ) := by
  refine mm_of (by decide +kernel) rfl rfl (Nat.le_of_ble_eq_true rfl) ?_
  intro X
  unfold f_X1_first
  refine g_iload_n 1 dX1_first_0 rfl rfl ?_
  refine g_i2l dX1_first_1 ?_
  refine g_lconst 1 dX1_first_2 (by decide) ?_
  refine g_ldc2_w dX1_first_3 q716 ?_
  refine g_callS_I (mm_X1_in _ _ _ _) rfl q346 q347 q107 q348 dd_X1_in rfl (Nat.le_of_ble_eq_true rfl) (Nat.le_of_ble_eq_true rfl) (Nat.le_of_ble_eq_true rfl) dX1_first_6 fun x1 σ => ?_
  refine g_if_ne 14 dX1_first_9 (by decide) ?_ ?_
  · refine g_aload_n 0 dX1_first_14 rfl rfl ?_
    refine g_getR fo_0_1 q172 dX1_first_15 fun y2 => ?_
    refine g_aload_n 0 dX1_first_18 rfl rfl ?_
    refine g_getR fo_0_0 q171 dX1_first_19 fun y3 => ?_
    refine g_callV_V (mm_X2_becomes _ _ _) rfl zc_1 q628 q629 q630 q108 q631 dv_X2_becomes rfl (Nat.le_of_ble_eq_true rfl) (Nat.le_of_ble_eq_true rfl) (Nat.le_of_ble_eq_true rfl) dX1_first_22 fun _ σ => ?_
    refine g_iconst 0 dX1_first_25 (by decide) ?_
    refine g_istore_n 2 dX1_first_26 rfl (lt_b rfl) ?_
    refine g_jmp (ok_X1_first_b27 X v0 v1 ?_ _ _ _) rfl
    · intro a8 σ
      refine g_bipush (-2) dX1_first_75 (by decide) ?_
      exact g_iret rfl dX1_first_77
  · refine g_iconst (-1) dX1_first_12 (by decide) ?_
    exact g_iret rfl dX1_first_13
theorem dd_X1_first : yX1_first.cls ≠ "java/lang/invoke/MethodHandle" ∧ yX1_first.cls ≠ "java/lang/invoke/VarHandle" ∧ (parseMethodDescriptor yX1_first.desc).map (fun d => d.parameters.length) = some 1 := by decide +kernel
theorem dv_X1_first : yX1_first.cls = RX1 ∧ yX1_first.cls ≠ "java/lang/invoke/MethodHandle" ∧ yX1_first.cls ≠ "java/lang/invoke/VarHandle" ∧ (parseMethodDescriptor yX1_first.desc).map (fun d => d.parameters.length) = some 1 := ⟨rfl, dd_X1_first⟩
/-! RockingHorse.vigil(I)I -/
abbrev mi_X1_vigil : Mi := (cX1_vigil, 6, "RockingHorse", 104, some .int, "vigil")
def f_X1_vigil_b35 (v0 : Option Nat) (v1 : Int32) (k0 : (Int32 × Int32) → Hp → Option (Int32 × Hp)) (ag : (Int32 × Int32 × Int32 × Int32) → Hp → Option (Int32 × Hp)) (a : Int32 × Int32 × Int32 × Int32) (σ : Hp) : Option (Int32 × Hp) :=
  if v1 ≤ a.2.2.2 then
    k0 (a.1, a.2.1) σ
  else
    gR 0 1 σ v0 fun y4 =>
    ob 0 σ v0 fun _ => bnd (f_X1_nightGoes v0 y4 σ) fun _ σ =>
    gI 0 28 σ v0 fun x5 =>
    jn (fun (a6 : Int32) σ =>
        jn (fun (a8 : Int32) σ =>
            ag ((imax a.1 a6), a8, a6, (a.2.2.2 + 1)) σ) fun j9 =>
        if a6 ≤ a.1 then
          j9 a.2.1 σ
        else
          j9 ((a.2.2.2 - a6) + 1) σ) fun j7 =>
    if x5 = 0 then
      j7 (a.2.2.1 + 1) σ
    else
      j7 0 σ
def f_X1_vigil (v0 : Option Nat) (v1 : Int32) (σ : Hp) : Option (Int32 × Hp) :=
  bnd (f_X1_in (Int32.toInt64 v1) 0 60 σ) fun x1 σ =>
  if x1 = 0 then
    some ((-1), σ)
  else
    gR 0 1 σ v0 fun y2 =>
    gR 0 0 σ v0 fun y3 =>
    ob 1 σ y2 fun _ => bnd (f_X2_becomes y2 y3 σ) fun _ σ =>
    lp 2000 (f_X1_vigil_b35 v0 v1 (fun (a10 : Int32 × Int32) σ =>
        pI 0 0 52 σ v0 0 fun σ =>
        ob 0 σ v0 fun _ => bnd (f_X1_tells v0 (Int32.toInt64 a10.2) σ) fun _ σ =>
        some (a10.1, σ))) (0, (-1), 0, 0) σ
theorem ok_X1_vigil_b35 (X : Mx) (v0 : Option Nat) (v1 : Int32) {k0 : (Int32 × Int32) → Hp → Option (Int32 × Hp)} (hk0 : ∀ (a : Int32 × Int32) (σ : Hp), GG X mi_X1_vigil (QM X rI) 97 [(0, vA v0), (2, vI a.1), (3, vI a.2)] [] σ (k0 a σ)) : ∀ (m : Nat) (a : Int32 × Int32 × Int32 × Int32) (σ : Hp), GG X mi_X1_vigil (QM X rI) 35 [(0, vA v0), (1, vI v1), (2, vI a.1), (3, vI a.2.1), (4, vI a.2.2.1), (5, vI a.2.2.2)] [] σ (lp m (f_X1_vigil_b35 v0 v1 k0) a σ) := by
  refine g_lp (fun (a : Int32 × Int32 × Int32 × Int32) => [(0, vA v0), (1, vI v1), (2, vI a.1), (3, vI a.2.1), (4, vI a.2.2.1), (5, vI a.2.2.2)]) ?_
  intro ag hag a σ
  unfold f_X1_vigil_b35
  refine g_iload dX1_vigil_35 rfl ?_
  refine g_iload_n 1 dX1_vigil_37 rfl rfl ?_
  refine g_icmp_ge 97 dX1_vigil_38 (by decide) ?_ ?_
  · exact g_jmp (hk0 _ _) rfl
  · refine g_aload_n 0 dX1_vigil_41 rfl rfl ?_
    refine g_aload_n 0 dX1_vigil_42 rfl rfl ?_
    refine g_getR fo_0_1 q172 dX1_vigil_43 fun y4 => ?_
    refine g_callV_V (mm_X1_nightGoes _ _ _) rfl zc_0 q669 q671 qs19 q107 q672 dv_X1_nightGoes rfl (Nat.le_of_ble_eq_true rfl) (Nat.le_of_ble_eq_true rfl) (Nat.le_of_ble_eq_true rfl) dX1_vigil_46 fun _ σ => ?_
    refine g_aload_n 0 dX1_vigil_49 rfl rfl ?_
    refine g_getI fo_0_28 (by decide) q205 dX1_vigil_50 fun x5 => ?_
    refine g_jn (fun j7 => ∀ (a6 : Int32) (σ : Hp), GG X mi_X1_vigil (QM X rI) 64 [(0, vA v0), (1, vI v1), (2, vI a.1), (3, vI a.2.1), (5, vI a.2.2.2)] [vI a6] σ (j7 a6 σ)) ?_ ?_
    · intro a6 σ
      refine g_istore dX1_vigil_64 (lt_b rfl) ?_
      refine g_iload dX1_vigil_66 rfl ?_
      refine g_iload_n 2 dX1_vigil_68 rfl rfl ?_
      refine g_jn (fun j9 => ∀ (a8 : Int32) (σ : Hp), GG X mi_X1_vigil (QM X rI) 83 [(0, vA v0), (1, vI v1), (2, vI a.1), (4, vI a6), (5, vI a.2.2.2)] [vI a8] σ (j9 a8 σ)) ?_ ?_
      · intro a8 σ
        refine g_istore_n 3 dX1_vigil_83 rfl (lt_b rfl) ?_
        refine g_iload_n 2 dX1_vigil_84 rfl rfl ?_
        refine g_iload dX1_vigil_85 rfl ?_
        refine g_mmax q608 (by decide) (Nat.le_of_ble_eq_true rfl) dX1_vigil_87 ?_
        refine g_istore_n 2 dX1_vigil_90 rfl (lt_b rfl) ?_
        refine g_iinc 1 dX1_vigil_91 (by decide) rfl (lt_b rfl) ?_
        refine g_goto 35 dX1_vigil_94 (by decide) ?_
        exact g_jmp (hag _ _) rfl
      · intro j9 hj9
        refine g_icmp_le 82 dX1_vigil_69 (by decide) ?_ ?_
        · refine g_iload_n 3 dX1_vigil_82 rfl rfl ?_
          exact g_jmp (hj9 _ _) rfl
        · refine g_iload dX1_vigil_72 rfl ?_
          refine g_iload dX1_vigil_74 rfl ?_
          refine g_isub dX1_vigil_76 ?_
          refine g_iconst 1 dX1_vigil_77 (by decide) ?_
          refine g_iadd dX1_vigil_78 ?_
          refine g_goto 83 dX1_vigil_79 (by decide) ?_
          exact g_jmp (hj9 _ _) rfl
    · intro j7 hj7
      refine g_if_ne 63 dX1_vigil_53 (by decide) ?_ ?_
      · refine g_iconst 0 dX1_vigil_63 (by decide) ?_
        exact g_jmp (hj7 _ _) rfl
      · refine g_iload dX1_vigil_56 rfl ?_
        refine g_iconst 1 dX1_vigil_58 (by decide) ?_
        refine g_iadd dX1_vigil_59 ?_
        refine g_goto 64 dX1_vigil_60 (by decide) ?_
        exact g_jmp (hj7 _ _) rfl
theorem mm_X1_vigil (v0 : Option Nat) (v1 : Int32) (σ : Hp) : MM yX1_vigil mi_X1_vigil rI [vA v0, vI v1] σ (f_X1_vigil v0 v1 σ) := by
  refine mm_of (by decide +kernel) rfl rfl (Nat.le_of_ble_eq_true rfl) ?_
  intro X
  unfold f_X1_vigil
  refine g_iload_n 1 dX1_vigil_0 rfl rfl ?_
  refine g_i2l dX1_vigil_1 ?_
  refine g_lconst 0 dX1_vigil_2 (by decide) ?_
  refine g_ldc2_w dX1_vigil_3 q716 ?_
  refine g_callS_I (mm_X1_in _ _ _ _) rfl q346 q347 q107 q348 dd_X1_in rfl (Nat.le_of_ble_eq_true rfl) (Nat.le_of_ble_eq_true rfl) (Nat.le_of_ble_eq_true rfl) dX1_vigil_6 fun x1 σ => ?_
  refine g_if_ne 14 dX1_vigil_9 (by decide) ?_ ?_
  · refine g_aload_n 0 dX1_vigil_14 rfl rfl ?_
    refine g_getR fo_0_1 q172 dX1_vigil_15 fun y2 => ?_
    refine g_aload_n 0 dX1_vigil_18 rfl rfl ?_
    refine g_getR fo_0_0 q171 dX1_vigil_19 fun y3 => ?_
    refine g_callV_V (mm_X2_becomes _ _ _) rfl zc_1 q628 q629 q630 q108 q631 dv_X2_becomes rfl (Nat.le_of_ble_eq_true rfl) (Nat.le_of_ble_eq_true rfl) (Nat.le_of_ble_eq_true rfl) dX1_vigil_22 fun _ σ => ?_
    refine g_iconst 0 dX1_vigil_25 (by decide) ?_
    refine g_istore_n 2 dX1_vigil_26 rfl (lt_b rfl) ?_
    refine g_iconst (-1) dX1_vigil_27 (by decide) ?_
    refine g_istore_n 3 dX1_vigil_28 rfl (lt_b rfl) ?_
    refine g_iconst 0 dX1_vigil_29 (by decide) ?_
    refine g_istore dX1_vigil_30 (lt_b rfl) ?_
    refine g_iconst 0 dX1_vigil_32 (by decide) ?_
    refine g_istore dX1_vigil_33 (lt_b rfl) ?_
    refine g_jmp (ok_X1_vigil_b35 X v0 v1 ?_ _ _ _) rfl
    · intro a10 σ
      refine g_aload_n 0 dX1_vigil_97 rfl rfl ?_
      refine g_iconst 0 dX1_vigil_98 (by decide) ?_
      refine g_putI fo_0_52 (by decide) rfl q229 dX1_vigil_99 fun σ => ?_
      refine g_aload_n 0 dX1_vigil_102 rfl rfl ?_
      refine g_iload_n 3 dX1_vigil_103 rfl rfl ?_
      refine g_i2l dX1_vigil_104 ?_
      refine g_callV_V (mm_X1_tells _ _ _) rfl zc_0 q683 q685 qs21 q107 q686 dv_X1_tells rfl (Nat.le_of_ble_eq_true rfl) (Nat.le_of_ble_eq_true rfl) (Nat.le_of_ble_eq_true rfl) dX1_vigil_105 fun _ σ => ?_
      refine g_iload_n 2 dX1_vigil_108 rfl rfl ?_
      exact g_iret rfl dX1_vigil_109
  · refine g_iconst (-1) dX1_vigil_12 (by decide) ?_
    exact g_iret rfl dX1_vigil_13
theorem dd_X1_vigil : yX1_vigil.cls ≠ "java/lang/invoke/MethodHandle" ∧ yX1_vigil.cls ≠ "java/lang/invoke/VarHandle" ∧ (parseMethodDescriptor yX1_vigil.desc).map (fun d => d.parameters.length) = some 1 := by decide +kernel
theorem dv_X1_vigil : yX1_vigil.cls = RX1 ∧ yX1_vigil.cls ≠ "java/lang/invoke/MethodHandle" ∧ yX1_vigil.cls ≠ "java/lang/invoke/VarHandle" ∧ (parseMethodDescriptor yX1_vigil.desc).map (fun d => d.parameters.length) = some 1 := ⟨rfl, dd_X1_vigil⟩
/-! RockingHorse.laysLeast()I -/
abbrev mi_X1_laysLeast : Mi := (cX1_laysLeast, 5, "RockingHorse", 2, some .int, "laysLeast")
def f_X1_laysLeast_b2 (v0 : Option Nat) (k0 : Unit → Hp → Option (Int32 × Hp)) (ag : Int32 → Hp → Option (Int32 × Hp)) (a : Int32) (σ : Hp) : Option (Int32 × Hp) :=
  if 256 ≤ a then
    k0 () σ
  else
    gR 0 39 σ v0 fun y1 =>
    jn (fun (a2 : Int32) σ =>
        sI σ y1 a a2 fun σ =>
        ag (a + 1) σ) fun j3 =>
    if a = 0 then
      j3 0 σ
    else
      j3 1000000 σ
def f_X1_laysLeast_b67 (v0 : Option Nat) (v1 : Int32) (v2 : Int32) (v3 : Int32) (k0 : Unit → Hp → Option (Int32 × Hp)) (ag : Int32 → Hp → Option (Int32 × Hp)) (a : Int32) (σ : Hp) : Option (Int32 × Hp) :=
  if a ≤ 0 then
    k0 () σ
  else
    bnd (f_J10_bitCount a σ) fun x9 σ =>
    gR 0 2 σ v0 fun y10 =>
    lI 100 σ y10 v1 fun x11 =>
    jn (fun (a12 : Unit) σ =>
        ag ((a - 1) &&& v3) σ) fun j13 =>
    if x11 < x9 then
      j13 () σ
    else
      gR 0 38 σ v0 fun y14 =>
      lI 100 σ y14 a fun x15 =>
      gI 0 42 σ v0 fun x16 =>
      if x16 < x15 then
        j13 () σ
      else
        gR 0 39 σ v0 fun y17 =>
        gR 0 39 σ v0 fun y18 =>
        lI 100 σ y18 v2 fun x19 =>
        gR 0 39 σ v0 fun y20 =>
        lI 100 σ y20 (v2 &&& (a ^^^ (-1))) fun x21 =>
        gR 0 38 σ v0 fun y22 =>
        lI 100 σ y22 a fun x23 =>
        sI σ y17 v2 (imin x19 (x21 + x23)) fun σ =>
        j13 () σ
def f_X1_laysLeast_b51 (v0 : Option Nat) (v1 : Int32) (k0 : Unit → Hp → Option (Int32 × Hp)) (ag : Int32 → Hp → Option (Int32 × Hp)) (a : Int32) (σ : Hp) : Option (Int32 × Hp) :=
  if a ≤ 0 then
    k0 () σ
  else
    gR 0 35 σ v0 fun y7 =>
    lI 100 σ y7 v1 fun x8 =>
    lp 2000 (f_X1_laysLeast_b67 v0 v1 a (a &&& x8) (fun (a24 : Unit) σ =>
        ag (a + (-1)) σ)) (a &&& x8) σ
def f_X1_laysLeast_b33 (v0 : Option Nat) (k0 : Unit → Hp → Option (Int32 × Hp)) (ag : Int32 → Hp → Option (Int32 × Hp)) (a : Int32) (σ : Hp) : Option (Int32 × Hp) :=
  gI 0 5 σ v0 fun x5 =>
  if x5 ≤ a then
    k0 () σ
  else
    ob 0 σ v0 fun _ => bnd (f_X1_pricesSets v0 a σ) fun _ σ =>
    ob 0 σ v0 fun _ => bnd (f_X1_wholeNight v0 σ) fun x6 σ =>
    lp 2000 (f_X1_laysLeast_b51 v0 a (fun (a25 : Unit) σ =>
        ag (a + 1) σ)) x6 σ
def f_X1_laysLeast (v0 : Option Nat) (σ : Hp) : Option (Int32 × Hp) :=
  lp 2000 (f_X1_laysLeast_b2 v0 (fun (a4 : Unit) σ =>
      lp 2000 (f_X1_laysLeast_b33 v0 (fun (a26 : Unit) σ =>
          gR 0 39 σ v0 fun y27 =>
          ob 0 σ v0 fun _ => bnd (f_X1_wholeNight v0 σ) fun x28 σ =>
          lI 100 σ y27 x28 fun x29 =>
          some ((imin 1000000 x29), σ))) 0 σ)) 0 σ
theorem ok_X1_laysLeast_b2 (X : Mx) (v0 : Option Nat) {k0 : Unit → Hp → Option (Int32 × Hp)} (hk0 : ∀ (a : Unit) (σ : Hp), GG X mi_X1_laysLeast (QM X rI) 31 [(0, vA v0)] [] σ (k0 a σ)) : ∀ (m : Nat) (a : Int32) (σ : Hp), GG X mi_X1_laysLeast (QM X rI) 2 [(0, vA v0), (1, vI a)] [] σ (lp m (f_X1_laysLeast_b2 v0 k0) a σ) := by
  refine g_lp (fun (a : Int32) => [(0, vA v0), (1, vI a)]) ?_
  intro ag hag a σ
  unfold f_X1_laysLeast_b2
  refine g_iload_n 1 dX1_laysLeast_2 rfl rfl ?_
  refine g_sipush 256 dX1_laysLeast_3 (by decide) ?_
  refine g_icmp_ge 31 dX1_laysLeast_6 (by decide) ?_ ?_
  · exact g_jmp (hk0 _ _) rfl
  · refine g_aload_n 0 dX1_laysLeast_9 rfl rfl ?_
    refine g_getR fo_0_39 q216 dX1_laysLeast_10 fun y1 => ?_
    refine g_iload_n 1 dX1_laysLeast_13 rfl rfl ?_
    refine g_iload_n 1 dX1_laysLeast_14 rfl rfl ?_
    refine g_jn (fun j3 => ∀ (a2 : Int32) (σ : Hp), GG X mi_X1_laysLeast (QM X rI) 24 [(0, vA v0), (1, vI a)] [vI a2, vI a, vA y1] σ (j3 a2 σ)) ?_ ?_
    · intro a2 σ
      refine g_iastore dX1_laysLeast_24 fun σ => ?_
      refine g_iinc 1 dX1_laysLeast_25 (by decide) rfl (lt_b rfl) ?_
      refine g_goto 2 dX1_laysLeast_28 (by decide) ?_
      exact g_jmp (hag _ _) rfl
    · intro j3 hj3
      refine g_if_ne 22 dX1_laysLeast_15 (by decide) ?_ ?_
      · refine g_ldc dX1_laysLeast_22 q170 ?_
        exact g_jmp (hj3 _ _) rfl
      · refine g_iconst 0 dX1_laysLeast_18 (by decide) ?_
        refine g_goto 24 dX1_laysLeast_19 (by decide) ?_
        exact g_jmp (hj3 _ _) rfl
theorem ok_X1_laysLeast_b67 (X : Mx) (v0 : Option Nat) (v1 : Int32) (v2 : Int32) (v3 : Int32) {k0 : Unit → Hp → Option (Int32 × Hp)} (hk0 : ∀ (a : Unit) (σ : Hp), GG X mi_X1_laysLeast (QM X rI) 145 [(0, vA v0), (1, vI v1), (2, vI v2)] [] σ (k0 a σ)) : ∀ (m : Nat) (a : Int32) (σ : Hp), GG X mi_X1_laysLeast (QM X rI) 67 [(0, vA v0), (1, vI v1), (2, vI v2), (3, vI v3), (4, vI a)] [] σ (lp m (f_X1_laysLeast_b67 v0 v1 v2 v3 k0) a σ) := by
  refine g_lp (fun (a : Int32) => [(0, vA v0), (1, vI v1), (2, vI v2), (3, vI v3), (4, vI a)]) ?_
  intro ag hag a σ
  unfold f_X1_laysLeast_b67
  refine g_iload dX1_laysLeast_67 rfl ?_
  refine g_if_le 145 dX1_laysLeast_69 (by decide) ?_ ?_
  · exact g_jmp (hk0 _ _) rfl
  · refine g_iload dX1_laysLeast_72 rfl ?_
    refine g_callS_I (mm_J10_bitCount _ _) rfl q659 q600 q125 q601 dd_J10_bitCount rfl (Nat.le_of_ble_eq_true rfl) (Nat.le_of_ble_eq_true rfl) (Nat.le_of_ble_eq_true rfl) dX1_laysLeast_74 fun x9 σ => ?_
    refine g_aload_n 0 dX1_laysLeast_77 rfl rfl ?_
    refine g_getR fo_0_2 q173 dX1_laysLeast_78 fun y10 => ?_
    refine g_iload_n 1 dX1_laysLeast_81 rfl rfl ?_
    refine g_iaload dX1_laysLeast_82 fun x11 => ?_
    refine g_jn (fun j13 => ∀ (a12 : Unit) (σ : Hp), GG X mi_X1_laysLeast (QM X rI) 134 [(0, vA v0), (1, vI v1), (2, vI v2), (3, vI v3), (4, vI a)] [] σ (j13 a12 σ)) ?_ ?_
    · intro a12 σ
      refine g_iload dX1_laysLeast_134 rfl ?_
      refine g_iconst 1 dX1_laysLeast_136 (by decide) ?_
      refine g_isub dX1_laysLeast_137 ?_
      refine g_iload_n 3 dX1_laysLeast_138 rfl rfl ?_
      refine g_iand dX1_laysLeast_139 ?_
      refine g_istore dX1_laysLeast_140 (lt_b rfl) ?_
      refine g_goto 67 dX1_laysLeast_142 (by decide) ?_
      exact g_jmp (hag _ _) rfl
    · intro j13 hj13
      refine g_icmp_gt 134 dX1_laysLeast_83 (by decide) ?_ ?_
      · exact g_jmp (hj13 _ _) rfl
      · refine g_aload_n 0 dX1_laysLeast_86 rfl rfl ?_
        refine g_getR fo_0_38 q215 dX1_laysLeast_87 fun y14 => ?_
        refine g_iload dX1_laysLeast_90 rfl ?_
        refine g_iaload dX1_laysLeast_92 fun x15 => ?_
        refine g_aload_n 0 dX1_laysLeast_93 rfl rfl ?_
        refine g_getI fo_0_42 (by decide) q219 dX1_laysLeast_94 fun x16 => ?_
        refine g_icmp_gt 134 dX1_laysLeast_97 (by decide) ?_ ?_
        · exact g_jmp (hj13 _ _) rfl
        · refine g_aload_n 0 dX1_laysLeast_100 rfl rfl ?_
          refine g_getR fo_0_39 q216 dX1_laysLeast_101 fun y17 => ?_
          refine g_iload_n 2 dX1_laysLeast_104 rfl rfl ?_
          refine g_aload_n 0 dX1_laysLeast_105 rfl rfl ?_
          refine g_getR fo_0_39 q216 dX1_laysLeast_106 fun y18 => ?_
          refine g_iload_n 2 dX1_laysLeast_109 rfl rfl ?_
          refine g_iaload dX1_laysLeast_110 fun x19 => ?_
          refine g_aload_n 0 dX1_laysLeast_111 rfl rfl ?_
          refine g_getR fo_0_39 q216 dX1_laysLeast_112 fun y20 => ?_
          refine g_iload_n 2 dX1_laysLeast_115 rfl rfl ?_
          refine g_iload dX1_laysLeast_116 rfl ?_
          refine g_iconst (-1) dX1_laysLeast_118 (by decide) ?_
          refine g_ixor dX1_laysLeast_119 ?_
          refine g_iand dX1_laysLeast_120 ?_
          refine g_iaload dX1_laysLeast_121 fun x21 => ?_
          refine g_aload_n 0 dX1_laysLeast_122 rfl rfl ?_
          refine g_getR fo_0_38 q215 dX1_laysLeast_123 fun y22 => ?_
          refine g_iload dX1_laysLeast_126 rfl ?_
          refine g_iaload dX1_laysLeast_128 fun x23 => ?_
          refine g_iadd dX1_laysLeast_129 ?_
          refine g_mmin q357 (by decide) (Nat.le_of_ble_eq_true rfl) dX1_laysLeast_130 ?_
          refine g_iastore dX1_laysLeast_133 fun σ => ?_
          exact g_jmp (hj13 _ _) rfl
theorem ok_X1_laysLeast_b51 (X : Mx) (v0 : Option Nat) (v1 : Int32) {k0 : Unit → Hp → Option (Int32 × Hp)} (hk0 : ∀ (a : Unit) (σ : Hp), GG X mi_X1_laysLeast (QM X rI) 151 [(0, vA v0), (1, vI v1)] [] σ (k0 a σ)) : ∀ (m : Nat) (a : Int32) (σ : Hp), GG X mi_X1_laysLeast (QM X rI) 51 [(0, vA v0), (1, vI v1), (2, vI a)] [] σ (lp m (f_X1_laysLeast_b51 v0 v1 k0) a σ) := by
  refine g_lp (fun (a : Int32) => [(0, vA v0), (1, vI v1), (2, vI a)]) ?_
  intro ag hag a σ
  unfold f_X1_laysLeast_b51
  refine g_iload_n 2 dX1_laysLeast_51 rfl rfl ?_
  refine g_if_le 151 dX1_laysLeast_52 (by decide) ?_ ?_
  · exact g_jmp (hk0 _ _) rfl
  · refine g_iload_n 2 dX1_laysLeast_55 rfl rfl ?_
    refine g_aload_n 0 dX1_laysLeast_56 rfl rfl ?_
    refine g_getR fo_0_35 q212 dX1_laysLeast_57 fun y7 => ?_
    refine g_iload_n 1 dX1_laysLeast_60 rfl rfl ?_
    refine g_iaload dX1_laysLeast_61 fun x8 => ?_
    refine g_iand dX1_laysLeast_62 ?_
    refine g_istore_n 3 dX1_laysLeast_63 rfl (lt_b rfl) ?_
    refine g_iload_n 3 dX1_laysLeast_64 rfl rfl ?_
    refine g_istore dX1_laysLeast_65 (lt_b rfl) ?_
    refine g_jmp (ok_X1_laysLeast_b67 X v0 v1 a (a &&& x8) ?_ _ _ _) rfl
    · intro a24 σ
      refine g_iinc (-1) dX1_laysLeast_145 (by decide) rfl (lt_b rfl) ?_
      refine g_goto 51 dX1_laysLeast_148 (by decide) ?_
      exact g_jmp (hag _ _) rfl
theorem ok_X1_laysLeast_b33 (X : Mx) (v0 : Option Nat) {k0 : Unit → Hp → Option (Int32 × Hp)} (hk0 : ∀ (a : Unit) (σ : Hp), GG X mi_X1_laysLeast (QM X rI) 157 [(0, vA v0)] [] σ (k0 a σ)) : ∀ (m : Nat) (a : Int32) (σ : Hp), GG X mi_X1_laysLeast (QM X rI) 33 [(0, vA v0), (1, vI a)] [] σ (lp m (f_X1_laysLeast_b33 v0 k0) a σ) := by
  refine g_lp (fun (a : Int32) => [(0, vA v0), (1, vI a)]) ?_
  intro ag hag a σ
  unfold f_X1_laysLeast_b33
  refine g_iload_n 1 dX1_laysLeast_33 rfl rfl ?_
  refine g_aload_n 0 dX1_laysLeast_34 rfl rfl ?_
  refine g_getI fo_0_5 (by decide) q179 dX1_laysLeast_35 fun x5 => ?_
  refine g_icmp_ge 157 dX1_laysLeast_38 (by decide) ?_ ?_
  · exact g_jmp (hk0 _ _) rfl
  · refine g_aload_n 0 dX1_laysLeast_41 rfl rfl ?_
    refine g_iload_n 1 dX1_laysLeast_42 rfl rfl ?_
    refine g_callV_V (mm_X1_pricesSets _ _ _) rfl zc_0 q757 q759 qs31 q107 q760 dv_X1_pricesSets rfl (Nat.le_of_ble_eq_true rfl) (Nat.le_of_ble_eq_true rfl) (Nat.le_of_ble_eq_true rfl) dX1_laysLeast_43 fun _ σ => ?_
    refine g_aload_n 0 dX1_laysLeast_46 rfl rfl ?_
    refine g_callV_I (mm_X1_wholeNight _ _) rfl zc_0 q745 q747 qs28 q107 q748 dv_X1_wholeNight rfl (Nat.le_of_ble_eq_true rfl) (Nat.le_of_ble_eq_true rfl) (Nat.le_of_ble_eq_true rfl) dX1_laysLeast_47 fun x6 σ => ?_
    refine g_istore_n 2 dX1_laysLeast_50 rfl (lt_b rfl) ?_
    refine g_jmp (ok_X1_laysLeast_b51 X v0 a ?_ _ _ _) rfl
    · intro a25 σ
      refine g_iinc 1 dX1_laysLeast_151 (by decide) rfl (lt_b rfl) ?_
      refine g_goto 33 dX1_laysLeast_154 (by decide) ?_
      exact g_jmp (hag _ _) rfl
theorem mm_X1_laysLeast (v0 : Option Nat) (σ : Hp) : MM yX1_laysLeast mi_X1_laysLeast rI [vA v0] σ (f_X1_laysLeast v0 σ) := by
  refine mm_of (by decide +kernel) rfl rfl (Nat.le_of_ble_eq_true rfl) ?_
  intro X
  unfold f_X1_laysLeast
  refine g_iconst 0 dX1_laysLeast_0 (by decide) ?_
  refine g_istore_n 1 dX1_laysLeast_1 rfl (lt_b rfl) ?_
  refine g_jmp (ok_X1_laysLeast_b2 X v0 ?_ _ _ _) rfl
  · intro a4 σ
    refine g_iconst 0 dX1_laysLeast_31 (by decide) ?_
    refine g_istore_n 1 dX1_laysLeast_32 rfl (lt_b rfl) ?_
    refine g_jmp (ok_X1_laysLeast_b33 X v0 ?_ _ _ _) rfl
    · intro a26 σ
      refine g_ldc dX1_laysLeast_157 q170 ?_
      refine g_aload_n 0 dX1_laysLeast_159 rfl rfl ?_
      refine g_getR fo_0_39 q216 dX1_laysLeast_160 fun y27 => ?_
      refine g_aload_n 0 dX1_laysLeast_163 rfl rfl ?_
      refine g_callV_I (mm_X1_wholeNight _ _) rfl zc_0 q745 q747 qs28 q107 q748 dv_X1_wholeNight rfl (Nat.le_of_ble_eq_true rfl) (Nat.le_of_ble_eq_true rfl) (Nat.le_of_ble_eq_true rfl) dX1_laysLeast_164 fun x28 σ => ?_
      refine g_iaload dX1_laysLeast_167 fun x29 => ?_
      refine g_mmin q357 (by decide) (Nat.le_of_ble_eq_true rfl) dX1_laysLeast_168 ?_
      exact g_iret rfl dX1_laysLeast_171
theorem dd_X1_laysLeast : yX1_laysLeast.cls ≠ "java/lang/invoke/MethodHandle" ∧ yX1_laysLeast.cls ≠ "java/lang/invoke/VarHandle" ∧ (parseMethodDescriptor yX1_laysLeast.desc).map (fun d => d.parameters.length) = some 0 := by decide +kernel
theorem dv_X1_laysLeast : yX1_laysLeast.cls = RX1 ∧ yX1_laysLeast.cls ≠ "java/lang/invoke/MethodHandle" ∧ yX1_laysLeast.cls ≠ "java/lang/invoke/VarHandle" ∧ (parseMethodDescriptor yX1_laysLeast.desc).map (fun d => d.parameters.length) = some 0 := ⟨rfl, dd_X1_laysLeast⟩
/-! RockingHorse.laysTurn(I)V -/
abbrev mi_X1_laysTurn : Mi := (cX1_laysTurn, 5, "RockingHorse", 3, none, "laysTurn")
def f_X1_laysTurn_b15 (v0 : Option Nat) (v1 : Int32) (v2 : Int32) (k0 : Unit → Hp → Option (Unit × Hp)) (ag : (Int32 × Int32) → Hp → Option (Unit × Hp)) (a : Int32 × Int32) (σ : Hp) : Option (Unit × Hp) :=
  gI 0 5 σ v0 fun x2 =>
  if x2 ≤ a.2 then
    k0 () σ
  else
    if a.1 = 0 then
      k0 () σ
    else
      gR 0 35 σ v0 fun y3 =>
      lI 100 σ y3 a.2 fun x4 =>
      bnd (f_X1_has x4 v2 σ) fun x5 σ =>
      jn (fun (a6 : Int32) σ =>
          ag (a6, (a.2 + 1)) σ) fun j7 =>
      if x5 = 0 then
        j7 a.1 σ
      else
        gR 0 35 σ v0 fun y8 =>
        gR 0 36 σ v0 fun y9 =>
        cpA σ y8 0 y9 0 8 fun σ =>
        ob 0 σ v0 fun _ => bnd (f_X1_fixes v0 v2 a.2 σ) fun _ σ =>
        gR 0 40 σ v0 fun y10 =>
        sI σ y10 v2 a.2 fun σ =>
        ob 0 σ v0 fun _ => bnd (f_X1_laysLeast v0 σ) fun x11 σ =>
        jn (fun (a12 : Int32) σ =>
            if a12 = 0 then
              j7 a12 σ
            else
              gR 0 36 σ v0 fun y14 =>
              gR 0 35 σ v0 fun y15 =>
              cpA σ y14 0 y15 0 8 fun σ =>
              j7 a12 σ) fun j13 =>
        if x11 = v1 then
          j13 0 σ
        else
          j13 1 σ
def f_X1_laysTurn_b2 (v0 : Option Nat) (v1 : Int32) (k0 : Unit → Hp → Option (Unit × Hp)) (ag : Int32 → Hp → Option (Unit × Hp)) (a : Int32) (σ : Hp) : Option (Unit × Hp) :=
  gI 0 6 σ v0 fun x1 =>
  if x1 ≤ a then
    k0 () σ
  else
    lp 2000 (f_X1_laysTurn_b15 v0 v1 a (fun (a16 : Unit) σ =>
        ag (a + 1) σ)) (1, 0) σ
def f_X1_laysTurn (v0 : Option Nat) (v1 : Int32) (σ : Hp) : Option (Unit × Hp) :=
  lp 2000 (f_X1_laysTurn_b2 v0 v1 (fun (a17 : Unit) σ =>
      some ((), σ))) 0 σ
theorem ok_X1_laysTurn_b15 (X : Mx) (v0 : Option Nat) (v1 : Int32) (v2 : Int32) {k0 : Unit → Hp → Option (Unit × Hp)} (hk0 : ∀ (a : Unit) (σ : Hp), GG X mi_X1_laysTurn (QM X rV) 114 [(0, vA v0), (1, vI v1), (2, vI v2)] [] σ (k0 a σ)) : ∀ (m : Nat) (a : Int32 × Int32) (σ : Hp), GG X mi_X1_laysTurn (QM X rV) 15 [(0, vA v0), (1, vI v1), (2, vI v2), (3, vI a.1), (4, vI a.2)] [] σ (lp m (f_X1_laysTurn_b15 v0 v1 v2 k0) a σ) := by
  refine g_lp (fun (a : Int32 × Int32) => [(0, vA v0), (1, vI v1), (2, vI v2), (3, vI a.1), (4, vI a.2)]) ?_
  intro ag hag a σ
  unfold f_X1_laysTurn_b15
  refine g_iload dX1_laysTurn_15 rfl ?_
  refine g_aload_n 0 dX1_laysTurn_17 rfl rfl ?_
  refine g_getI fo_0_5 (by decide) q179 dX1_laysTurn_18 fun x2 => ?_
  refine g_icmp_ge 114 dX1_laysTurn_21 (by decide) ?_ ?_
  · exact g_jmp (hk0 _ _) rfl
  · refine g_iload_n 3 dX1_laysTurn_24 rfl rfl ?_
    refine g_if_eq 114 dX1_laysTurn_25 (by decide) ?_ ?_
    · exact g_jmp (hk0 _ _) rfl
    · refine g_aload_n 0 dX1_laysTurn_28 rfl rfl ?_
      refine g_getR fo_0_35 q212 dX1_laysTurn_29 fun y3 => ?_
      refine g_iload dX1_laysTurn_32 rfl ?_
      refine g_iaload dX1_laysTurn_34 fun x4 => ?_
      refine g_iload_n 2 dX1_laysTurn_35 rfl rfl ?_
      refine g_callS_I (mm_X1_has _ _ _) rfl q677 q678 q107 q679 dd_X1_has rfl (Nat.le_of_ble_eq_true rfl) (Nat.le_of_ble_eq_true rfl) (Nat.le_of_ble_eq_true rfl) dX1_laysTurn_36 fun x5 σ => ?_
      refine g_jn (fun j7 => ∀ (a6 : Int32) (σ : Hp), GG X mi_X1_laysTurn (QM X rV) 108 [(0, vA v0), (1, vI v1), (2, vI v2), (3, vI a6), (4, vI a.2)] [] σ (j7 a6 σ)) ?_ ?_
      · intro a6 σ
        refine g_iinc 1 dX1_laysTurn_108 (by decide) rfl (lt_b rfl) ?_
        refine g_goto 15 dX1_laysTurn_111 (by decide) ?_
        exact g_jmp (hag _ _) rfl
      · intro j7 hj7
        refine g_if_ne 45 dX1_laysTurn_39 (by decide) ?_ ?_
        · refine g_aload_n 0 dX1_laysTurn_45 rfl rfl ?_
          refine g_getR fo_0_35 q212 dX1_laysTurn_46 fun y8 => ?_
          refine g_iconst 0 dX1_laysTurn_49 (by decide) ?_
          refine g_aload_n 0 dX1_laysTurn_50 rfl rfl ?_
          refine g_getR fo_0_36 q213 dX1_laysTurn_51 fun y9 => ?_
          refine g_iconst 0 dX1_laysTurn_54 (by decide) ?_
          refine g_bipush 8 dX1_laysTurn_55 (by decide) ?_
          refine g_arraycopy q765 (by decide) (Nat.le_of_ble_eq_true rfl) dX1_laysTurn_57 fun σ => ?_
          refine g_aload_n 0 dX1_laysTurn_60 rfl rfl ?_
          refine g_iload_n 2 dX1_laysTurn_61 rfl rfl ?_
          refine g_iload dX1_laysTurn_62 rfl ?_
          refine g_callV_V (mm_X1_fixes _ _ _ _) rfl zc_0 q766 q768 qs33 q107 q769 dv_X1_fixes rfl (Nat.le_of_ble_eq_true rfl) (Nat.le_of_ble_eq_true rfl) (Nat.le_of_ble_eq_true rfl) dX1_laysTurn_64 fun _ σ => ?_
          refine g_aload_n 0 dX1_laysTurn_67 rfl rfl ?_
          refine g_getR fo_0_40 q217 dX1_laysTurn_68 fun y10 => ?_
          refine g_iload_n 2 dX1_laysTurn_71 rfl rfl ?_
          refine g_iload dX1_laysTurn_72 rfl ?_
          refine g_iastore dX1_laysTurn_74 fun σ => ?_
          refine g_aload_n 0 dX1_laysTurn_75 rfl rfl ?_
          refine g_callV_I (mm_X1_laysLeast _ _) rfl zc_0 q753 q755 qs30 q107 q756 dv_X1_laysLeast rfl (Nat.le_of_ble_eq_true rfl) (Nat.le_of_ble_eq_true rfl) (Nat.le_of_ble_eq_true rfl) dX1_laysTurn_76 fun x11 σ => ?_
          refine g_iload_n 1 dX1_laysTurn_79 rfl rfl ?_
          refine g_jn (fun j13 => ∀ (a12 : Int32) (σ : Hp), GG X mi_X1_laysTurn (QM X rV) 88 [(0, vA v0), (1, vI v1), (2, vI v2), (4, vI a.2)] [vI a12] σ (j13 a12 σ)) ?_ ?_
          · intro a12 σ
            refine g_istore_n 3 dX1_laysTurn_88 rfl (lt_b rfl) ?_
            refine g_iload_n 3 dX1_laysTurn_89 rfl rfl ?_
            refine g_if_eq 108 dX1_laysTurn_90 (by decide) ?_ ?_
            · exact g_jmp (hj7 _ _) rfl
            · refine g_aload_n 0 dX1_laysTurn_93 rfl rfl ?_
              refine g_getR fo_0_36 q213 dX1_laysTurn_94 fun y14 => ?_
              refine g_iconst 0 dX1_laysTurn_97 (by decide) ?_
              refine g_aload_n 0 dX1_laysTurn_98 rfl rfl ?_
              refine g_getR fo_0_35 q212 dX1_laysTurn_99 fun y15 => ?_
              refine g_iconst 0 dX1_laysTurn_102 (by decide) ?_
              refine g_bipush 8 dX1_laysTurn_103 (by decide) ?_
              refine g_arraycopy q765 (by decide) (Nat.le_of_ble_eq_true rfl) dX1_laysTurn_105 fun σ => ?_
              exact g_jmp (hj7 _ _) rfl
          · intro j13 hj13
            refine g_icmp_eq 87 dX1_laysTurn_80 (by decide) ?_ ?_
            · refine g_iconst 0 dX1_laysTurn_87 (by decide) ?_
              exact g_jmp (hj13 _ _) rfl
            · refine g_iconst 1 dX1_laysTurn_83 (by decide) ?_
              refine g_goto 88 dX1_laysTurn_84 (by decide) ?_
              exact g_jmp (hj13 _ _) rfl
        · refine g_goto 108 dX1_laysTurn_42 (by decide) ?_
          exact g_jmp (hj7 _ _) rfl
theorem ok_X1_laysTurn_b2 (X : Mx) (v0 : Option Nat) (v1 : Int32) {k0 : Unit → Hp → Option (Unit × Hp)} (hk0 : ∀ (a : Unit) (σ : Hp), GG X mi_X1_laysTurn (QM X rV) 120 [] [] σ (k0 a σ)) : ∀ (m : Nat) (a : Int32) (σ : Hp), GG X mi_X1_laysTurn (QM X rV) 2 [(0, vA v0), (1, vI v1), (2, vI a)] [] σ (lp m (f_X1_laysTurn_b2 v0 v1 k0) a σ) := by
  refine g_lp (fun (a : Int32) => [(0, vA v0), (1, vI v1), (2, vI a)]) ?_
  intro ag hag a σ
  unfold f_X1_laysTurn_b2
  refine g_iload_n 2 dX1_laysTurn_2 rfl rfl ?_
  refine g_aload_n 0 dX1_laysTurn_3 rfl rfl ?_
  refine g_getI fo_0_6 (by decide) q180 dX1_laysTurn_4 fun x1 => ?_
  refine g_icmp_ge 120 dX1_laysTurn_7 (by decide) ?_ ?_
  · exact g_jmp (hk0 _ _) rfl
  · refine g_iconst 1 dX1_laysTurn_10 (by decide) ?_
    refine g_istore_n 3 dX1_laysTurn_11 rfl (lt_b rfl) ?_
    refine g_iconst 0 dX1_laysTurn_12 (by decide) ?_
    refine g_istore dX1_laysTurn_13 (lt_b rfl) ?_
    refine g_jmp (ok_X1_laysTurn_b15 X v0 v1 a ?_ _ _ _) rfl
    · intro a16 σ
      refine g_iinc 1 dX1_laysTurn_114 (by decide) rfl (lt_b rfl) ?_
      refine g_goto 2 dX1_laysTurn_117 (by decide) ?_
      exact g_jmp (hag _ _) rfl
theorem mm_X1_laysTurn (v0 : Option Nat) (v1 : Int32) (σ : Hp) : MM yX1_laysTurn mi_X1_laysTurn rV [vA v0, vI v1] σ (f_X1_laysTurn v0 v1 σ) := by
  refine mm_of (by decide +kernel) rfl rfl (Nat.le_of_ble_eq_true rfl) ?_
  intro X
  unfold f_X1_laysTurn
  refine g_iconst 0 dX1_laysTurn_0 (by decide) ?_
  refine g_istore_n 2 dX1_laysTurn_1 rfl (lt_b rfl) ?_
  refine g_jmp (ok_X1_laysTurn_b2 X v0 v1 ?_ _ _ _) rfl
  · intro a17 σ
    exact g_vret rfl dX1_laysTurn_120
theorem dd_X1_laysTurn : yX1_laysTurn.cls ≠ "java/lang/invoke/MethodHandle" ∧ yX1_laysTurn.cls ≠ "java/lang/invoke/VarHandle" ∧ (parseMethodDescriptor yX1_laysTurn.desc).map (fun d => d.parameters.length) = some 1 := by decide +kernel
theorem dv_X1_laysTurn : yX1_laysTurn.cls = RX1 ∧ yX1_laysTurn.cls ≠ "java/lang/invoke/MethodHandle" ∧ yX1_laysTurn.cls ≠ "java/lang/invoke/VarHandle" ∧ (parseMethodDescriptor yX1_laysTurn.desc).map (fun d => d.parameters.length) = some 1 := ⟨rfl, dd_X1_laysTurn⟩
/-! RockingHorse.fewest()I -/
abbrev mi_X1_fewest : Mi := (cX1_fewest, 4, "RockingHorse", 2, some .int, "fewest")
def f_X1_fewest_b4 (v0 : Option Nat) (k0 : Int32 → Hp → Option (Int32 × Hp)) (ag : (Int32 × Int32) → Hp → Option (Int32 × Hp)) (a : Int32 × Int32) (σ : Hp) : Option (Int32 × Hp) :=
  ob 0 σ v0 fun _ => bnd (f_X1_all v0 σ) fun x1 σ =>
  if x1 < a.2 then
    k0 a.1 σ
  else
    jn (fun (a2 : Int32) σ =>
        jn (fun (a4 : Int32) σ =>
            ag (a4, (a.2 + 1)) σ) fun j5 =>
        jn (fun (a6 : Unit) σ =>
            j5 a.1 σ) fun j7 =>
        if a2 = 0 then
          j7 () σ
        else
          gR 0 0 σ v0 fun y8 =>
          gI 1 2 σ y8 fun x9 =>
          if (a.2 &&& x9) = 0 then
            ob 0 σ v0 fun _ => bnd (f_X1_lacking v0 a.2 σ) fun x10 σ =>
            if x10 = 0 then
              j5 a.2 σ
            else
              j7 () σ
          else
            j7 () σ) fun j3 =>
    if a.1 < 0 then
      j3 1 σ
    else
      bnd (f_J10_bitCount a.2 σ) fun x11 σ =>
      bnd (f_J10_bitCount a.1 σ) fun x12 σ =>
      if x12 ≤ x11 then
        j3 0 σ
      else
        j3 1 σ
def f_X1_fewest (v0 : Option Nat) (σ : Hp) : Option (Int32 × Hp) :=
  lp 2000 (f_X1_fewest_b4 v0 (fun (a13 : Int32) σ =>
      if 0 ≤ a13 then
        pI 0 0 52 σ v0 0 fun σ =>
        ob 0 σ v0 fun _ => bnd (f_X1_tells v0 (Int32.toInt64 a13) σ) fun _ σ =>
        bnd (f_J10_bitCount a13 σ) fun x14 σ =>
        some (x14, σ)
      else
        some ((-2), σ))) ((-1), 0) σ
theorem ok_X1_fewest_b4 (X : Mx) (v0 : Option Nat) {k0 : Int32 → Hp → Option (Int32 × Hp)} (hk0 : ∀ (a : Int32) (σ : Hp), GG X mi_X1_fewest (QM X rI) 69 [(0, vA v0), (1, vI a)] [] σ (k0 a σ)) : ∀ (m : Nat) (a : Int32 × Int32) (σ : Hp), GG X mi_X1_fewest (QM X rI) 4 [(0, vA v0), (1, vI a.1), (2, vI a.2)] [] σ (lp m (f_X1_fewest_b4 v0 k0) a σ) := by
  refine g_lp (fun (a : Int32 × Int32) => [(0, vA v0), (1, vI a.1), (2, vI a.2)]) ?_
  intro ag hag a σ
  unfold f_X1_fewest_b4
  refine g_iload_n 2 dX1_fewest_4 rfl rfl ?_
  refine g_aload_n 0 dX1_fewest_5 rfl rfl ?_
  refine g_callV_I (mm_X1_all _ _) rfl zc_0 q782 q784 qs35 q107 q785 dv_X1_all rfl (Nat.le_of_ble_eq_true rfl) (Nat.le_of_ble_eq_true rfl) (Nat.le_of_ble_eq_true rfl) dX1_fewest_6 fun x1 σ => ?_
  refine g_icmp_gt 69 dX1_fewest_9 (by decide) ?_ ?_
  · exact g_jmp (hk0 _ _) rfl
  · refine g_iload_n 1 dX1_fewest_12 rfl rfl ?_
    refine g_jn (fun j3 => ∀ (a2 : Int32) (σ : Hp), GG X mi_X1_fewest (QM X rI) 32 [(0, vA v0), (1, vI a.1), (2, vI a.2)] [vI a2] σ (j3 a2 σ)) ?_ ?_
    · intro a2 σ
      refine g_istore_n 3 dX1_fewest_32 rfl (lt_b rfl) ?_
      refine g_iload_n 3 dX1_fewest_33 rfl rfl ?_
      refine g_jn (fun j5 => ∀ (a4 : Int32) (σ : Hp), GG X mi_X1_fewest (QM X rI) 62 [(0, vA v0), (2, vI a.2)] [vI a4] σ (j5 a4 σ)) ?_ ?_
      · intro a4 σ
        refine g_istore_n 1 dX1_fewest_62 rfl (lt_b rfl) ?_
        refine g_iinc 1 dX1_fewest_63 (by decide) rfl (lt_b rfl) ?_
        refine g_goto 4 dX1_fewest_66 (by decide) ?_
        exact g_jmp (hag _ _) rfl
      · intro j5 hj5
        refine g_jn (fun j7 => ∀ (a6 : Unit) (σ : Hp), GG X mi_X1_fewest (QM X rI) 61 [(0, vA v0), (1, vI a.1), (2, vI a.2)] [] σ (j7 a6 σ)) ?_ ?_
        · intro a6 σ
          refine g_iload_n 1 dX1_fewest_61 rfl rfl ?_
          exact g_jmp (hj5 _ _) rfl
        · intro j7 hj7
          refine g_if_eq 61 dX1_fewest_34 (by decide) ?_ ?_
          · exact g_jmp (hj7 _ _) rfl
          · refine g_iload_n 2 dX1_fewest_37 rfl rfl ?_
            refine g_aload_n 0 dX1_fewest_38 rfl rfl ?_
            refine g_getR fo_0_0 q171 dX1_fewest_39 fun y8 => ?_
            refine g_getIN fo_1_2 (by decide) nf_147 dX1_fewest_42 fun x9 => ?_
            refine g_iand dX1_fewest_45 ?_
            refine g_if_ne 61 dX1_fewest_46 (by decide) ?_ ?_
            · exact g_jmp (hj7 _ _) rfl
            · refine g_aload_n 0 dX1_fewest_49 rfl rfl ?_
              refine g_iload_n 2 dX1_fewest_50 rfl rfl ?_
              refine g_callV_I (mm_X1_lacking _ _ _) rfl zc_0 q786 q788 qs36 q107 q789 dv_X1_lacking rfl (Nat.le_of_ble_eq_true rfl) (Nat.le_of_ble_eq_true rfl) (Nat.le_of_ble_eq_true rfl) dX1_fewest_51 fun x10 σ => ?_
              refine g_if_ne 61 dX1_fewest_54 (by decide) ?_ ?_
              · exact g_jmp (hj7 _ _) rfl
              · refine g_iload_n 2 dX1_fewest_57 rfl rfl ?_
                refine g_goto 62 dX1_fewest_58 (by decide) ?_
                exact g_jmp (hj5 _ _) rfl
    · intro j3 hj3
      refine g_if_lt 27 dX1_fewest_13 (by decide) ?_ ?_
      · refine g_iconst 1 dX1_fewest_27 (by decide) ?_
        refine g_goto 32 dX1_fewest_28 (by decide) ?_
        exact g_jmp (hj3 _ _) rfl
      · refine g_iload_n 2 dX1_fewest_16 rfl rfl ?_
        refine g_callS_I (mm_J10_bitCount _ _) rfl q659 q600 q125 q601 dd_J10_bitCount rfl (Nat.le_of_ble_eq_true rfl) (Nat.le_of_ble_eq_true rfl) (Nat.le_of_ble_eq_true rfl) dX1_fewest_17 fun x11 σ => ?_
        refine g_iload_n 1 dX1_fewest_20 rfl rfl ?_
        refine g_callS_I (mm_J10_bitCount _ _) rfl q659 q600 q125 q601 dd_J10_bitCount rfl (Nat.le_of_ble_eq_true rfl) (Nat.le_of_ble_eq_true rfl) (Nat.le_of_ble_eq_true rfl) dX1_fewest_21 fun x12 σ => ?_
        refine g_icmp_ge 31 dX1_fewest_24 (by decide) ?_ ?_
        · refine g_iconst 0 dX1_fewest_31 (by decide) ?_
          exact g_jmp (hj3 _ _) rfl
        · refine g_iconst 1 dX1_fewest_27 (by decide) ?_
          refine g_goto 32 dX1_fewest_28 (by decide) ?_
          exact g_jmp (hj3 _ _) rfl
theorem mm_X1_fewest (v0 : Option Nat) (σ : Hp) : MM yX1_fewest mi_X1_fewest rI [vA v0] σ (f_X1_fewest v0 σ) := by
  refine mm_of (by decide +kernel) rfl rfl (Nat.le_of_ble_eq_true rfl) ?_
  intro X
  unfold f_X1_fewest
  refine g_iconst (-1) dX1_fewest_0 (by decide) ?_
  refine g_istore_n 1 dX1_fewest_1 rfl (lt_b rfl) ?_
  refine g_iconst 0 dX1_fewest_2 (by decide) ?_
  refine g_istore_n 2 dX1_fewest_3 rfl (lt_b rfl) ?_
  refine g_jmp (ok_X1_fewest_b4 X v0 ?_ _ _ _) rfl
  · intro a13 σ
    refine g_iload_n 1 dX1_fewest_69 rfl rfl ?_
    refine g_if_ge 76 dX1_fewest_70 (by decide) ?_ ?_
    · refine g_aload_n 0 dX1_fewest_76 rfl rfl ?_
      refine g_iconst 0 dX1_fewest_77 (by decide) ?_
      refine g_putI fo_0_52 (by decide) rfl q229 dX1_fewest_78 fun σ => ?_
      refine g_aload_n 0 dX1_fewest_81 rfl rfl ?_
      refine g_iload_n 1 dX1_fewest_82 rfl rfl ?_
      refine g_i2l dX1_fewest_83 ?_
      refine g_callV_V (mm_X1_tells _ _ _) rfl zc_0 q683 q685 qs21 q107 q686 dv_X1_tells rfl (Nat.le_of_ble_eq_true rfl) (Nat.le_of_ble_eq_true rfl) (Nat.le_of_ble_eq_true rfl) dX1_fewest_84 fun _ σ => ?_
      refine g_iload_n 1 dX1_fewest_87 rfl rfl ?_
      refine g_callS_I (mm_J10_bitCount _ _) rfl q659 q600 q125 q601 dd_J10_bitCount rfl (Nat.le_of_ble_eq_true rfl) (Nat.le_of_ble_eq_true rfl) (Nat.le_of_ble_eq_true rfl) dX1_fewest_88 fun x14 σ => ?_
      exact g_iret rfl dX1_fewest_91
    · refine g_bipush (-2) dX1_fewest_73 (by decide) ?_
      exact g_iret rfl dX1_fewest_75
theorem dd_X1_fewest : yX1_fewest.cls ≠ "java/lang/invoke/MethodHandle" ∧ yX1_fewest.cls ≠ "java/lang/invoke/VarHandle" ∧ (parseMethodDescriptor yX1_fewest.desc).map (fun d => d.parameters.length) = some 0 := by decide +kernel
theorem dv_X1_fewest : yX1_fewest.cls = RX1 ∧ yX1_fewest.cls ≠ "java/lang/invoke/MethodHandle" ∧ yX1_fewest.cls ≠ "java/lang/invoke/VarHandle" ∧ (parseMethodDescriptor yX1_fewest.desc).map (fun d => d.parameters.length) = some 0 := ⟨rfl, dd_X1_fewest⟩
/-! RockingHorse.tellsWays()I -/
abbrev mi_X1_tellsWays : Mi := (cX1_tellsWays, 3, "RockingHorse", 4, some .int, "tellsWays")
def f_X1_tellsWays (v0 : Option Nat) (σ : Hp) : Option (Int32 × Hp) :=
  ob 0 σ v0 fun _ => bnd (f_X1_laysWays v0 σ) fun x1 σ =>
  pI 0 0 52 σ v0 0 fun σ =>
  if (lg_cmp x1 0) = 0 then
    some (0, σ)
  else
    ob 0 σ v0 fun _ => bnd (f_X1_laysTurn v0 0 σ) fun _ σ =>
    ob 0 σ v0 fun _ => bnd (f_X1_tellsTurn v0 σ) fun _ σ =>
    some ((Int64.toInt32 x1), σ)
theorem mm_X1_tellsWays (v0 : Option Nat) (σ : Hp) : MM yX1_tellsWays mi_X1_tellsWays rI [vA v0] σ (f_X1_tellsWays v0 σ) := by
  refine mm_of (by decide +kernel) rfl rfl (Nat.le_of_ble_eq_true rfl) ?_
  intro X
  unfold f_X1_tellsWays
  refine g_aload_n 0 dX1_tellsWays_0 rfl rfl ?_
  refine g_callV_L (mm_X1_laysWays _ _) rfl zc_0 q806 q808 qs39 q107 q809 dv_X1_laysWays rfl (Nat.le_of_ble_eq_true rfl) (Nat.le_of_ble_eq_true rfl) (Nat.le_of_ble_eq_true rfl) dX1_tellsWays_1 fun x1 σ => ?_
  refine g_lstore_n 1 dX1_tellsWays_4 rfl (lt_b rfl) ?_
  refine g_aload_n 0 dX1_tellsWays_5 rfl rfl ?_
  refine g_iconst 0 dX1_tellsWays_6 (by decide) ?_
  refine g_putI fo_0_52 (by decide) rfl q229 dX1_tellsWays_7 fun σ => ?_
  refine g_lload_n 1 dX1_tellsWays_10 rfl rfl ?_
  refine g_lconst 0 dX1_tellsWays_11 (by decide) ?_
  refine g_lcmp dX1_tellsWays_12 ?_
  refine g_if_ne 18 dX1_tellsWays_13 (by decide) ?_ ?_
  · refine g_aload_n 0 dX1_tellsWays_18 rfl rfl ?_
    refine g_iconst 0 dX1_tellsWays_19 (by decide) ?_
    refine g_callV_V (mm_X1_laysTurn _ _ _) rfl zc_0 q761 q763 qs32 q107 q764 dv_X1_laysTurn rfl (Nat.le_of_ble_eq_true rfl) (Nat.le_of_ble_eq_true rfl) (Nat.le_of_ble_eq_true rfl) dX1_tellsWays_20 fun _ σ => ?_
    refine g_aload_n 0 dX1_tellsWays_23 rfl rfl ?_
    refine g_callV_V (mm_X1_tellsTurn _ _) rfl zc_0 q770 q772 qs34 q107 q773 dv_X1_tellsTurn rfl (Nat.le_of_ble_eq_true rfl) (Nat.le_of_ble_eq_true rfl) (Nat.le_of_ble_eq_true rfl) dX1_tellsWays_24 fun _ σ => ?_
    refine g_lload_n 1 dX1_tellsWays_27 rfl rfl ?_
    refine g_l2i dX1_tellsWays_28 ?_
    exact g_iret rfl dX1_tellsWays_29
  · refine g_iconst 0 dX1_tellsWays_16 (by decide) ?_
    exact g_iret rfl dX1_tellsWays_17
theorem dd_X1_tellsWays : yX1_tellsWays.cls ≠ "java/lang/invoke/MethodHandle" ∧ yX1_tellsWays.cls ≠ "java/lang/invoke/VarHandle" ∧ (parseMethodDescriptor yX1_tellsWays.desc).map (fun d => d.parameters.length) = some 0 := by decide +kernel
theorem dv_X1_tellsWays : yX1_tellsWays.cls = RX1 ∧ yX1_tellsWays.cls ≠ "java/lang/invoke/MethodHandle" ∧ yX1_tellsWays.cls ≠ "java/lang/invoke/VarHandle" ∧ (parseMethodDescriptor yX1_tellsWays.desc).map (fun d => d.parameters.length) = some 0 := ⟨rfl, dd_X1_tellsWays⟩
/-! RockingHorse.mended(I)I -/
abbrev mi_X1_mended : Mi := (cX1_mended, 4, "RockingHorse", 4, some .int, "mended")
def f_X1_mended_b29 (v0 : Option Nat) (v2 : Int32) (k0 : Unit → Hp → Option (Int32 × Hp)) (ag : Int32 → Hp → Option (Int32 × Hp)) (a : Int32) (σ : Hp) : Option (Int32 × Hp) :=
  gI 0 6 σ v0 fun x3 =>
  if x3 ≤ a then
    k0 () σ
  else
    gR 0 37 σ v0 fun y4 =>
    gR 0 0 σ v0 fun y5 =>
    gR 1 0 σ y5 fun y6 =>
    lI 100 σ y6 a fun x7 =>
    jn (fun (a8 : Int32) σ =>
        sI σ y4 ((8 * v2) + a) a8 fun σ =>
        ag (a + 1) σ) fun j9 =>
    if x7 = v2 then
      j9 0 σ
    else
      j9 1 σ
def f_X1_mended_b19 (v0 : Option Nat) (k0 : Unit → Hp → Option (Int32 × Hp)) (ag : Int32 → Hp → Option (Int32 × Hp)) (a : Int32) (σ : Hp) : Option (Int32 × Hp) :=
  gI 0 5 σ v0 fun x2 =>
  if x2 ≤ a then
    k0 () σ
  else
    lp 2000 (f_X1_mended_b29 v0 a (fun (a10 : Unit) σ =>
        ag (a + 1) σ)) 0 σ
def f_X1_mended (v0 : Option Nat) (v1 : Int32) (σ : Hp) : Option (Int32 × Hp) :=
  ob 0 σ v0 fun _ => bnd (f_X1_isRider v0 v1 σ) fun x1 σ =>
  if x1 = 0 then
    some ((-1), σ)
  else
    ob 0 σ v0 fun _ => bnd (f_X1_opens v0 (shl 1 v1) σ) fun _ σ =>
    lp 2000 (f_X1_mended_b19 v0 (fun (a11 : Unit) σ =>
        ob 0 σ v0 fun _ => bnd (f_X1_laysLeast v0 σ) fun x12 σ =>
        if x12 = 1000000 then
          some ((-2), σ)
        else
          ob 0 σ v0 fun _ => bnd (f_X1_laysTurn v0 x12 σ) fun _ σ =>
          ob 0 σ v0 fun _ => bnd (f_X1_tellsTurn v0 σ) fun _ σ =>
          some (x12, σ))) 0 σ
theorem ok_X1_mended_b29 (X : Mx) (v0 : Option Nat) (v2 : Int32) {k0 : Unit → Hp → Option (Int32 × Hp)} (hk0 : ∀ (a : Unit) (σ : Hp), GG X mi_X1_mended (QM X rI) 72 [(0, vA v0), (2, vI v2)] [] σ (k0 a σ)) : ∀ (m : Nat) (a : Int32) (σ : Hp), GG X mi_X1_mended (QM X rI) 29 [(0, vA v0), (2, vI v2), (3, vI a)] [] σ (lp m (f_X1_mended_b29 v0 v2 k0) a σ) := by
  refine g_lp (fun (a : Int32) => [(0, vA v0), (2, vI v2), (3, vI a)]) ?_
  intro ag hag a σ
  unfold f_X1_mended_b29
  refine g_iload_n 3 dX1_mended_29 rfl rfl ?_
  refine g_aload_n 0 dX1_mended_30 rfl rfl ?_
  refine g_getI fo_0_6 (by decide) q180 dX1_mended_31 fun x3 => ?_
  refine g_icmp_ge 72 dX1_mended_34 (by decide) ?_ ?_
  · exact g_jmp (hk0 _ _) rfl
  · refine g_aload_n 0 dX1_mended_37 rfl rfl ?_
    refine g_getR fo_0_37 q214 dX1_mended_38 fun y4 => ?_
    refine g_bipush 8 dX1_mended_41 (by decide) ?_
    refine g_iload_n 2 dX1_mended_43 rfl rfl ?_
    refine g_imul dX1_mended_44 ?_
    refine g_iload_n 3 dX1_mended_45 rfl rfl ?_
    refine g_iadd dX1_mended_46 ?_
    refine g_aload_n 0 dX1_mended_47 rfl rfl ?_
    refine g_getR fo_0_0 q171 dX1_mended_48 fun y5 => ?_
    refine g_getRN fo_1_0 nf_142 dX1_mended_51 fun y6 => ?_
    refine g_iload_n 3 dX1_mended_54 rfl rfl ?_
    refine g_iaload dX1_mended_55 fun x7 => ?_
    refine g_iload_n 2 dX1_mended_56 rfl rfl ?_
    refine g_jn (fun j9 => ∀ (a8 : Int32) (σ : Hp), GG X mi_X1_mended (QM X rI) 65 [(0, vA v0), (2, vI v2), (3, vI a)] [vI a8, vI ((8 * v2) + a), vA y4] σ (j9 a8 σ)) ?_ ?_
    · intro a8 σ
      refine g_iastore dX1_mended_65 fun σ => ?_
      refine g_iinc 1 dX1_mended_66 (by decide) rfl (lt_b rfl) ?_
      refine g_goto 29 dX1_mended_69 (by decide) ?_
      exact g_jmp (hag _ _) rfl
    · intro j9 hj9
      refine g_icmp_ne 64 dX1_mended_57 (by decide) ?_ ?_
      · refine g_iconst 1 dX1_mended_64 (by decide) ?_
        exact g_jmp (hj9 _ _) rfl
      · refine g_iconst 0 dX1_mended_60 (by decide) ?_
        refine g_goto 65 dX1_mended_61 (by decide) ?_
        exact g_jmp (hj9 _ _) rfl
theorem ok_X1_mended_b19 (X : Mx) (v0 : Option Nat) {k0 : Unit → Hp → Option (Int32 × Hp)} (hk0 : ∀ (a : Unit) (σ : Hp), GG X mi_X1_mended (QM X rI) 78 [(0, vA v0)] [] σ (k0 a σ)) : ∀ (m : Nat) (a : Int32) (σ : Hp), GG X mi_X1_mended (QM X rI) 19 [(0, vA v0), (2, vI a)] [] σ (lp m (f_X1_mended_b19 v0 k0) a σ) := by
  refine g_lp (fun (a : Int32) => [(0, vA v0), (2, vI a)]) ?_
  intro ag hag a σ
  unfold f_X1_mended_b19
  refine g_iload_n 2 dX1_mended_19 rfl rfl ?_
  refine g_aload_n 0 dX1_mended_20 rfl rfl ?_
  refine g_getI fo_0_5 (by decide) q179 dX1_mended_21 fun x2 => ?_
  refine g_icmp_ge 78 dX1_mended_24 (by decide) ?_ ?_
  · exact g_jmp (hk0 _ _) rfl
  · refine g_iconst 0 dX1_mended_27 (by decide) ?_
    refine g_istore_n 3 dX1_mended_28 rfl (lt_b rfl) ?_
    refine g_jmp (ok_X1_mended_b29 X v0 a ?_ _ _ _) rfl
    · intro a10 σ
      refine g_iinc 1 dX1_mended_72 (by decide) rfl (lt_b rfl) ?_
      refine g_goto 19 dX1_mended_75 (by decide) ?_
      exact g_jmp (hag _ _) rfl
theorem mm_X1_mended (v0 : Option Nat) (v1 : Int32) (σ : Hp) : MM yX1_mended mi_X1_mended rI [vA v0, vI v1] σ (f_X1_mended v0 v1 σ) := by
  refine mm_of (by decide +kernel) rfl rfl (Nat.le_of_ble_eq_true rfl) ?_
  intro X
  unfold f_X1_mended
  refine g_aload_n 0 dX1_mended_0 rfl rfl ?_
  refine g_iload_n 1 dX1_mended_1 rfl rfl ?_
  refine g_callV_I (mm_X1_isRider _ _ _) rfl zc_0 q576 q578 qs12 q107 q579 dv_X1_isRider rfl (Nat.le_of_ble_eq_true rfl) (Nat.le_of_ble_eq_true rfl) (Nat.le_of_ble_eq_true rfl) dX1_mended_2 fun x1 σ => ?_
  refine g_if_ne 10 dX1_mended_5 (by decide) ?_ ?_
  · refine g_aload_n 0 dX1_mended_10 rfl rfl ?_
    refine g_iconst 1 dX1_mended_11 (by decide) ?_
    refine g_iload_n 1 dX1_mended_12 rfl rfl ?_
    refine g_ishl dX1_mended_13 ?_
    refine g_callV_V (mm_X1_opens _ _ _) rfl zc_0 q741 q743 qs27 q107 q744 dv_X1_opens rfl (Nat.le_of_ble_eq_true rfl) (Nat.le_of_ble_eq_true rfl) (Nat.le_of_ble_eq_true rfl) dX1_mended_14 fun _ σ => ?_
    refine g_iconst 0 dX1_mended_17 (by decide) ?_
    refine g_istore_n 2 dX1_mended_18 rfl (lt_b rfl) ?_
    refine g_jmp (ok_X1_mended_b19 X v0 ?_ _ _ _) rfl
    · intro a11 σ
      refine g_aload_n 0 dX1_mended_78 rfl rfl ?_
      refine g_callV_I (mm_X1_laysLeast _ _) rfl zc_0 q753 q755 qs30 q107 q756 dv_X1_laysLeast rfl (Nat.le_of_ble_eq_true rfl) (Nat.le_of_ble_eq_true rfl) (Nat.le_of_ble_eq_true rfl) dX1_mended_79 fun x12 σ => ?_
      refine g_istore_n 2 dX1_mended_82 rfl (lt_b rfl) ?_
      refine g_iload_n 2 dX1_mended_83 rfl rfl ?_
      refine g_ldc dX1_mended_84 q170 ?_
      refine g_icmp_ne 92 dX1_mended_86 (by decide) ?_ ?_
      · refine g_aload_n 0 dX1_mended_92 rfl rfl ?_
        refine g_iload_n 2 dX1_mended_93 rfl rfl ?_
        refine g_callV_V (mm_X1_laysTurn _ _ _) rfl zc_0 q761 q763 qs32 q107 q764 dv_X1_laysTurn rfl (Nat.le_of_ble_eq_true rfl) (Nat.le_of_ble_eq_true rfl) (Nat.le_of_ble_eq_true rfl) dX1_mended_94 fun _ σ => ?_
        refine g_aload_n 0 dX1_mended_97 rfl rfl ?_
        refine g_callV_V (mm_X1_tellsTurn _ _) rfl zc_0 q770 q772 qs34 q107 q773 dv_X1_tellsTurn rfl (Nat.le_of_ble_eq_true rfl) (Nat.le_of_ble_eq_true rfl) (Nat.le_of_ble_eq_true rfl) dX1_mended_98 fun _ σ => ?_
        refine g_iload_n 2 dX1_mended_101 rfl rfl ?_
        exact g_iret rfl dX1_mended_102
      · refine g_bipush (-2) dX1_mended_89 (by decide) ?_
        exact g_iret rfl dX1_mended_91
  · refine g_iconst (-1) dX1_mended_8 (by decide) ?_
    exact g_iret rfl dX1_mended_9
theorem dd_X1_mended : yX1_mended.cls ≠ "java/lang/invoke/MethodHandle" ∧ yX1_mended.cls ≠ "java/lang/invoke/VarHandle" ∧ (parseMethodDescriptor yX1_mended.desc).map (fun d => d.parameters.length) = some 1 := by decide +kernel
theorem dv_X1_mended : yX1_mended.cls = RX1 ∧ yX1_mended.cls ≠ "java/lang/invoke/MethodHandle" ∧ yX1_mended.cls ≠ "java/lang/invoke/VarHandle" ∧ (parseMethodDescriptor yX1_mended.desc).map (fun d => d.parameters.length) = some 1 := ⟨rfl, dd_X1_mended⟩
/-! RockingHorse.fits()I -/
abbrev mi_X1_fits : Mi := (cX1_fits, 1, "RockingHorse", 5, some .int, "fits")
def f_X1_fits (v0 : Option Nat) (σ : Hp) : Option (Int32 × Hp) :=
  ob 0 σ v0 fun _ => bnd (f_X1_opensFound v0 σ) fun _ σ =>
  ob 0 σ v0 fun _ => bnd (f_X1_tellsWays v0 σ) fun x1 σ =>
  some (x1, σ)
theorem mm_X1_fits (v0 : Option Nat) (σ : Hp) : MM yX1_fits mi_X1_fits rI [vA v0] σ (f_X1_fits v0 σ) := by
  refine mm_of (by decide +kernel) rfl rfl (Nat.le_of_ble_eq_true rfl) ?_
  intro X
  unfold f_X1_fits
  refine g_aload_n 0 dX1_fits_0 rfl rfl ?_
  refine g_callV_V (mm_X1_opensFound _ _) rfl zc_0 q881 q883 qs42 q107 q884 dv_X1_opensFound rfl (Nat.le_of_ble_eq_true rfl) (Nat.le_of_ble_eq_true rfl) (Nat.le_of_ble_eq_true rfl) dX1_fits_1 fun _ σ => ?_
  refine g_aload_n 0 dX1_fits_4 rfl rfl ?_
  refine g_callV_I (mm_X1_tellsWays _ _) rfl zc_0 q802 q804 qs38 q107 q805 dv_X1_tellsWays rfl (Nat.le_of_ble_eq_true rfl) (Nat.le_of_ble_eq_true rfl) (Nat.le_of_ble_eq_true rfl) dX1_fits_5 fun x1 σ => ?_
  exact g_iret rfl dX1_fits_8
theorem dd_X1_fits : yX1_fits.cls ≠ "java/lang/invoke/MethodHandle" ∧ yX1_fits.cls ≠ "java/lang/invoke/VarHandle" ∧ (parseMethodDescriptor yX1_fits.desc).map (fun d => d.parameters.length) = some 0 := by decide +kernel
theorem dv_X1_fits : yX1_fits.cls = RX1 ∧ yX1_fits.cls ≠ "java/lang/invoke/MethodHandle" ∧ yX1_fits.cls ≠ "java/lang/invoke/VarHandle" ∧ (parseMethodDescriptor yX1_fits.desc).map (fun d => d.parameters.length) = some 0 := ⟨rfl, dd_X1_fits⟩
/-! RockingHorse.sure(II)I -/
abbrev mi_X1_sure : Mi := (cX1_sure, 7, "RockingHorse", 102, some .int, "sure")
def f_X1_sure (v0 : Option Nat) (v1 : Int32) (v2 : Int32) (σ : Hp) : Option (Int32 × Hp) :=
  ob 0 σ v0 fun _ => bnd (f_X1_isHour v0 v1 σ) fun x1 σ =>
  if x1 = 0 then
    some ((-1), σ)
  else
    ob 0 σ v0 fun _ => bnd (f_X1_isRider v0 v2 σ) fun x2 σ =>
    if x2 = 0 then
      some ((-1), σ)
    else
      ob 0 σ v0 fun _ => bnd (f_X1_opensFound v0 σ) fun _ σ =>
      ob 0 σ v0 fun _ => bnd (f_X1_laysWays v0 σ) fun x3 σ =>
      if (lg_cmp x3 0) = 0 then
        some ((-2), σ)
      else
        ob 0 σ v0 fun _ => bnd (f_X1_fitsIf v0 v1 v2 σ) fun x4 σ =>
        ob 0 σ v0 fun _ => bnd (f_X1_tellsFraction v0 x4 x3 σ) fun _ σ =>
        some ((Int64.toInt32 x4), σ)
theorem mm_X1_sure (v0 : Option Nat) (v1 : Int32) (v2 : Int32) (σ : Hp) : MM yX1_sure mi_X1_sure rI [vA v0, vI v1, vI v2] σ (f_X1_sure v0 v1 v2 σ) := by
  refine mm_of (by decide +kernel) rfl rfl (Nat.le_of_ble_eq_true rfl) ?_
  intro X
  unfold f_X1_sure
  refine g_aload_n 0 dX1_sure_0 rfl rfl ?_
  refine g_iload_n 1 dX1_sure_1 rfl rfl ?_
  refine g_callV_I (mm_X1_isHour _ _ _) rfl zc_0 q885 q887 qs43 q107 q888 dv_X1_isHour rfl (Nat.le_of_ble_eq_true rfl) (Nat.le_of_ble_eq_true rfl) (Nat.le_of_ble_eq_true rfl) dX1_sure_2 fun x1 σ => ?_
  refine g_if_eq 16 dX1_sure_5 (by decide) ?_ ?_
  · refine g_iconst (-1) dX1_sure_16 (by decide) ?_
    exact g_iret rfl dX1_sure_17
  · refine g_aload_n 0 dX1_sure_8 rfl rfl ?_
    refine g_iload_n 2 dX1_sure_9 rfl rfl ?_
    refine g_callV_I (mm_X1_isRider _ _ _) rfl zc_0 q576 q578 qs12 q107 q579 dv_X1_isRider rfl (Nat.le_of_ble_eq_true rfl) (Nat.le_of_ble_eq_true rfl) (Nat.le_of_ble_eq_true rfl) dX1_sure_10 fun x2 σ => ?_
    refine g_if_ne 18 dX1_sure_13 (by decide) ?_ ?_
    · refine g_aload_n 0 dX1_sure_18 rfl rfl ?_
      refine g_callV_V (mm_X1_opensFound _ _) rfl zc_0 q881 q883 qs42 q107 q884 dv_X1_opensFound rfl (Nat.le_of_ble_eq_true rfl) (Nat.le_of_ble_eq_true rfl) (Nat.le_of_ble_eq_true rfl) dX1_sure_19 fun _ σ => ?_
      refine g_aload_n 0 dX1_sure_22 rfl rfl ?_
      refine g_callV_L (mm_X1_laysWays _ _) rfl zc_0 q806 q808 qs39 q107 q809 dv_X1_laysWays rfl (Nat.le_of_ble_eq_true rfl) (Nat.le_of_ble_eq_true rfl) (Nat.le_of_ble_eq_true rfl) dX1_sure_23 fun x3 σ => ?_
      refine g_lstore_n 3 dX1_sure_26 rfl (lt_b rfl) ?_
      refine g_lload_n 3 dX1_sure_27 rfl rfl ?_
      refine g_lconst 0 dX1_sure_28 (by decide) ?_
      refine g_lcmp dX1_sure_29 ?_
      refine g_if_ne 36 dX1_sure_30 (by decide) ?_ ?_
      · refine g_aload_n 0 dX1_sure_36 rfl rfl ?_
        refine g_iload_n 1 dX1_sure_37 rfl rfl ?_
        refine g_iload_n 2 dX1_sure_38 rfl rfl ?_
        refine g_callV_L (mm_X1_fitsIf _ _ _ _) rfl zc_0 q893 q895 qs44 q107 q896 dv_X1_fitsIf rfl (Nat.le_of_ble_eq_true rfl) (Nat.le_of_ble_eq_true rfl) (Nat.le_of_ble_eq_true rfl) dX1_sure_39 fun x4 σ => ?_
        refine g_lstore dX1_sure_42 (lt_b rfl) ?_
        refine g_aload_n 0 dX1_sure_44 rfl rfl ?_
        refine g_lload dX1_sure_45 rfl ?_
        refine g_lload_n 3 dX1_sure_47 rfl rfl ?_
        refine g_callV_V (mm_X1_tellsFraction _ _ _ _) rfl zc_0 q897 q899 qs45 q107 q900 dv_X1_tellsFraction rfl (Nat.le_of_ble_eq_true rfl) (Nat.le_of_ble_eq_true rfl) (Nat.le_of_ble_eq_true rfl) dX1_sure_48 fun _ σ => ?_
        refine g_lload dX1_sure_51 rfl ?_
        refine g_l2i dX1_sure_53 ?_
        exact g_iret rfl dX1_sure_54
      · refine g_bipush (-2) dX1_sure_33 (by decide) ?_
        exact g_iret rfl dX1_sure_35
    · refine g_iconst (-1) dX1_sure_16 (by decide) ?_
      exact g_iret rfl dX1_sure_17
theorem dd_X1_sure : yX1_sure.cls ≠ "java/lang/invoke/MethodHandle" ∧ yX1_sure.cls ≠ "java/lang/invoke/VarHandle" ∧ (parseMethodDescriptor yX1_sure.desc).map (fun d => d.parameters.length) = some 2 := by decide +kernel
theorem dv_X1_sure : yX1_sure.cls = RX1 ∧ yX1_sure.cls ≠ "java/lang/invoke/MethodHandle" ∧ yX1_sure.cls ≠ "java/lang/invoke/VarHandle" ∧ (parseMethodDescriptor yX1_sure.desc).map (fun d => d.parameters.length) = some 2 := ⟨rfl, dd_X1_sure⟩
/-! RockingHorse.held(I)I -/
abbrev mi_X1_held : Mi := (cX1_held, 2, "RockingHorse", 102, some .int, "held")
def f_X1_held (v0 : Option Nat) (v1 : Int32) (σ : Hp) : Option (Int32 × Hp) :=
  bnd (f_X1_in (Int32.toInt64 v1) 0 10 σ) fun x1 σ =>
  if x1 = 0 then
    some ((-1), σ)
  else
    ob 0 σ v0 fun _ => bnd (f_X1_well v0 σ) fun x2 σ =>
    ob 0 σ v0 fun _ => bnd (f_X1_heldBy v0 x2 v1 σ) fun x3 σ =>
    ob 0 σ v0 fun _ => bnd (f_X1_well v0 σ) fun x4 σ =>
    bnd (f_J10_bitCount x4 σ) fun x5 σ =>
    bnd (f_X1_tenTo x5 σ) fun x6 σ =>
    ob 0 σ v0 fun _ => bnd (f_X1_tellsFraction v0 x3 x6 σ) fun _ σ =>
    some (0, σ)
theorem mm_X1_held (v0 : Option Nat) (v1 : Int32) (σ : Hp) : MM yX1_held mi_X1_held rI [vA v0, vI v1] σ (f_X1_held v0 v1 σ) := by
  refine mm_of (by decide +kernel) rfl rfl (Nat.le_of_ble_eq_true rfl) ?_
  intro X
  unfold f_X1_held
  refine g_iload_n 1 dX1_held_0 rfl rfl ?_
  refine g_i2l dX1_held_1 ?_
  refine g_lconst 0 dX1_held_2 (by decide) ?_
  refine g_ldc2_w dX1_held_3 q919 ?_
  refine g_callS_I (mm_X1_in _ _ _ _) rfl q346 q347 q107 q348 dd_X1_in rfl (Nat.le_of_ble_eq_true rfl) (Nat.le_of_ble_eq_true rfl) (Nat.le_of_ble_eq_true rfl) dX1_held_6 fun x1 σ => ?_
  refine g_if_ne 14 dX1_held_9 (by decide) ?_ ?_
  · refine g_aload_n 0 dX1_held_14 rfl rfl ?_
    refine g_aload_n 0 dX1_held_15 rfl rfl ?_
    refine g_aload_n 0 dX1_held_16 rfl rfl ?_
    refine g_callV_I (mm_X1_well _ _) rfl zc_0 q794 q796 qs37 q107 q797 dv_X1_well rfl (Nat.le_of_ble_eq_true rfl) (Nat.le_of_ble_eq_true rfl) (Nat.le_of_ble_eq_true rfl) dX1_held_17 fun x2 σ => ?_
    refine g_iload_n 1 dX1_held_20 rfl rfl ?_
    refine g_callV_L (mm_X1_heldBy _ _ _ _) rfl zc_0 q920 q922 qs46 q107 q923 dv_X1_heldBy rfl (Nat.le_of_ble_eq_true rfl) (Nat.le_of_ble_eq_true rfl) (Nat.le_of_ble_eq_true rfl) dX1_held_21 fun x3 σ => ?_
    refine g_aload_n 0 dX1_held_24 rfl rfl ?_
    refine g_callV_I (mm_X1_well _ _) rfl zc_0 q794 q796 qs37 q107 q797 dv_X1_well rfl (Nat.le_of_ble_eq_true rfl) (Nat.le_of_ble_eq_true rfl) (Nat.le_of_ble_eq_true rfl) dX1_held_25 fun x4 σ => ?_
    refine g_callS_I (mm_J10_bitCount _ _) rfl q659 q600 q125 q601 dd_J10_bitCount rfl (Nat.le_of_ble_eq_true rfl) (Nat.le_of_ble_eq_true rfl) (Nat.le_of_ble_eq_true rfl) dX1_held_28 fun x5 σ => ?_
    refine g_callS_L (mm_X1_tenTo _ _) rfl q924 q925 q107 q926 dd_X1_tenTo rfl (Nat.le_of_ble_eq_true rfl) (Nat.le_of_ble_eq_true rfl) (Nat.le_of_ble_eq_true rfl) dX1_held_31 fun x6 σ => ?_
    refine g_callV_V (mm_X1_tellsFraction _ _ _ _) rfl zc_0 q897 q899 qs45 q107 q900 dv_X1_tellsFraction rfl (Nat.le_of_ble_eq_true rfl) (Nat.le_of_ble_eq_true rfl) (Nat.le_of_ble_eq_true rfl) dX1_held_34 fun _ σ => ?_
    refine g_iconst 0 dX1_held_37 (by decide) ?_
    exact g_iret rfl dX1_held_38
  · refine g_iconst (-1) dX1_held_12 (by decide) ?_
    exact g_iret rfl dX1_held_13
theorem dd_X1_held : yX1_held.cls ≠ "java/lang/invoke/MethodHandle" ∧ yX1_held.cls ≠ "java/lang/invoke/VarHandle" ∧ (parseMethodDescriptor yX1_held.desc).map (fun d => d.parameters.length) = some 1 := by decide +kernel
theorem dv_X1_held : yX1_held.cls = RX1 ∧ yX1_held.cls ≠ "java/lang/invoke/MethodHandle" ∧ yX1_held.cls ≠ "java/lang/invoke/VarHandle" ∧ (parseMethodDescriptor yX1_held.desc).map (fun d => d.parameters.length) = some 1 := ⟨rfl, dd_X1_held⟩
/-! RockingHorse.years(II)I -/
abbrev mi_X1_years : Mi := (cX1_years, 6, "RockingHorse", 104, some .int, "years")
def f_X1_years_b32 (v0 : Option Nat) (v2 : Int32) (k0 : Unit → Hp → Option (Int32 × Hp)) (ag : Int32 → Hp → Option (Int32 × Hp)) (a : Int32) (σ : Hp) : Option (Int32 × Hp) :=
  if v2 ≤ a then
    k0 () σ
  else
    ob 0 σ v0 fun _ => bnd (f_X1_draws v0 4 σ) fun x4 σ =>
    jn (fun (a5 : Unit) σ =>
        ag (a + 1) σ) fun j6 =>
    if 2 ≤ x4 then
      gI 0 5 σ v0 fun x7 =>
      jn (fun (a8 : Unit) σ =>
          gI 0 5 σ v0 fun x10 =>
          if x10 ≤ 0 then
            j6 () σ
          else
            ob 0 σ v0 fun _ => bnd (f_X1_draws v0 8 σ) fun x11 σ =>
            gR 0 1 σ v0 fun y12 =>
            gI 0 5 σ v0 fun x13 =>
            ob 0 σ v0 fun _ => bnd (f_X1_draws v0 x13 σ) fun x14 σ =>
            ob 0 σ v0 fun _ => bnd (f_X1_gives v0 y12 x11 x14 σ) fun x15 σ =>
            j6 () σ) fun j9 =>
      if x7 ≤ 0 then
        j9 () σ
      else
        if x4 = 2 then
          gR 0 1 σ v0 fun y16 =>
          gI 0 5 σ v0 fun x17 =>
          ob 0 σ v0 fun _ => bnd (f_X1_draws v0 x17 σ) fun x18 σ =>
          ob 0 σ v0 fun _ => bnd (f_X1_falls v0 y16 x18 σ) fun x19 σ =>
          j6 () σ
        else
          j9 () σ
    else
      gR 0 1 σ v0 fun y20 =>
      ob 0 σ v0 fun _ => bnd (f_X1_nightGoes v0 y20 σ) fun _ σ =>
      j6 () σ
def f_X1_years (v0 : Option Nat) (v1 : Int32) (v2 : Int32) (σ : Hp) : Option (Int32 × Hp) :=
  bnd (f_X1_in (Int32.toInt64 v2) 1 60 σ) fun x1 σ =>
  if x1 = 0 then
    some ((-1), σ)
  else
    pI 0 0 48 σ v0 v1 fun σ =>
    gR 0 1 σ v0 fun y2 =>
    gR 0 0 σ v0 fun y3 =>
    ob 1 σ y2 fun _ => bnd (f_X2_becomes y2 y3 σ) fun _ σ =>
    lp 2000 (f_X1_years_b32 v0 v2 (fun (a21 : Unit) σ =>
        pI 0 0 52 σ v0 0 fun σ =>
        gR 0 1 σ v0 fun y22 =>
        gI 1 5 σ y22 fun x23 =>
        gR 0 0 σ v0 fun y24 =>
        gI 1 5 σ y24 fun x25 =>
        ob 0 σ v0 fun _ => bnd (f_X1_tells v0 (Int32.toInt64 (x23 - x25)) σ) fun _ σ =>
        gR 0 1 σ v0 fun y26 =>
        gR 1 1 σ y26 fun y27 =>
        ob 0 σ v0 fun _ => bnd (f_X1_sumOf v0 y27 σ) fun x28 σ =>
        ob 0 σ v0 fun _ => bnd (f_X1_tells v0 (Int32.toInt64 x28) σ) fun _ σ =>
        gR 0 1 σ v0 fun y29 =>
        gI 1 4 σ y29 fun x30 =>
        gR 0 0 σ v0 fun y31 =>
        gI 1 4 σ y31 fun x32 =>
        some ((x30 - x32), σ))) 0 σ
theorem ok_X1_years_b32 (X : Mx) (v0 : Option Nat) (v2 : Int32) {k0 : Unit → Hp → Option (Int32 × Hp)} (hk0 : ∀ (a : Unit) (σ : Hp), GG X mi_X1_years (QM X rI) 134 [(0, vA v0)] [] σ (k0 a σ)) : ∀ (m : Nat) (a : Int32) (σ : Hp), GG X mi_X1_years (QM X rI) 32 [(0, vA v0), (2, vI v2), (3, vI a)] [] σ (lp m (f_X1_years_b32 v0 v2 k0) a σ) := by
  refine g_lp (fun (a : Int32) => [(0, vA v0), (2, vI v2), (3, vI a)]) ?_
  intro ag hag a σ
  unfold f_X1_years_b32
  refine g_iload_n 3 dX1_years_32 rfl rfl ?_
  refine g_iload_n 2 dX1_years_33 rfl rfl ?_
  refine g_icmp_ge 134 dX1_years_34 (by decide) ?_ ?_
  · exact g_jmp (hk0 _ _) rfl
  · refine g_aload_n 0 dX1_years_37 rfl rfl ?_
    refine g_iconst 4 dX1_years_38 (by decide) ?_
    refine g_callV_I (mm_X1_draws _ _ _) rfl zc_0 q950 q952 qs48 q107 q953 dv_X1_draws rfl (Nat.le_of_ble_eq_true rfl) (Nat.le_of_ble_eq_true rfl) (Nat.le_of_ble_eq_true rfl) dX1_years_39 fun x4 σ => ?_
    refine g_istore dX1_years_42 (lt_b rfl) ?_
    refine g_iload dX1_years_44 rfl ?_
    refine g_iconst 2 dX1_years_46 (by decide) ?_
    refine g_jn (fun j6 => ∀ (a5 : Unit) (σ : Hp), GG X mi_X1_years (QM X rI) 128 [(0, vA v0), (2, vI v2), (3, vI a)] [] σ (j6 a5 σ)) ?_ ?_
    · intro a5 σ
      refine g_iinc 1 dX1_years_128 (by decide) rfl (lt_b rfl) ?_
      refine g_goto 32 dX1_years_131 (by decide) ?_
      exact g_jmp (hag _ _) rfl
    · intro j6 hj6
      refine g_icmp_ge 61 dX1_years_47 (by decide) ?_ ?_
      · refine g_aload_n 0 dX1_years_61 rfl rfl ?_
        refine g_getI fo_0_5 (by decide) q179 dX1_years_62 fun x7 => ?_
        refine g_jn (fun j9 => ∀ (a8 : Unit) (σ : Hp), GG X mi_X1_years (QM X rI) 94 [(0, vA v0), (2, vI v2), (3, vI a)] [] σ (j9 a8 σ)) ?_ ?_
        · intro a8 σ
          refine g_aload_n 0 dX1_years_94 rfl rfl ?_
          refine g_getI fo_0_5 (by decide) q179 dX1_years_95 fun x10 => ?_
          refine g_if_le 128 dX1_years_98 (by decide) ?_ ?_
          · exact g_jmp (hj6 _ _) rfl
          · refine g_aload_n 0 dX1_years_101 rfl rfl ?_
            refine g_bipush 8 dX1_years_102 (by decide) ?_
            refine g_callV_I (mm_X1_draws _ _ _) rfl zc_0 q950 q952 qs48 q107 q953 dv_X1_draws rfl (Nat.le_of_ble_eq_true rfl) (Nat.le_of_ble_eq_true rfl) (Nat.le_of_ble_eq_true rfl) dX1_years_104 fun x11 σ => ?_
            refine g_istore dX1_years_107 (lt_b rfl) ?_
            refine g_aload_n 0 dX1_years_109 rfl rfl ?_
            refine g_aload_n 0 dX1_years_110 rfl rfl ?_
            refine g_getR fo_0_1 q172 dX1_years_111 fun y12 => ?_
            refine g_iload dX1_years_114 rfl ?_
            refine g_aload_n 0 dX1_years_116 rfl rfl ?_
            refine g_aload_n 0 dX1_years_117 rfl rfl ?_
            refine g_getI fo_0_5 (by decide) q179 dX1_years_118 fun x13 => ?_
            refine g_callV_I (mm_X1_draws _ _ _) rfl zc_0 q950 q952 qs48 q107 q953 dv_X1_draws rfl (Nat.le_of_ble_eq_true rfl) (Nat.le_of_ble_eq_true rfl) (Nat.le_of_ble_eq_true rfl) dX1_years_121 fun x14 σ => ?_
            refine g_callV_I (mm_X1_gives _ _ _ _ _) rfl zc_0 q647 q649 qs16 q107 q650 dv_X1_gives rfl (Nat.le_of_ble_eq_true rfl) (Nat.le_of_ble_eq_true rfl) (Nat.le_of_ble_eq_true rfl) dX1_years_124 fun x15 σ => ?_
            refine g_pop dX1_years_127 rfl ?_
            exact g_jmp (hj6 _ _) rfl
        · intro j9 hj9
          refine g_if_le 94 dX1_years_65 (by decide) ?_ ?_
          · exact g_jmp (hj9 _ _) rfl
          · refine g_iload dX1_years_68 rfl ?_
            refine g_iconst 2 dX1_years_70 (by decide) ?_
            refine g_icmp_ne 94 dX1_years_71 (by decide) ?_ ?_
            · exact g_jmp (hj9 _ _) rfl
            · refine g_aload_n 0 dX1_years_74 rfl rfl ?_
              refine g_aload_n 0 dX1_years_75 rfl rfl ?_
              refine g_getR fo_0_1 q172 dX1_years_76 fun y16 => ?_
              refine g_aload_n 0 dX1_years_79 rfl rfl ?_
              refine g_aload_n 0 dX1_years_80 rfl rfl ?_
              refine g_getI fo_0_5 (by decide) q179 dX1_years_81 fun x17 => ?_
              refine g_callV_I (mm_X1_draws _ _ _) rfl zc_0 q950 q952 qs48 q107 q953 dv_X1_draws rfl (Nat.le_of_ble_eq_true rfl) (Nat.le_of_ble_eq_true rfl) (Nat.le_of_ble_eq_true rfl) dX1_years_84 fun x18 σ => ?_
              refine g_callV_I (mm_X1_falls _ _ _ _) rfl zc_0 q655 q657 qs17 q107 q658 dv_X1_falls rfl (Nat.le_of_ble_eq_true rfl) (Nat.le_of_ble_eq_true rfl) (Nat.le_of_ble_eq_true rfl) dX1_years_87 fun x19 σ => ?_
              refine g_pop dX1_years_90 rfl ?_
              refine g_goto 128 dX1_years_91 (by decide) ?_
              exact g_jmp (hj6 _ _) rfl
      · refine g_aload_n 0 dX1_years_50 rfl rfl ?_
        refine g_aload_n 0 dX1_years_51 rfl rfl ?_
        refine g_getR fo_0_1 q172 dX1_years_52 fun y20 => ?_
        refine g_callV_V (mm_X1_nightGoes _ _ _) rfl zc_0 q669 q671 qs19 q107 q672 dv_X1_nightGoes rfl (Nat.le_of_ble_eq_true rfl) (Nat.le_of_ble_eq_true rfl) (Nat.le_of_ble_eq_true rfl) dX1_years_55 fun _ σ => ?_
        refine g_goto 128 dX1_years_58 (by decide) ?_
        exact g_jmp (hj6 _ _) rfl
theorem mm_X1_years (v0 : Option Nat) (v1 : Int32) (v2 : Int32) (σ : Hp) : MM yX1_years mi_X1_years rI [vA v0, vI v1, vI v2] σ (f_X1_years v0 v1 v2 σ) := by
  refine mm_of (by decide +kernel) rfl rfl (Nat.le_of_ble_eq_true rfl) ?_
  intro X
  unfold f_X1_years
  refine g_iload_n 2 dX1_years_0 rfl rfl ?_
  refine g_i2l dX1_years_1 ?_
  refine g_lconst 1 dX1_years_2 (by decide) ?_
  refine g_ldc2_w dX1_years_3 q716 ?_
  refine g_callS_I (mm_X1_in _ _ _ _) rfl q346 q347 q107 q348 dd_X1_in rfl (Nat.le_of_ble_eq_true rfl) (Nat.le_of_ble_eq_true rfl) (Nat.le_of_ble_eq_true rfl) dX1_years_6 fun x1 σ => ?_
  refine g_if_ne 14 dX1_years_9 (by decide) ?_ ?_
  · refine g_aload_n 0 dX1_years_14 rfl rfl ?_
    refine g_iload_n 1 dX1_years_15 rfl rfl ?_
    refine g_putI fo_0_48 (by decide) rfl q225 dX1_years_16 fun σ => ?_
    refine g_aload_n 0 dX1_years_19 rfl rfl ?_
    refine g_getR fo_0_1 q172 dX1_years_20 fun y2 => ?_
    refine g_aload_n 0 dX1_years_23 rfl rfl ?_
    refine g_getR fo_0_0 q171 dX1_years_24 fun y3 => ?_
    refine g_callV_V (mm_X2_becomes _ _ _) rfl zc_1 q628 q629 q630 q108 q631 dv_X2_becomes rfl (Nat.le_of_ble_eq_true rfl) (Nat.le_of_ble_eq_true rfl) (Nat.le_of_ble_eq_true rfl) dX1_years_27 fun _ σ => ?_
    refine g_iconst 0 dX1_years_30 (by decide) ?_
    refine g_istore_n 3 dX1_years_31 rfl (lt_b rfl) ?_
    refine g_jmp (ok_X1_years_b32 X v0 v2 ?_ _ _ _) rfl
    · intro a21 σ
      refine g_aload_n 0 dX1_years_134 rfl rfl ?_
      refine g_iconst 0 dX1_years_135 (by decide) ?_
      refine g_putI fo_0_52 (by decide) rfl q229 dX1_years_136 fun σ => ?_
      refine g_aload_n 0 dX1_years_139 rfl rfl ?_
      refine g_aload_n 0 dX1_years_140 rfl rfl ?_
      refine g_getR fo_0_1 q172 dX1_years_141 fun y22 => ?_
      refine g_getIN fo_1_5 (by decide) nf_154 dX1_years_144 fun x23 => ?_
      refine g_aload_n 0 dX1_years_147 rfl rfl ?_
      refine g_getR fo_0_0 q171 dX1_years_148 fun y24 => ?_
      refine g_getIN fo_1_5 (by decide) nf_154 dX1_years_151 fun x25 => ?_
      refine g_isub dX1_years_154 ?_
      refine g_i2l dX1_years_155 ?_
      refine g_callV_V (mm_X1_tells _ _ _) rfl zc_0 q683 q685 qs21 q107 q686 dv_X1_tells rfl (Nat.le_of_ble_eq_true rfl) (Nat.le_of_ble_eq_true rfl) (Nat.le_of_ble_eq_true rfl) dX1_years_156 fun _ σ => ?_
      refine g_aload_n 0 dX1_years_159 rfl rfl ?_
      refine g_aload_n 0 dX1_years_160 rfl rfl ?_
      refine g_aload_n 0 dX1_years_161 rfl rfl ?_
      refine g_getR fo_0_1 q172 dX1_years_162 fun y26 => ?_
      refine g_getRN fo_1_1 nf_145 dX1_years_165 fun y27 => ?_
      refine g_callV_I (mm_X1_sumOf _ _ _) rfl zc_0 q620 q622 qs14 q107 q623 dv_X1_sumOf rfl (Nat.le_of_ble_eq_true rfl) (Nat.le_of_ble_eq_true rfl) (Nat.le_of_ble_eq_true rfl) dX1_years_168 fun x28 σ => ?_
      refine g_i2l dX1_years_171 ?_
      refine g_callV_V (mm_X1_tells _ _ _) rfl zc_0 q683 q685 qs21 q107 q686 dv_X1_tells rfl (Nat.le_of_ble_eq_true rfl) (Nat.le_of_ble_eq_true rfl) (Nat.le_of_ble_eq_true rfl) dX1_years_172 fun _ σ => ?_
      refine g_aload_n 0 dX1_years_175 rfl rfl ?_
      refine g_getR fo_0_1 q172 dX1_years_176 fun y29 => ?_
      refine g_getIN fo_1_4 (by decide) nf_152 dX1_years_179 fun x30 => ?_
      refine g_aload_n 0 dX1_years_182 rfl rfl ?_
      refine g_getR fo_0_0 q171 dX1_years_183 fun y31 => ?_
      refine g_getIN fo_1_4 (by decide) nf_152 dX1_years_186 fun x32 => ?_
      refine g_isub dX1_years_189 ?_
      exact g_iret rfl dX1_years_190
  · refine g_iconst (-1) dX1_years_12 (by decide) ?_
    exact g_iret rfl dX1_years_13
theorem dd_X1_years : yX1_years.cls ≠ "java/lang/invoke/MethodHandle" ∧ yX1_years.cls ≠ "java/lang/invoke/VarHandle" ∧ (parseMethodDescriptor yX1_years.desc).map (fun d => d.parameters.length) = some 2 := by decide +kernel
theorem dv_X1_years : yX1_years.cls = RX1 ∧ yX1_years.cls ≠ "java/lang/invoke/MethodHandle" ∧ yX1_years.cls ≠ "java/lang/invoke/VarHandle" ∧ (parseMethodDescriptor yX1_years.desc).map (fun d => d.parameters.length) = some 2 := ⟨rfl, dd_X1_years⟩
/-! RockingHorseModel.readMan(I)V -/
abbrev mi_X3_readMan : Mi := (cX3_readMan, 4, "RockingHorseModel", 3, none, "readMan")
def f_X3_readMan_b44 (v0 : Option Nat) (v1 : Int32) (k0 : Unit → Hp → Option (Unit × Hp)) (ag : Int32 → Hp → Option (Unit × Hp)) (a : Int32) (σ : Hp) : Option (Unit × Hp) :=
  ob 2 σ v0 fun _ => bnd (f_X3_fine v0 σ) fun x6 σ =>
  if x6 = 0 then
    k0 () σ
  else
    ob 2 σ v0 fun _ => bnd (f_X3_here v0 σ) fun x7 σ =>
    bnd (f_X3_in x7 97 104 σ) fun x8 σ =>
    if x8 = 0 then
      k0 () σ
    else
      ob 2 σ v0 fun _ => bnd (f_X3_here v0 σ) fun x9 σ =>
      if a < (x9 - 97) then
        gI 2 15 σ v0 fun x10 =>
        pI 0 2 15 σ v0 (x10 + 1) fun σ =>
        gR 2 17 σ v0 fun y11 =>
        lI 100 σ y11 (v1 + 2) fun x12 =>
        sI σ y11 (v1 + 2) (x12 ||| (shl 1 (x9 - 97))) fun σ =>
        ag (x9 - 97) σ
      else
        gI 2 15 σ v0 fun x13 =>
        ob 2 σ v0 fun _ => bnd (f_X3_fault v0 x13 σ) fun _ σ =>
        ag a σ
def f_X3_readMan (v0 : Option Nat) (v1 : Int32) (σ : Hp) : Option (Unit × Hp) :=
  gR 2 17 σ v0 fun y1 =>
  ob 2 σ v0 fun _ => bnd (f_X3_oneOf v0 49 4 σ) fun x2 σ =>
  sI σ y1 v1 (x2 + 1) fun σ =>
  gR 2 17 σ v0 fun y3 =>
  ob 2 σ v0 fun _ => bnd (f_X3_oneOf v0 49 9 σ) fun x4 σ =>
  sI σ y3 (v1 + 1) (x4 + 1) fun σ =>
  gR 2 17 σ v0 fun y5 =>
  sI σ y5 (v1 + 2) 0 fun σ =>
  lp 2000 (f_X3_readMan_b44 v0 v1 (fun (a14 : Unit) σ =>
      some ((), σ))) (-1) σ
theorem ok_X3_readMan_b44 (X : Mx) (v0 : Option Nat) (v1 : Int32) {k0 : Unit → Hp → Option (Unit × Hp)} (hk0 : ∀ (a : Unit) (σ : Hp), GG X mi_X3_readMan (QM X rV) 118 [] [] σ (k0 a σ)) : ∀ (m : Nat) (a : Int32) (σ : Hp), GG X mi_X3_readMan (QM X rV) 44 [(0, vA v0), (1, vI v1), (2, vI a)] [] σ (lp m (f_X3_readMan_b44 v0 v1 k0) a σ) := by
  refine g_lp (fun (a : Int32) => [(0, vA v0), (1, vI v1), (2, vI a)]) ?_
  intro ag hag a σ
  unfold f_X3_readMan_b44
  refine g_aload_n 0 dX3_readMan_44 rfl rfl ?_
  refine g_callV_I (mm_X3_fine _ _) rfl zc_2 q1238 q1240 qs52 q109 q1241 dv_X3_fine rfl (Nat.le_of_ble_eq_true rfl) (Nat.le_of_ble_eq_true rfl) (Nat.le_of_ble_eq_true rfl) dX3_readMan_45 fun x6 σ => ?_
  refine g_if_eq 118 dX3_readMan_48 (by decide) ?_ ?_
  · exact g_jmp (hk0 _ _) rfl
  · refine g_aload_n 0 dX3_readMan_51 rfl rfl ?_
    refine g_callV_I (mm_X3_here _ _) rfl zc_2 q1254 q1256 qs56 q109 q1257 dv_X3_here rfl (Nat.le_of_ble_eq_true rfl) (Nat.le_of_ble_eq_true rfl) (Nat.le_of_ble_eq_true rfl) dX3_readMan_52 fun x7 σ => ?_
    refine g_bipush 97 dX3_readMan_55 (by decide) ?_
    refine g_bipush 104 dX3_readMan_57 (by decide) ?_
    refine g_callS_I (mm_X3_in _ _ _ _) rfl q1223 q1224 q109 q1225 dd_X3_in rfl (Nat.le_of_ble_eq_true rfl) (Nat.le_of_ble_eq_true rfl) (Nat.le_of_ble_eq_true rfl) dX3_readMan_59 fun x8 σ => ?_
    refine g_if_eq 118 dX3_readMan_62 (by decide) ?_ ?_
    · exact g_jmp (hk0 _ _) rfl
    · refine g_aload_n 0 dX3_readMan_65 rfl rfl ?_
      refine g_callV_I (mm_X3_here _ _) rfl zc_2 q1254 q1256 qs56 q109 q1257 dv_X3_here rfl (Nat.le_of_ble_eq_true rfl) (Nat.le_of_ble_eq_true rfl) (Nat.le_of_ble_eq_true rfl) dX3_readMan_66 fun x9 σ => ?_
      refine g_bipush 97 dX3_readMan_69 (by decide) ?_
      refine g_isub dX3_readMan_71 ?_
      refine g_istore_n 3 dX3_readMan_72 rfl (lt_b rfl) ?_
      refine g_iload_n 3 dX3_readMan_73 rfl rfl ?_
      refine g_iload_n 2 dX3_readMan_74 rfl rfl ?_
      refine g_icmp_gt 89 dX3_readMan_75 (by decide) ?_ ?_
      · refine g_aload_n 0 dX3_readMan_89 rfl rfl ?_
        refine g_dup dX3_readMan_90 rfl ?_
        refine g_getI fo_2_15 (by decide) q1071 dX3_readMan_91 fun x10 => ?_
        refine g_iconst 1 dX3_readMan_94 (by decide) ?_
        refine g_iadd dX3_readMan_95 ?_
        refine g_putI fo_2_15 (by decide) rfl q1071 dX3_readMan_96 fun σ => ?_
        refine g_aload_n 0 dX3_readMan_99 rfl rfl ?_
        refine g_getR fo_2_17 q1073 dX3_readMan_100 fun y11 => ?_
        refine g_iload_n 1 dX3_readMan_103 rfl rfl ?_
        refine g_iconst 2 dX3_readMan_104 (by decide) ?_
        refine g_iadd dX3_readMan_105 ?_
        refine g_dup2 dX3_readMan_106 rfl rfl ?_
        refine g_iaload dX3_readMan_107 fun x12 => ?_
        refine g_iconst 1 dX3_readMan_108 (by decide) ?_
        refine g_iload_n 3 dX3_readMan_109 rfl rfl ?_
        refine g_ishl dX3_readMan_110 ?_
        refine g_ior dX3_readMan_111 ?_
        refine g_iastore dX3_readMan_112 fun σ => ?_
        refine g_iload_n 3 dX3_readMan_113 rfl rfl ?_
        refine g_istore_n 2 dX3_readMan_114 rfl (lt_b rfl) ?_
        refine g_goto 44 dX3_readMan_115 (by decide) ?_
        exact g_jmp (hag _ _) rfl
      · refine g_aload_n 0 dX3_readMan_78 rfl rfl ?_
        refine g_aload_n 0 dX3_readMan_79 rfl rfl ?_
        refine g_getI fo_2_15 (by decide) q1071 dX3_readMan_80 fun x13 => ?_
        refine g_callV_V (mm_X3_fault _ _ _) rfl zc_2 q1242 q1244 qs53 q109 q1245 dv_X3_fault rfl (Nat.le_of_ble_eq_true rfl) (Nat.le_of_ble_eq_true rfl) (Nat.le_of_ble_eq_true rfl) dX3_readMan_83 fun _ σ => ?_
        refine g_goto 115 dX3_readMan_86 (by decide) ?_
        refine g_goto 44 dX3_readMan_115 (by decide) ?_
        exact g_jmp (hag _ _) rfl
theorem mm_X3_readMan (v0 : Option Nat) (v1 : Int32) (σ : Hp) : MM yX3_readMan mi_X3_readMan rV [vA v0, vI v1] σ (f_X3_readMan v0 v1 σ) := by
  refine mm_of (by decide +kernel) rfl rfl (Nat.le_of_ble_eq_true rfl) ?_
  intro X
  unfold f_X3_readMan
  refine g_aload_n 0 dX3_readMan_0 rfl rfl ?_
  refine g_getR fo_2_17 q1073 dX3_readMan_1 fun y1 => ?_
  refine g_iload_n 1 dX3_readMan_4 rfl rfl ?_
  refine g_aload_n 0 dX3_readMan_5 rfl rfl ?_
  refine g_bipush 49 dX3_readMan_6 (by decide) ?_
  refine g_iconst 4 dX3_readMan_8 (by decide) ?_
  refine g_callV_I (mm_X3_oneOf _ _ _ _) rfl zc_2 q1250 q1252 qs55 q109 q1253 dv_X3_oneOf rfl (Nat.le_of_ble_eq_true rfl) (Nat.le_of_ble_eq_true rfl) (Nat.le_of_ble_eq_true rfl) dX3_readMan_9 fun x2 σ => ?_
  refine g_iconst 1 dX3_readMan_12 (by decide) ?_
  refine g_iadd dX3_readMan_13 ?_
  refine g_iastore dX3_readMan_14 fun σ => ?_
  refine g_aload_n 0 dX3_readMan_15 rfl rfl ?_
  refine g_getR fo_2_17 q1073 dX3_readMan_16 fun y3 => ?_
  refine g_iload_n 1 dX3_readMan_19 rfl rfl ?_
  refine g_iconst 1 dX3_readMan_20 (by decide) ?_
  refine g_iadd dX3_readMan_21 ?_
  refine g_aload_n 0 dX3_readMan_22 rfl rfl ?_
  refine g_bipush 49 dX3_readMan_23 (by decide) ?_
  refine g_bipush 9 dX3_readMan_25 (by decide) ?_
  refine g_callV_I (mm_X3_oneOf _ _ _ _) rfl zc_2 q1250 q1252 qs55 q109 q1253 dv_X3_oneOf rfl (Nat.le_of_ble_eq_true rfl) (Nat.le_of_ble_eq_true rfl) (Nat.le_of_ble_eq_true rfl) dX3_readMan_27 fun x4 σ => ?_
  refine g_iconst 1 dX3_readMan_30 (by decide) ?_
  refine g_iadd dX3_readMan_31 ?_
  refine g_iastore dX3_readMan_32 fun σ => ?_
  refine g_aload_n 0 dX3_readMan_33 rfl rfl ?_
  refine g_getR fo_2_17 q1073 dX3_readMan_34 fun y5 => ?_
  refine g_iload_n 1 dX3_readMan_37 rfl rfl ?_
  refine g_iconst 2 dX3_readMan_38 (by decide) ?_
  refine g_iadd dX3_readMan_39 ?_
  refine g_iconst 0 dX3_readMan_40 (by decide) ?_
  refine g_iastore dX3_readMan_41 fun σ => ?_
  refine g_iconst (-1) dX3_readMan_42 (by decide) ?_
  refine g_istore_n 2 dX3_readMan_43 rfl (lt_b rfl) ?_
  refine g_jmp (ok_X3_readMan_b44 X v0 v1 ?_ _ _ _) rfl
  · intro a14 σ
    exact g_vret rfl dX3_readMan_118
theorem dd_X3_readMan : yX3_readMan.cls ≠ "java/lang/invoke/MethodHandle" ∧ yX3_readMan.cls ≠ "java/lang/invoke/VarHandle" ∧ (parseMethodDescriptor yX3_readMan.desc).map (fun d => d.parameters.length) = some 1 := by decide +kernel
theorem dv_X3_readMan : yX3_readMan.cls = RX3 ∧ yX3_readMan.cls ≠ "java/lang/invoke/MethodHandle" ∧ yX3_readMan.cls ≠ "java/lang/invoke/VarHandle" ∧ (parseMethodDescriptor yX3_readMan.desc).map (fun d => d.parameters.length) = some 1 := ⟨rfl, dd_X3_readMan⟩
/-! RockingHorseModel.readRule()Z -/
abbrev mi_X3_readRule : Mi := (cX3_readRule, 1, "RockingHorseModel", 204, some .boolean, "readRule")
def f_X3_readRule (v0 : Option Nat) (σ : Hp) : Option (Int32 × Hp) :=
  ob 2 σ v0 fun _ => bnd (f_X3_beginText v0 40 σ) fun _ σ =>
  pI 2 2 21 σ v0 0 fun σ =>
  gI 2 13 σ v0 fun x1 =>
  jn (fun (a2 : Unit) σ =>
      ob 2 σ v0 fun _ => bnd (f_X3_wasRight v0 σ) fun x4 σ =>
      rz1 x4 σ) fun j3 =>
  if x1 ≤ 0 then
    j3 () σ
  else
    ob 2 σ v0 fun _ => bnd (f_X3_heldBy 200 v0 0 σ) fun x5 σ =>
    j3 () σ
theorem mm_X3_readRule (v0 : Option Nat) (σ : Hp) : MM yX3_readRule mi_X3_readRule rI [vA v0] σ (f_X3_readRule v0 σ) := by
  refine mm_of (by decide +kernel) rfl rfl (Nat.le_of_ble_eq_true rfl) ?_
  intro X
  unfold f_X3_readRule
  refine g_aload_n 0 dX3_readRule_0 rfl rfl ?_
  refine g_bipush 40 dX3_readRule_1 (by decide) ?_
  refine g_callV_V (mm_X3_beginText _ _ _) rfl zc_2 q1230 q1232 qs50 q109 q1233 dv_X3_beginText rfl (Nat.le_of_ble_eq_true rfl) (Nat.le_of_ble_eq_true rfl) (Nat.le_of_ble_eq_true rfl) dX3_readRule_3 fun _ σ => ?_
  refine g_aload_n 0 dX3_readRule_6 rfl rfl ?_
  refine g_iconst 0 dX3_readRule_7 (by decide) ?_
  refine g_putI fo_2_21 (by decide) rfl q1077 dX3_readRule_8 fun σ => ?_
  refine g_aload_n 0 dX3_readRule_11 rfl rfl ?_
  refine g_getI fo_2_13 (by decide) q1069 dX3_readRule_12 fun x1 => ?_
  refine g_jn (fun j3 => ∀ (a2 : Unit) (σ : Hp), GG X mi_X3_readRule (QM X rI) 24 [(0, vA v0)] [] σ (j3 a2 σ)) ?_ ?_
  · intro a2 σ
    refine g_aload_n 0 dX3_readRule_24 rfl rfl ?_
    refine g_callV_I (mm_X3_wasRight _ _) rfl zc_2 q1262 q1264 qs58 q109 q1265 dv_X3_wasRight rfl (Nat.le_of_ble_eq_true rfl) (Nat.le_of_ble_eq_true rfl) (Nat.le_of_ble_eq_true rfl) dX3_readRule_25 fun x4 σ => ?_
    exact g_zret rfl dX3_readRule_28
  · intro j3 hj3
    refine g_if_le 24 dX3_readRule_15 (by decide) ?_ ?_
    · exact g_jmp (hj3 _ _) rfl
    · refine g_aload_n 0 dX3_readRule_18 rfl rfl ?_
      refine g_iconst 0 dX3_readRule_19 (by decide) ?_
      refine g_callV_I (mm_X3_heldBy 200 _ _ _) rfl zc_2 q1274 q1276 qs60 q109 q1277 dv_X3_heldBy rfl (Nat.le_of_ble_eq_true rfl) (Nat.le_of_ble_eq_true rfl) (Nat.le_of_ble_eq_true rfl) dX3_readRule_20 fun x5 σ => ?_
      refine g_pop dX3_readRule_23 rfl ?_
      exact g_jmp (hj3 _ _) rfl
theorem dd_X3_readRule : yX3_readRule.cls ≠ "java/lang/invoke/MethodHandle" ∧ yX3_readRule.cls ≠ "java/lang/invoke/VarHandle" ∧ (parseMethodDescriptor yX3_readRule.desc).map (fun d => d.parameters.length) = some 0 := by decide +kernel
theorem dv_X3_readRule : yX3_readRule.cls = RX3 ∧ yX3_readRule.cls ≠ "java/lang/invoke/MethodHandle" ∧ yX3_readRule.cls ≠ "java/lang/invoke/VarHandle" ∧ (parseMethodDescriptor yX3_readRule.desc).map (fun d => d.parameters.length) = some 0 := ⟨rfl, dd_X3_readRule⟩
/-! RockingHorseModel.hardOf([III)I -/
abbrev mi_X3_hardOf : Mi := (cX3_hardOf, 5, "RockingHorseModel", 204, some .int, "hardOf")
def f_X3_hardOf (v0 : Option Nat) (v1 : Option Nat) (v2 : Int32) (v3 : Int32) (σ : Hp) : Option (Int32 × Hp) :=
  lI 100 σ v1 (8 + v2) fun x1 =>
  gR 2 5 σ v0 fun y2 =>
  lI 100 σ y2 v2 fun x3 =>
  jn (fun (a4 : Int32) σ =>
      gI 2 20 σ v0 fun x6 =>
      jn (fun (a7 : Int32) σ =>
          some ((imax 0 (imin 999 a7)), σ)) fun j8 =>
      if x6 ≤ 0 then
        j8 ((x1 + x3) + a4) σ
      else
        gR 2 22 σ v0 fun y9 =>
        sI σ y9 0 v3 fun σ =>
        gR 2 22 σ v0 fun y10 =>
        lI 100 σ v1 (8 + v2) fun x11 =>
        sI σ y10 1 x11 fun σ =>
        gR 2 22 σ v0 fun y12 =>
        gR 2 5 σ v0 fun y13 =>
        lI 100 σ y13 v2 fun x14 =>
        sI σ y12 2 x14 fun σ =>
        gR 2 22 σ v0 fun y15 =>
        gR 2 4 σ v0 fun y16 =>
        lI 100 σ y16 v2 fun x17 =>
        sI σ y15 3 x17 fun σ =>
        gR 2 22 σ v0 fun y18 =>
        sI σ y18 4 v2 fun σ =>
        gR 2 22 σ v0 fun y19 =>
        lI 100 σ v1 24 fun x20 =>
        idv 7 <|
        sI σ y19 5 (irm x20 7) fun σ =>
        gR 2 22 σ v0 fun y21 =>
        gR 2 6 σ v0 fun y22 =>
        lI 100 σ y22 v2 fun x23 =>
        bnd (f_J10_bitCount x23 σ) fun x24 σ =>
        sI σ y21 6 x24 fun σ =>
        gR 2 18 σ v0 fun y25 =>
        gI 2 20 σ v0 fun x26 =>
        ob 2 σ v0 fun _ => bnd (f_X3_begin v0 y25 x26 40 σ) fun _ σ =>
        pI 2 2 21 σ v0 1 fun σ =>
        ob 2 σ v0 fun _ => bnd (f_X3_heldBy 200 v0 0 σ) fun x27 σ =>
        pI 2 2 21 σ v0 0 fun σ =>
        j8 x27 σ) fun j5 =>
  if v3 ≤ 5 then
    j5 0 σ
  else
    j5 9 σ
theorem mm_X3_hardOf (v0 : Option Nat) (v1 : Option Nat) (v2 : Int32) (v3 : Int32) (σ : Hp) : MM yX3_hardOf mi_X3_hardOf rI [vA v0, vA v1, vI v2, vI v3] σ (f_X3_hardOf v0 v1 v2 v3 σ) := by
  refine mm_of (by decide +kernel) rfl rfl (Nat.le_of_ble_eq_true rfl) ?_
  intro X
  unfold f_X3_hardOf
  refine g_aload_n 1 dX3_hardOf_0 rfl rfl ?_
  refine g_bipush 8 dX3_hardOf_1 (by decide) ?_
  refine g_iload_n 2 dX3_hardOf_3 rfl rfl ?_
  refine g_iadd dX3_hardOf_4 ?_
  refine g_iaload dX3_hardOf_5 fun x1 => ?_
  refine g_aload_n 0 dX3_hardOf_6 rfl rfl ?_
  refine g_getR fo_2_5 q1061 dX3_hardOf_7 fun y2 => ?_
  refine g_iload_n 2 dX3_hardOf_10 rfl rfl ?_
  refine g_iaload dX3_hardOf_11 fun x3 => ?_
  refine g_iadd dX3_hardOf_12 ?_
  refine g_iload_n 3 dX3_hardOf_13 rfl rfl ?_
  refine g_iconst 5 dX3_hardOf_14 (by decide) ?_
  refine g_jn (fun j5 => ∀ (a4 : Int32) (σ : Hp), GG X mi_X3_hardOf (QM X rI) 24 [(0, vA v0), (1, vA v1), (2, vI v2), (3, vI v3)] [vI a4, vI (x1 + x3)] σ (j5 a4 σ)) ?_ ?_
  · intro a4 σ
    refine g_iadd dX3_hardOf_24 ?_
    refine g_istore dX3_hardOf_25 (lt_b rfl) ?_
    refine g_aload_n 0 dX3_hardOf_27 rfl rfl ?_
    refine g_getI fo_2_20 (by decide) q1076 dX3_hardOf_28 fun x6 => ?_
    refine g_jn (fun j8 => ∀ (a7 : Int32) (σ : Hp), GG X mi_X3_hardOf (QM X rI) 144 [(4, vI a7)] [] σ (j8 a7 σ)) ?_ ?_
    · intro a7 σ
      refine g_iconst 0 dX3_hardOf_144 (by decide) ?_
      refine g_sipush 999 dX3_hardOf_145 (by decide) ?_
      refine g_iload dX3_hardOf_148 rfl ?_
      refine g_mmin q1329 (by decide) (Nat.le_of_ble_eq_true rfl) dX3_hardOf_150 ?_
      refine g_mmax q1330 (by decide) (Nat.le_of_ble_eq_true rfl) dX3_hardOf_153 ?_
      exact g_iret rfl dX3_hardOf_156
    · intro j8 hj8
      refine g_if_le 144 dX3_hardOf_31 (by decide) ?_ ?_
      · exact g_jmp (hj8 _ _) rfl
      · refine g_aload_n 0 dX3_hardOf_34 rfl rfl ?_
        refine g_getR fo_2_22 q1078 dX3_hardOf_35 fun y9 => ?_
        refine g_iconst 0 dX3_hardOf_38 (by decide) ?_
        refine g_iload_n 3 dX3_hardOf_39 rfl rfl ?_
        refine g_iastore dX3_hardOf_40 fun σ => ?_
        refine g_aload_n 0 dX3_hardOf_41 rfl rfl ?_
        refine g_getR fo_2_22 q1078 dX3_hardOf_42 fun y10 => ?_
        refine g_iconst 1 dX3_hardOf_45 (by decide) ?_
        refine g_aload_n 1 dX3_hardOf_46 rfl rfl ?_
        refine g_bipush 8 dX3_hardOf_47 (by decide) ?_
        refine g_iload_n 2 dX3_hardOf_49 rfl rfl ?_
        refine g_iadd dX3_hardOf_50 ?_
        refine g_iaload dX3_hardOf_51 fun x11 => ?_
        refine g_iastore dX3_hardOf_52 fun σ => ?_
        refine g_aload_n 0 dX3_hardOf_53 rfl rfl ?_
        refine g_getR fo_2_22 q1078 dX3_hardOf_54 fun y12 => ?_
        refine g_iconst 2 dX3_hardOf_57 (by decide) ?_
        refine g_aload_n 0 dX3_hardOf_58 rfl rfl ?_
        refine g_getR fo_2_5 q1061 dX3_hardOf_59 fun y13 => ?_
        refine g_iload_n 2 dX3_hardOf_62 rfl rfl ?_
        refine g_iaload dX3_hardOf_63 fun x14 => ?_
        refine g_iastore dX3_hardOf_64 fun σ => ?_
        refine g_aload_n 0 dX3_hardOf_65 rfl rfl ?_
        refine g_getR fo_2_22 q1078 dX3_hardOf_66 fun y15 => ?_
        refine g_iconst 3 dX3_hardOf_69 (by decide) ?_
        refine g_aload_n 0 dX3_hardOf_70 rfl rfl ?_
        refine g_getR fo_2_4 q1060 dX3_hardOf_71 fun y16 => ?_
        refine g_iload_n 2 dX3_hardOf_74 rfl rfl ?_
        refine g_iaload dX3_hardOf_75 fun x17 => ?_
        refine g_iastore dX3_hardOf_76 fun σ => ?_
        refine g_aload_n 0 dX3_hardOf_77 rfl rfl ?_
        refine g_getR fo_2_22 q1078 dX3_hardOf_78 fun y18 => ?_
        refine g_iconst 4 dX3_hardOf_81 (by decide) ?_
        refine g_iload_n 2 dX3_hardOf_82 rfl rfl ?_
        refine g_iastore dX3_hardOf_83 fun σ => ?_
        refine g_aload_n 0 dX3_hardOf_84 rfl rfl ?_
        refine g_getR fo_2_22 q1078 dX3_hardOf_85 fun y19 => ?_
        refine g_iconst 5 dX3_hardOf_88 (by decide) ?_
        refine g_aload_n 1 dX3_hardOf_89 rfl rfl ?_
        refine g_bipush 24 dX3_hardOf_90 (by decide) ?_
        refine g_iaload dX3_hardOf_92 fun x20 => ?_
        refine g_bipush 7 dX3_hardOf_93 (by decide) ?_
        refine g_irem dX3_hardOf_95 ?_
        refine g_iastore dX3_hardOf_96 fun σ => ?_
        refine g_aload_n 0 dX3_hardOf_97 rfl rfl ?_
        refine g_getR fo_2_22 q1078 dX3_hardOf_98 fun y21 => ?_
        refine g_bipush 6 dX3_hardOf_101 (by decide) ?_
        refine g_aload_n 0 dX3_hardOf_103 rfl rfl ?_
        refine g_getR fo_2_6 q1062 dX3_hardOf_104 fun y22 => ?_
        refine g_iload_n 2 dX3_hardOf_107 rfl rfl ?_
        refine g_iaload dX3_hardOf_108 fun x23 => ?_
        refine g_callS_I (mm_J10_bitCount _ _) rfl q1328 q600 q125 q601 dd_J10_bitCount rfl (Nat.le_of_ble_eq_true rfl) (Nat.le_of_ble_eq_true rfl) (Nat.le_of_ble_eq_true rfl) dX3_hardOf_109 fun x24 σ => ?_
        refine g_iastore dX3_hardOf_112 fun σ => ?_
        refine g_aload_n 0 dX3_hardOf_113 rfl rfl ?_
        refine g_aload_n 0 dX3_hardOf_114 rfl rfl ?_
        refine g_getR fo_2_18 q1074 dX3_hardOf_115 fun y25 => ?_
        refine g_aload_n 0 dX3_hardOf_118 rfl rfl ?_
        refine g_getI fo_2_20 (by decide) q1076 dX3_hardOf_119 fun x26 => ?_
        refine g_bipush 40 dX3_hardOf_122 (by decide) ?_
        refine g_callV_V (mm_X3_begin _ _ _ _ _) rfl zc_2 q1234 q1236 qs51 q109 q1237 dv_X3_begin rfl (Nat.le_of_ble_eq_true rfl) (Nat.le_of_ble_eq_true rfl) (Nat.le_of_ble_eq_true rfl) dX3_hardOf_124 fun _ σ => ?_
        refine g_aload_n 0 dX3_hardOf_127 rfl rfl ?_
        refine g_iconst 1 dX3_hardOf_128 (by decide) ?_
        refine g_putI fo_2_21 (by decide) rfl q1077 dX3_hardOf_129 fun σ => ?_
        refine g_aload_n 0 dX3_hardOf_132 rfl rfl ?_
        refine g_iconst 0 dX3_hardOf_133 (by decide) ?_
        refine g_callV_I (mm_X3_heldBy 200 _ _ _) rfl zc_2 q1274 q1276 qs60 q109 q1277 dv_X3_heldBy rfl (Nat.le_of_ble_eq_true rfl) (Nat.le_of_ble_eq_true rfl) (Nat.le_of_ble_eq_true rfl) dX3_hardOf_134 fun x27 σ => ?_
        refine g_istore dX3_hardOf_137 (lt_b rfl) ?_
        refine g_aload_n 0 dX3_hardOf_139 rfl rfl ?_
        refine g_iconst 0 dX3_hardOf_140 (by decide) ?_
        refine g_putI fo_2_21 (by decide) rfl q1077 dX3_hardOf_141 fun σ => ?_
        exact g_jmp (hj8 _ _) rfl
  · intro j5 hj5
    refine g_icmp_le 23 dX3_hardOf_15 (by decide) ?_ ?_
    · refine g_iconst 0 dX3_hardOf_23 (by decide) ?_
      exact g_jmp (hj5 _ _) rfl
    · refine g_bipush 9 dX3_hardOf_18 (by decide) ?_
      refine g_goto 24 dX3_hardOf_20 (by decide) ?_
      exact g_jmp (hj5 _ _) rfl
theorem dd_X3_hardOf : yX3_hardOf.cls ≠ "java/lang/invoke/MethodHandle" ∧ yX3_hardOf.cls ≠ "java/lang/invoke/VarHandle" ∧ (parseMethodDescriptor yX3_hardOf.desc).map (fun d => d.parameters.length) = some 3 := by decide +kernel
theorem dv_X3_hardOf : yX3_hardOf.cls = RX3 ∧ yX3_hardOf.cls ≠ "java/lang/invoke/MethodHandle" ∧ yX3_hardOf.cls ≠ "java/lang/invoke/VarHandle" ∧ (parseMethodDescriptor yX3_hardOf.desc).map (fun d => d.parameters.length) = some 3 := ⟨rfl, dd_X3_hardOf⟩
/-! RockingHorseModel.rota()I -/
abbrev mi_X3_rota : Mi := (cX3_rota, 3, "RockingHorseModel", 3, some .int, "rota")
def f_X3_rota_b15 (v0 : Option Nat) (k0 : Unit → Hp → Option (Int32 × Hp)) (ag : Int32 → Hp → Option (Int32 × Hp)) (a : Int32) (σ : Hp) : Option (Int32 × Hp) :=
  gI 2 1 σ v0 fun x2 =>
  if x2 ≤ a then
    k0 () σ
  else
    ob 2 σ v0 fun _ => bnd (f_X3_fine v0 σ) fun x3 σ =>
    if x3 = 0 then
      k0 () σ
    else
      ob 2 σ v0 fun _ => bnd (f_X3_here v0 σ) fun x4 σ =>
      jn (fun (a5 : Int32) σ =>
          ob 2 σ v0 fun _ => bnd (f_X3_here v0 σ) fun x7 σ =>
          jn (fun (a8 : Unit) σ =>
              ag (a + 1) σ) fun j9 =>
          jn (fun (a10 : Unit) σ =>
              gI 2 15 σ v0 fun x12 =>
              pI 0 2 15 σ v0 (x12 + 1) fun σ =>
              gR 2 17 σ v0 fun y13 =>
              sI σ y13 a a5 fun σ =>
              j9 () σ) fun j11 =>
          if x7 = 45 then
            j11 () σ
          else
            ob 2 σ v0 fun _ => bnd (f_X3_isMan v0 a5 σ) fun x14 σ =>
            if x14 = 0 then
              gI 2 15 σ v0 fun x15 =>
              ob 2 σ v0 fun _ => bnd (f_X3_fault v0 x15 σ) fun _ σ =>
              j9 () σ
            else
              j11 () σ) fun j6 =>
      if x4 = 45 then
        j6 (-1) σ
      else
        ob 2 σ v0 fun _ => bnd (f_X3_here v0 σ) fun x16 σ =>
        j6 (x16 - 48) σ
def f_X3_rota_b128 (v0 : Option Nat) (k0 : Int32 → Hp → Option (Int32 × Hp)) (ag : (Int32 × Int32) → Hp → Option (Int32 × Hp)) (a : Int32 × Int32) (σ : Hp) : Option (Int32 × Hp) :=
  if 8 ≤ a.2 then
    k0 a.1 σ
  else
    gR 2 0 σ v0 fun y20 =>
    gI 2 1 σ v0 fun x21 =>
    jn (fun (a22 : Int32) σ =>
        sI σ y20 a.2 a22 fun σ =>
        gR 2 0 σ v0 fun y24 =>
        lI 100 σ y24 a.2 fun x25 =>
        jn (fun (a26 : Int32) σ =>
            ag ((a.1 + a26), (a.2 + 1)) σ) fun j27 =>
        if x25 = (-1) then
          j27 0 σ
        else
          j27 1 σ) fun j23 =>
    if x21 ≤ a.2 then
      j23 (-1) σ
    else
      gR 2 17 σ v0 fun y28 =>
      lI 100 σ y28 a.2 fun x29 =>
      j23 x29 σ
def f_X3_rota (v0 : Option Nat) (σ : Hp) : Option (Int32 × Hp) :=
  pI 0 2 11 σ v0 0 fun σ =>
  gI 2 1 σ v0 fun x1 =>
  ob 2 σ v0 fun _ => bnd (f_X3_beginText v0 x1 σ) fun _ σ =>
  lp 2000 (f_X3_rota_b15 v0 (fun (a17 : Unit) σ =>
      ob 2 σ v0 fun _ => bnd (f_X3_wasRight v0 σ) fun x18 σ =>
      if x18 = 0 then
        gI 2 16 σ v0 fun x31 =>
        some (((-1) - x31), σ)
      else
        gR 2 0 σ v0 fun y19 =>
        ob 2 σ v0 fun _ => bnd (f_X3_remember v0 y19 σ) fun _ σ =>
        lp 2000 (f_X3_rota_b128 v0 (fun (a30 : Int32) σ =>
            some (a30, σ))) (0, 0) σ)) 0 σ
theorem ok_X3_rota_b15 (X : Mx) (v0 : Option Nat) {k0 : Unit → Hp → Option (Int32 × Hp)} (hk0 : ∀ (a : Unit) (σ : Hp), GG X mi_X3_rota (QM X rI) 102 [(0, vA v0)] [] σ (k0 a σ)) : ∀ (m : Nat) (a : Int32) (σ : Hp), GG X mi_X3_rota (QM X rI) 15 [(0, vA v0), (1, vI a)] [] σ (lp m (f_X3_rota_b15 v0 k0) a σ) := by
  refine g_lp (fun (a : Int32) => [(0, vA v0), (1, vI a)]) ?_
  intro ag hag a σ
  unfold f_X3_rota_b15
  refine g_iload_n 1 dX3_rota_15 rfl rfl ?_
  refine g_aload_n 0 dX3_rota_16 rfl rfl ?_
  refine g_getI fo_2_1 (by decide) q1057 dX3_rota_17 fun x2 => ?_
  refine g_icmp_ge 102 dX3_rota_20 (by decide) ?_ ?_
  · exact g_jmp (hk0 _ _) rfl
  · refine g_aload_n 0 dX3_rota_23 rfl rfl ?_
    refine g_callV_I (mm_X3_fine _ _) rfl zc_2 q1238 q1240 qs52 q109 q1241 dv_X3_fine rfl (Nat.le_of_ble_eq_true rfl) (Nat.le_of_ble_eq_true rfl) (Nat.le_of_ble_eq_true rfl) dX3_rota_24 fun x3 σ => ?_
    refine g_if_eq 102 dX3_rota_27 (by decide) ?_ ?_
    · exact g_jmp (hk0 _ _) rfl
    · refine g_aload_n 0 dX3_rota_30 rfl rfl ?_
      refine g_callV_I (mm_X3_here _ _) rfl zc_2 q1254 q1256 qs56 q109 q1257 dv_X3_here rfl (Nat.le_of_ble_eq_true rfl) (Nat.le_of_ble_eq_true rfl) (Nat.le_of_ble_eq_true rfl) dX3_rota_31 fun x4 σ => ?_
      refine g_bipush 45 dX3_rota_34 (by decide) ?_
      refine g_jn (fun j6 => ∀ (a5 : Int32) (σ : Hp), GG X mi_X3_rota (QM X rI) 50 [(0, vA v0), (1, vI a)] [vI a5] σ (j6 a5 σ)) ?_ ?_
      · intro a5 σ
        refine g_istore_n 2 dX3_rota_50 rfl (lt_b rfl) ?_
        refine g_aload_n 0 dX3_rota_51 rfl rfl ?_
        refine g_callV_I (mm_X3_here _ _) rfl zc_2 q1254 q1256 qs56 q109 q1257 dv_X3_here rfl (Nat.le_of_ble_eq_true rfl) (Nat.le_of_ble_eq_true rfl) (Nat.le_of_ble_eq_true rfl) dX3_rota_52 fun x7 σ => ?_
        refine g_bipush 45 dX3_rota_55 (by decide) ?_
        refine g_jn (fun j9 => ∀ (a8 : Unit) (σ : Hp), GG X mi_X3_rota (QM X rI) 96 [(0, vA v0), (1, vI a)] [] σ (j9 a8 σ)) ?_ ?_
        · intro a8 σ
          refine g_iinc 1 dX3_rota_96 (by decide) rfl (lt_b rfl) ?_
          refine g_goto 15 dX3_rota_99 (by decide) ?_
          exact g_jmp (hag _ _) rfl
        · intro j9 hj9
          refine g_jn (fun j11 => ∀ (a10 : Unit) (σ : Hp), GG X mi_X3_rota (QM X rI) 79 [(0, vA v0), (1, vI a), (2, vI a5)] [] σ (j11 a10 σ)) ?_ ?_
          · intro a10 σ
            refine g_aload_n 0 dX3_rota_79 rfl rfl ?_
            refine g_dup dX3_rota_80 rfl ?_
            refine g_getI fo_2_15 (by decide) q1071 dX3_rota_81 fun x12 => ?_
            refine g_iconst 1 dX3_rota_84 (by decide) ?_
            refine g_iadd dX3_rota_85 ?_
            refine g_putI fo_2_15 (by decide) rfl q1071 dX3_rota_86 fun σ => ?_
            refine g_aload_n 0 dX3_rota_89 rfl rfl ?_
            refine g_getR fo_2_17 q1073 dX3_rota_90 fun y13 => ?_
            refine g_iload_n 1 dX3_rota_93 rfl rfl ?_
            refine g_iload_n 2 dX3_rota_94 rfl rfl ?_
            refine g_iastore dX3_rota_95 fun σ => ?_
            exact g_jmp (hj9 _ _) rfl
          · intro j11 hj11
            refine g_icmp_eq 79 dX3_rota_57 (by decide) ?_ ?_
            · exact g_jmp (hj11 _ _) rfl
            · refine g_aload_n 0 dX3_rota_60 rfl rfl ?_
              refine g_iload_n 2 dX3_rota_61 rfl rfl ?_
              refine g_callV_I (mm_X3_isMan _ _ _) rfl zc_2 q1305 q1307 qs66 q109 q1308 dv_X3_isMan rfl (Nat.le_of_ble_eq_true rfl) (Nat.le_of_ble_eq_true rfl) (Nat.le_of_ble_eq_true rfl) dX3_rota_62 fun x14 σ => ?_
              refine g_if_ne 79 dX3_rota_65 (by decide) ?_ ?_
              · exact g_jmp (hj11 _ _) rfl
              · refine g_aload_n 0 dX3_rota_68 rfl rfl ?_
                refine g_aload_n 0 dX3_rota_69 rfl rfl ?_
                refine g_getI fo_2_15 (by decide) q1071 dX3_rota_70 fun x15 => ?_
                refine g_callV_V (mm_X3_fault _ _ _) rfl zc_2 q1242 q1244 qs53 q109 q1245 dv_X3_fault rfl (Nat.le_of_ble_eq_true rfl) (Nat.le_of_ble_eq_true rfl) (Nat.le_of_ble_eq_true rfl) dX3_rota_73 fun _ σ => ?_
                refine g_goto 96 dX3_rota_76 (by decide) ?_
                exact g_jmp (hj9 _ _) rfl
      · intro j6 hj6
        refine g_icmp_ne 43 dX3_rota_36 (by decide) ?_ ?_
        · refine g_aload_n 0 dX3_rota_43 rfl rfl ?_
          refine g_callV_I (mm_X3_here _ _) rfl zc_2 q1254 q1256 qs56 q109 q1257 dv_X3_here rfl (Nat.le_of_ble_eq_true rfl) (Nat.le_of_ble_eq_true rfl) (Nat.le_of_ble_eq_true rfl) dX3_rota_44 fun x16 σ => ?_
          refine g_bipush 48 dX3_rota_47 (by decide) ?_
          refine g_isub dX3_rota_49 ?_
          exact g_jmp (hj6 _ _) rfl
        · refine g_iconst (-1) dX3_rota_39 (by decide) ?_
          refine g_goto 50 dX3_rota_40 (by decide) ?_
          exact g_jmp (hj6 _ _) rfl
theorem ok_X3_rota_b128 (X : Mx) (v0 : Option Nat) {k0 : Int32 → Hp → Option (Int32 × Hp)} (hk0 : ∀ (a : Int32) (σ : Hp), GG X mi_X3_rota (QM X rI) 182 [(1, vI a)] [] σ (k0 a σ)) : ∀ (m : Nat) (a : Int32 × Int32) (σ : Hp), GG X mi_X3_rota (QM X rI) 128 [(0, vA v0), (1, vI a.1), (2, vI a.2)] [] σ (lp m (f_X3_rota_b128 v0 k0) a σ) := by
  refine g_lp (fun (a : Int32 × Int32) => [(0, vA v0), (1, vI a.1), (2, vI a.2)]) ?_
  intro ag hag a σ
  unfold f_X3_rota_b128
  refine g_iload_n 2 dX3_rota_128 rfl rfl ?_
  refine g_bipush 8 dX3_rota_129 (by decide) ?_
  refine g_icmp_ge 182 dX3_rota_131 (by decide) ?_ ?_
  · exact g_jmp (hk0 _ _) rfl
  · refine g_aload_n 0 dX3_rota_134 rfl rfl ?_
    refine g_getR fo_2_0 q1056 dX3_rota_135 fun y20 => ?_
    refine g_iload_n 2 dX3_rota_138 rfl rfl ?_
    refine g_iload_n 2 dX3_rota_139 rfl rfl ?_
    refine g_aload_n 0 dX3_rota_140 rfl rfl ?_
    refine g_getI fo_2_1 (by decide) q1057 dX3_rota_141 fun x21 => ?_
    refine g_jn (fun j23 => ∀ (a22 : Int32) (σ : Hp), GG X mi_X3_rota (QM X rI) 157 [(0, vA v0), (1, vI a.1), (2, vI a.2)] [vI a22, vI a.2, vA y20] σ (j23 a22 σ)) ?_ ?_
    · intro a22 σ
      refine g_iastore dX3_rota_157 fun σ => ?_
      refine g_iload_n 1 dX3_rota_158 rfl rfl ?_
      refine g_aload_n 0 dX3_rota_159 rfl rfl ?_
      refine g_getR fo_2_0 q1056 dX3_rota_160 fun y24 => ?_
      refine g_iload_n 2 dX3_rota_163 rfl rfl ?_
      refine g_iaload dX3_rota_164 fun x25 => ?_
      refine g_iconst (-1) dX3_rota_165 (by decide) ?_
      refine g_jn (fun j27 => ∀ (a26 : Int32) (σ : Hp), GG X mi_X3_rota (QM X rI) 174 [(0, vA v0), (2, vI a.2)] [vI a26, vI a.1] σ (j27 a26 σ)) ?_ ?_
      · intro a26 σ
        refine g_iadd dX3_rota_174 ?_
        refine g_istore_n 1 dX3_rota_175 rfl (lt_b rfl) ?_
        refine g_iinc 1 dX3_rota_176 (by decide) rfl (lt_b rfl) ?_
        refine g_goto 128 dX3_rota_179 (by decide) ?_
        exact g_jmp (hag _ _) rfl
      · intro j27 hj27
        refine g_icmp_ne 173 dX3_rota_166 (by decide) ?_ ?_
        · refine g_iconst 1 dX3_rota_173 (by decide) ?_
          exact g_jmp (hj27 _ _) rfl
        · refine g_iconst 0 dX3_rota_169 (by decide) ?_
          refine g_goto 174 dX3_rota_170 (by decide) ?_
          exact g_jmp (hj27 _ _) rfl
    · intro j23 hj23
      refine g_icmp_ge 156 dX3_rota_144 (by decide) ?_ ?_
      · refine g_iconst (-1) dX3_rota_156 (by decide) ?_
        exact g_jmp (hj23 _ _) rfl
      · refine g_aload_n 0 dX3_rota_147 rfl rfl ?_
        refine g_getR fo_2_17 q1073 dX3_rota_148 fun y28 => ?_
        refine g_iload_n 2 dX3_rota_151 rfl rfl ?_
        refine g_iaload dX3_rota_152 fun x29 => ?_
        refine g_goto 157 dX3_rota_153 (by decide) ?_
        exact g_jmp (hj23 _ _) rfl
theorem mm_X3_rota (v0 : Option Nat) (σ : Hp) : MM yX3_rota mi_X3_rota rI [vA v0] σ (f_X3_rota v0 σ) := by
  refine mm_of (by decide +kernel) rfl rfl (Nat.le_of_ble_eq_true rfl) ?_
  intro X
  unfold f_X3_rota
  refine g_aload_n 0 dX3_rota_0 rfl rfl ?_
  refine g_iconst 0 dX3_rota_1 (by decide) ?_
  refine g_putI fo_2_11 (by decide) rfl q1067 dX3_rota_2 fun σ => ?_
  refine g_aload_n 0 dX3_rota_5 rfl rfl ?_
  refine g_aload_n 0 dX3_rota_6 rfl rfl ?_
  refine g_getI fo_2_1 (by decide) q1057 dX3_rota_7 fun x1 => ?_
  refine g_callV_V (mm_X3_beginText _ _ _) rfl zc_2 q1230 q1232 qs50 q109 q1233 dv_X3_beginText rfl (Nat.le_of_ble_eq_true rfl) (Nat.le_of_ble_eq_true rfl) (Nat.le_of_ble_eq_true rfl) dX3_rota_10 fun _ σ => ?_
  refine g_iconst 0 dX3_rota_13 (by decide) ?_
  refine g_istore_n 1 dX3_rota_14 rfl (lt_b rfl) ?_
  refine g_jmp (ok_X3_rota_b15 X v0 ?_ _ _ _) rfl
  · intro a17 σ
    refine g_aload_n 0 dX3_rota_102 rfl rfl ?_
    refine g_callV_I (mm_X3_wasRight _ _) rfl zc_2 q1262 q1264 qs58 q109 q1265 dv_X3_wasRight rfl (Nat.le_of_ble_eq_true rfl) (Nat.le_of_ble_eq_true rfl) (Nat.le_of_ble_eq_true rfl) dX3_rota_103 fun x18 σ => ?_
    refine g_if_ne 116 dX3_rota_106 (by decide) ?_ ?_
    · refine g_aload_n 0 dX3_rota_116 rfl rfl ?_
      refine g_aload_n 0 dX3_rota_117 rfl rfl ?_
      refine g_getR fo_2_0 q1056 dX3_rota_118 fun y19 => ?_
      refine g_callV_V (mm_X3_remember _ _ _) rfl zc_2 q1343 q1345 qs70 q109 q1346 dv_X3_remember rfl (Nat.le_of_ble_eq_true rfl) (Nat.le_of_ble_eq_true rfl) (Nat.le_of_ble_eq_true rfl) dX3_rota_121 fun _ σ => ?_
      refine g_iconst 0 dX3_rota_124 (by decide) ?_
      refine g_istore_n 1 dX3_rota_125 rfl (lt_b rfl) ?_
      refine g_iconst 0 dX3_rota_126 (by decide) ?_
      refine g_istore_n 2 dX3_rota_127 rfl (lt_b rfl) ?_
      refine g_jmp (ok_X3_rota_b128 X v0 ?_ _ _ _) rfl
      · intro a30 σ
        refine g_iload_n 1 dX3_rota_182 rfl rfl ?_
        exact g_iret rfl dX3_rota_183
    · refine g_iconst (-1) dX3_rota_109 (by decide) ?_
      refine g_aload_n 0 dX3_rota_110 rfl rfl ?_
      refine g_getI fo_2_16 (by decide) q1072 dX3_rota_111 fun x31 => ?_
      refine g_isub dX3_rota_114 ?_
      exact g_iret rfl dX3_rota_115
theorem dd_X3_rota : yX3_rota.cls ≠ "java/lang/invoke/MethodHandle" ∧ yX3_rota.cls ≠ "java/lang/invoke/VarHandle" ∧ (parseMethodDescriptor yX3_rota.desc).map (fun d => d.parameters.length) = some 0 := by decide +kernel
theorem dv_X3_rota : yX3_rota.cls = RX3 ∧ yX3_rota.cls ≠ "java/lang/invoke/MethodHandle" ∧ yX3_rota.cls ≠ "java/lang/invoke/VarHandle" ∧ (parseMethodDescriptor yX3_rota.desc).map (fun d => d.parameters.length) = some 0 := ⟨rfl, dd_X3_rota⟩
/-! RockingHorseModel.goNight([I)V -/
abbrev mi_X3_goNight : Mi := (cX3_goNight, 6, "RockingHorseModel", 205, none, "goNight")
def f_X3_goNight_b12 (v0 : Option Nat) (k0 : Unit → Hp → Option (Unit × Hp)) (ag : Int32 → Hp → Option (Unit × Hp)) (a : Int32) (σ : Hp) : Option (Unit × Hp) :=
  if 8 ≤ a then
    k0 () σ
  else
    gR 2 29 σ v0 fun y1 =>
    sI σ y1 a 0 fun σ =>
    gR 2 30 σ v0 fun y2 =>
    sI σ y2 a 0 fun σ =>
    ag (a + 1) σ
def f_X3_goNight_b42 (v0 : Option Nat) (v1 : Option Nat) (k0 : Unit → Hp → Option (Unit × Hp)) (ag : (Int32 × Int32) → Hp → Option (Unit × Hp)) (a : Int32 × Int32) (σ : Hp) : Option (Unit × Hp) :=
  gI 2 1 σ v0 fun x4 =>
  if x4 ≤ a.2 then
    k0 () σ
  else
    lI 100 σ v1 a.2 fun x5 =>
    jn (fun (a6 : Int32) σ =>
        jn (fun (a8 : Unit) σ =>
            jn (fun (a10 : Int32) σ =>
                ag (a10, (a.2 + 1)) σ) fun j11 =>
            if a6 = 0 then
              j11 (-1) σ
            else
              j11 x5 σ) fun j9 =>
        if a6 = 0 then
          gI 2 27 σ v0 fun x12 =>
          pI 0 2 27 σ v0 (x12 ||| (shl 1 a.2)) fun σ =>
          j9 () σ
        else
          gR 2 29 σ v0 fun y13 =>
          lI 100 σ y13 x5 fun x14 =>
          sI σ y13 x5 (x14 + 1) fun σ =>
          gR 2 30 σ v0 fun y15 =>
          lI 100 σ y15 x5 fun x16 =>
          ob 2 σ v0 fun _ => bnd (f_X3_hardOf v0 v1 x5 a.2 σ) fun x17 σ =>
          sI σ y15 x5 (x16 + x17) fun σ =>
          gI 2 28 σ v0 fun x18 =>
          pI 0 2 28 σ v0 (x18 ||| (shl 1 a.2)) fun σ =>
          if a.1 = (-1) then
            j9 () σ
          else
            if a.1 = x5 then
              j9 () σ
            else
              gR 2 5 σ v0 fun y19 =>
              lI 100 σ y19 a.1 fun x20 =>
              gR 2 5 σ v0 fun y21 =>
              lI 100 σ y21 x5 fun x22 =>
              gI 2 2 σ v0 fun x23 =>
              if (iabs (x20 - x22)) ≤ x23 then
                j9 () σ
              else
                gI 2 27 σ v0 fun x24 =>
                pI 0 2 27 σ v0 (x24 ||| (shl 1 a.2)) fun σ =>
                j9 () σ) fun j7 =>
    if x5 = (-1) then
      j7 0 σ
    else
      gR 2 6 σ v0 fun y25 =>
      lI 100 σ y25 x5 fun x26 =>
      bnd (f_X3_has x26 a.2 σ) fun x27 σ =>
      if x27 = 0 then
        j7 0 σ
      else
        lI 100 σ v1 (16 + x5) fun x28 =>
        if x28 = 0 then
          gR 2 29 σ v0 fun y29 =>
          lI 100 σ y29 x5 fun x30 =>
          gR 2 4 σ v0 fun y31 =>
          lI 100 σ y31 x5 fun x32 =>
          if x32 ≤ x30 then
            j7 0 σ
          else
            j7 1 σ
        else
          j7 0 σ
def f_X3_goNight_b237 (v0 : Option Nat) (v1 : Option Nat) (k0 : Unit → Hp → Option (Unit × Hp)) (ag : Int32 → Hp → Option (Unit × Hp)) (a : Int32) (σ : Hp) : Option (Unit × Hp) :=
  gI 2 3 σ v0 fun x34 =>
  if x34 ≤ a then
    k0 () σ
  else
    gR 2 29 σ v0 fun y35 =>
    lI 100 σ y35 a fun x36 =>
    jn (fun (a37 : Int32) σ =>
        sI σ v1 (8 + a) a37 fun σ =>
        ag (a + 1) σ) fun j38 =>
    if x36 = 0 then
      lI 100 σ v1 (8 + a) fun x42 =>
      j38 (imax 0 (x42 - 5)) σ
    else
      lI 100 σ v1 (8 + a) fun x39 =>
      gR 2 30 σ v0 fun y40 =>
      lI 100 σ y40 a fun x41 =>
      j38 (imin 99 (x39 + x41)) σ
def f_X3_goNight (v0 : Option Nat) (v1 : Option Nat) (σ : Hp) : Option (Unit × Hp) :=
  pI 0 2 27 σ v0 0 fun σ =>
  pI 0 2 28 σ v0 0 fun σ =>
  lp 2000 (f_X3_goNight_b12 v0 (fun (a3 : Unit) σ =>
      lp 2000 (f_X3_goNight_b42 v0 v1 (fun (a33 : Unit) σ =>
          lp 2000 (f_X3_goNight_b237 v0 v1 (fun (a43 : Unit) σ =>
              lI 100 σ v1 25 fun x44 =>
              gI 2 27 σ v0 fun x45 =>
              bnd (f_J10_bitCount x45 σ) fun x46 σ =>
              sI σ v1 25 (x44 + x46) fun σ =>
              lI 100 σ v1 26 fun x47 =>
              gI 2 28 σ v0 fun x48 =>
              bnd (f_J10_bitCount x48 σ) fun x49 σ =>
              sI σ v1 26 (x47 + x49) fun σ =>
              lI 100 σ v1 24 fun x50 =>
              sI σ v1 24 (x50 + 1) fun σ =>
              some ((), σ))) 0 σ)) ((-1), 0) σ)) 0 σ
theorem ok_X3_goNight_b12 (X : Mx) (v0 : Option Nat) (v1 : Option Nat) {k0 : Unit → Hp → Option (Unit × Hp)} (hk0 : ∀ (a : Unit) (σ : Hp), GG X mi_X3_goNight (QM X rV) 38 [(0, vA v0), (1, vA v1)] [] σ (k0 a σ)) : ∀ (m : Nat) (a : Int32) (σ : Hp), GG X mi_X3_goNight (QM X rV) 12 [(0, vA v0), (1, vA v1), (2, vI a)] [] σ (lp m (f_X3_goNight_b12 v0 k0) a σ) := by
  refine g_lp (fun (a : Int32) => [(0, vA v0), (1, vA v1), (2, vI a)]) ?_
  intro ag hag a σ
  unfold f_X3_goNight_b12
  refine g_iload_n 2 dX3_goNight_12 rfl rfl ?_
  refine g_bipush 8 dX3_goNight_13 (by decide) ?_
  refine g_icmp_ge 38 dX3_goNight_15 (by decide) ?_ ?_
  · exact g_jmp (hk0 _ _) rfl
  · refine g_aload_n 0 dX3_goNight_18 rfl rfl ?_
    refine g_getR fo_2_29 q1085 dX3_goNight_19 fun y1 => ?_
    refine g_iload_n 2 dX3_goNight_22 rfl rfl ?_
    refine g_iconst 0 dX3_goNight_23 (by decide) ?_
    refine g_iastore dX3_goNight_24 fun σ => ?_
    refine g_aload_n 0 dX3_goNight_25 rfl rfl ?_
    refine g_getR fo_2_30 q1086 dX3_goNight_26 fun y2 => ?_
    refine g_iload_n 2 dX3_goNight_29 rfl rfl ?_
    refine g_iconst 0 dX3_goNight_30 (by decide) ?_
    refine g_iastore dX3_goNight_31 fun σ => ?_
    refine g_iinc 1 dX3_goNight_32 (by decide) rfl (lt_b rfl) ?_
    refine g_goto 12 dX3_goNight_35 (by decide) ?_
    exact g_jmp (hag _ _) rfl
theorem ok_X3_goNight_b42 (X : Mx) (v0 : Option Nat) (v1 : Option Nat) {k0 : Unit → Hp → Option (Unit × Hp)} (hk0 : ∀ (a : Unit) (σ : Hp), GG X mi_X3_goNight (QM X rV) 235 [(0, vA v0), (1, vA v1)] [] σ (k0 a σ)) : ∀ (m : Nat) (a : Int32 × Int32) (σ : Hp), GG X mi_X3_goNight (QM X rV) 42 [(0, vA v0), (1, vA v1), (2, vI a.1), (3, vI a.2)] [] σ (lp m (f_X3_goNight_b42 v0 v1 k0) a σ) := by
  refine g_lp (fun (a : Int32 × Int32) => [(0, vA v0), (1, vA v1), (2, vI a.1), (3, vI a.2)]) ?_
  intro ag hag a σ
  unfold f_X3_goNight_b42
  refine g_iload_n 3 dX3_goNight_42 rfl rfl ?_
  refine g_aload_n 0 dX3_goNight_43 rfl rfl ?_
  refine g_getI fo_2_1 (by decide) q1057 dX3_goNight_44 fun x4 => ?_
  refine g_icmp_ge 235 dX3_goNight_47 (by decide) ?_ ?_
  · exact g_jmp (hk0 _ _) rfl
  · refine g_aload_n 1 dX3_goNight_50 rfl rfl ?_
    refine g_iload_n 3 dX3_goNight_51 rfl rfl ?_
    refine g_iaload dX3_goNight_52 fun x5 => ?_
    refine g_istore dX3_goNight_53 (lt_b rfl) ?_
    refine g_iload dX3_goNight_55 rfl ?_
    refine g_iconst (-1) dX3_goNight_57 (by decide) ?_
    refine g_jn (fun j7 => ∀ (a6 : Int32) (σ : Hp), GG X mi_X3_goNight (QM X rV) 107 [(0, vA v0), (1, vA v1), (2, vI a.1), (3, vI a.2), (4, vI x5)] [vI a6] σ (j7 a6 σ)) ?_ ?_
    · intro a6 σ
      refine g_istore dX3_goNight_107 (lt_b rfl) ?_
      refine g_iload dX3_goNight_109 rfl ?_
      refine g_jn (fun j9 => ∀ (a8 : Unit) (σ : Hp), GG X mi_X3_goNight (QM X rV) 217 [(0, vA v0), (1, vA v1), (3, vI a.2), (4, vI x5), (5, vI a6)] [] σ (j9 a8 σ)) ?_ ?_
      · intro a8 σ
        refine g_iload dX3_goNight_217 rfl ?_
        refine g_jn (fun j11 => ∀ (a10 : Int32) (σ : Hp), GG X mi_X3_goNight (QM X rV) 228 [(0, vA v0), (1, vA v1), (3, vI a.2)] [vI a10] σ (j11 a10 σ)) ?_ ?_
        · intro a10 σ
          refine g_istore_n 2 dX3_goNight_228 rfl (lt_b rfl) ?_
          refine g_iinc 1 dX3_goNight_229 (by decide) rfl (lt_b rfl) ?_
          refine g_goto 42 dX3_goNight_232 (by decide) ?_
          exact g_jmp (hag _ _) rfl
        · intro j11 hj11
          refine g_if_eq 227 dX3_goNight_219 (by decide) ?_ ?_
          · refine g_iconst (-1) dX3_goNight_227 (by decide) ?_
            exact g_jmp (hj11 _ _) rfl
          · refine g_iload dX3_goNight_222 rfl ?_
            refine g_goto 228 dX3_goNight_224 (by decide) ?_
            exact g_jmp (hj11 _ _) rfl
      · intro j9 hj9
        refine g_if_eq 205 dX3_goNight_111 (by decide) ?_ ?_
        · refine g_aload_n 0 dX3_goNight_205 rfl rfl ?_
          refine g_dup dX3_goNight_206 rfl ?_
          refine g_getI fo_2_27 (by decide) q1083 dX3_goNight_207 fun x12 => ?_
          refine g_iconst 1 dX3_goNight_210 (by decide) ?_
          refine g_iload_n 3 dX3_goNight_211 rfl rfl ?_
          refine g_ishl dX3_goNight_212 ?_
          refine g_ior dX3_goNight_213 ?_
          refine g_putI fo_2_27 (by decide) rfl q1083 dX3_goNight_214 fun σ => ?_
          exact g_jmp (hj9 _ _) rfl
        · refine g_aload_n 0 dX3_goNight_114 rfl rfl ?_
          refine g_getR fo_2_29 q1085 dX3_goNight_115 fun y13 => ?_
          refine g_iload dX3_goNight_118 rfl ?_
          refine g_dup2 dX3_goNight_120 rfl rfl ?_
          refine g_iaload dX3_goNight_121 fun x14 => ?_
          refine g_iconst 1 dX3_goNight_122 (by decide) ?_
          refine g_iadd dX3_goNight_123 ?_
          refine g_iastore dX3_goNight_124 fun σ => ?_
          refine g_aload_n 0 dX3_goNight_125 rfl rfl ?_
          refine g_getR fo_2_30 q1086 dX3_goNight_126 fun y15 => ?_
          refine g_iload dX3_goNight_129 rfl ?_
          refine g_dup2 dX3_goNight_131 rfl rfl ?_
          refine g_iaload dX3_goNight_132 fun x16 => ?_
          refine g_aload_n 0 dX3_goNight_133 rfl rfl ?_
          refine g_aload_n 1 dX3_goNight_134 rfl rfl ?_
          refine g_iload dX3_goNight_135 rfl ?_
          refine g_iload_n 3 dX3_goNight_137 rfl rfl ?_
          refine g_callV_I (mm_X3_hardOf _ _ _ _ _) rfl zc_2 q1324 q1326 qs69 q109 q1327 dv_X3_hardOf rfl (Nat.le_of_ble_eq_true rfl) (Nat.le_of_ble_eq_true rfl) (Nat.le_of_ble_eq_true rfl) dX3_goNight_138 fun x17 σ => ?_
          refine g_iadd dX3_goNight_141 ?_
          refine g_iastore dX3_goNight_142 fun σ => ?_
          refine g_aload_n 0 dX3_goNight_143 rfl rfl ?_
          refine g_dup dX3_goNight_144 rfl ?_
          refine g_getI fo_2_28 (by decide) q1084 dX3_goNight_145 fun x18 => ?_
          refine g_iconst 1 dX3_goNight_148 (by decide) ?_
          refine g_iload_n 3 dX3_goNight_149 rfl rfl ?_
          refine g_ishl dX3_goNight_150 ?_
          refine g_ior dX3_goNight_151 ?_
          refine g_putI fo_2_28 (by decide) rfl q1084 dX3_goNight_152 fun σ => ?_
          refine g_iload_n 2 dX3_goNight_155 rfl rfl ?_
          refine g_iconst (-1) dX3_goNight_156 (by decide) ?_
          refine g_icmp_eq 217 dX3_goNight_157 (by decide) ?_ ?_
          · exact g_jmp (hj9 _ _) rfl
          · refine g_iload_n 2 dX3_goNight_160 rfl rfl ?_
            refine g_iload dX3_goNight_161 rfl ?_
            refine g_icmp_eq 217 dX3_goNight_163 (by decide) ?_ ?_
            · exact g_jmp (hj9 _ _) rfl
            · refine g_aload_n 0 dX3_goNight_166 rfl rfl ?_
              refine g_getR fo_2_5 q1061 dX3_goNight_167 fun y19 => ?_
              refine g_iload_n 2 dX3_goNight_170 rfl rfl ?_
              refine g_iaload dX3_goNight_171 fun x20 => ?_
              refine g_aload_n 0 dX3_goNight_172 rfl rfl ?_
              refine g_getR fo_2_5 q1061 dX3_goNight_173 fun y21 => ?_
              refine g_iload dX3_goNight_176 rfl ?_
              refine g_iaload dX3_goNight_178 fun x22 => ?_
              refine g_isub dX3_goNight_179 ?_
              refine g_mabs q1381 (by decide) (Nat.le_of_ble_eq_true rfl) dX3_goNight_180 ?_
              refine g_aload_n 0 dX3_goNight_183 rfl rfl ?_
              refine g_getI fo_2_2 (by decide) q1058 dX3_goNight_184 fun x23 => ?_
              refine g_icmp_le 217 dX3_goNight_187 (by decide) ?_ ?_
              · exact g_jmp (hj9 _ _) rfl
              · refine g_aload_n 0 dX3_goNight_190 rfl rfl ?_
                refine g_dup dX3_goNight_191 rfl ?_
                refine g_getI fo_2_27 (by decide) q1083 dX3_goNight_192 fun x24 => ?_
                refine g_iconst 1 dX3_goNight_195 (by decide) ?_
                refine g_iload_n 3 dX3_goNight_196 rfl rfl ?_
                refine g_ishl dX3_goNight_197 ?_
                refine g_ior dX3_goNight_198 ?_
                refine g_putI fo_2_27 (by decide) rfl q1083 dX3_goNight_199 fun σ => ?_
                refine g_goto 217 dX3_goNight_202 (by decide) ?_
                exact g_jmp (hj9 _ _) rfl
    · intro j7 hj7
      refine g_icmp_eq 106 dX3_goNight_58 (by decide) ?_ ?_
      · refine g_iconst 0 dX3_goNight_106 (by decide) ?_
        exact g_jmp (hj7 _ _) rfl
      · refine g_aload_n 0 dX3_goNight_61 rfl rfl ?_
        refine g_getR fo_2_6 q1062 dX3_goNight_62 fun y25 => ?_
        refine g_iload dX3_goNight_65 rfl ?_
        refine g_iaload dX3_goNight_67 fun x26 => ?_
        refine g_iload_n 3 dX3_goNight_68 rfl rfl ?_
        refine g_callS_I (mm_X3_has _ _ _) rfl q1378 q1379 q109 q1380 dd_X3_has rfl (Nat.le_of_ble_eq_true rfl) (Nat.le_of_ble_eq_true rfl) (Nat.le_of_ble_eq_true rfl) dX3_goNight_69 fun x27 σ => ?_
        refine g_if_eq 106 dX3_goNight_72 (by decide) ?_ ?_
        · refine g_iconst 0 dX3_goNight_106 (by decide) ?_
          exact g_jmp (hj7 _ _) rfl
        · refine g_aload_n 1 dX3_goNight_75 rfl rfl ?_
          refine g_bipush 16 dX3_goNight_76 (by decide) ?_
          refine g_iload dX3_goNight_78 rfl ?_
          refine g_iadd dX3_goNight_80 ?_
          refine g_iaload dX3_goNight_81 fun x28 => ?_
          refine g_if_ne 106 dX3_goNight_82 (by decide) ?_ ?_
          · refine g_iconst 0 dX3_goNight_106 (by decide) ?_
            exact g_jmp (hj7 _ _) rfl
          · refine g_aload_n 0 dX3_goNight_85 rfl rfl ?_
            refine g_getR fo_2_29 q1085 dX3_goNight_86 fun y29 => ?_
            refine g_iload dX3_goNight_89 rfl ?_
            refine g_iaload dX3_goNight_91 fun x30 => ?_
            refine g_aload_n 0 dX3_goNight_92 rfl rfl ?_
            refine g_getR fo_2_4 q1060 dX3_goNight_93 fun y31 => ?_
            refine g_iload dX3_goNight_96 rfl ?_
            refine g_iaload dX3_goNight_98 fun x32 => ?_
            refine g_icmp_ge 106 dX3_goNight_99 (by decide) ?_ ?_
            · refine g_iconst 0 dX3_goNight_106 (by decide) ?_
              exact g_jmp (hj7 _ _) rfl
            · refine g_iconst 1 dX3_goNight_102 (by decide) ?_
              refine g_goto 107 dX3_goNight_103 (by decide) ?_
              exact g_jmp (hj7 _ _) rfl
theorem ok_X3_goNight_b237 (X : Mx) (v0 : Option Nat) (v1 : Option Nat) {k0 : Unit → Hp → Option (Unit × Hp)} (hk0 : ∀ (a : Unit) (σ : Hp), GG X mi_X3_goNight (QM X rV) 299 [(0, vA v0), (1, vA v1)] [] σ (k0 a σ)) : ∀ (m : Nat) (a : Int32) (σ : Hp), GG X mi_X3_goNight (QM X rV) 237 [(0, vA v0), (1, vA v1), (3, vI a)] [] σ (lp m (f_X3_goNight_b237 v0 v1 k0) a σ) := by
  refine g_lp (fun (a : Int32) => [(0, vA v0), (1, vA v1), (3, vI a)]) ?_
  intro ag hag a σ
  unfold f_X3_goNight_b237
  refine g_iload_n 3 dX3_goNight_237 rfl rfl ?_
  refine g_aload_n 0 dX3_goNight_238 rfl rfl ?_
  refine g_getI fo_2_3 (by decide) q1059 dX3_goNight_239 fun x34 => ?_
  refine g_icmp_ge 299 dX3_goNight_242 (by decide) ?_ ?_
  · exact g_jmp (hk0 _ _) rfl
  · refine g_aload_n 1 dX3_goNight_245 rfl rfl ?_
    refine g_bipush 8 dX3_goNight_246 (by decide) ?_
    refine g_iload_n 3 dX3_goNight_248 rfl rfl ?_
    refine g_iadd dX3_goNight_249 ?_
    refine g_aload_n 0 dX3_goNight_250 rfl rfl ?_
    refine g_getR fo_2_29 q1085 dX3_goNight_251 fun y35 => ?_
    refine g_iload_n 3 dX3_goNight_254 rfl rfl ?_
    refine g_iaload dX3_goNight_255 fun x36 => ?_
    refine g_jn (fun j38 => ∀ (a37 : Int32) (σ : Hp), GG X mi_X3_goNight (QM X rV) 292 [(0, vA v0), (1, vA v1), (3, vI a)] [vI a37, vI (8 + a), vA v1] σ (j38 a37 σ)) ?_ ?_
    · intro a37 σ
      refine g_iastore dX3_goNight_292 fun σ => ?_
      refine g_iinc 1 dX3_goNight_293 (by decide) rfl (lt_b rfl) ?_
      refine g_goto 237 dX3_goNight_296 (by decide) ?_
      exact g_jmp (hag _ _) rfl
    · intro j38 hj38
      refine g_if_ne 274 dX3_goNight_256 (by decide) ?_ ?_
      · refine g_bipush 99 dX3_goNight_274 (by decide) ?_
        refine g_aload_n 1 dX3_goNight_276 rfl rfl ?_
        refine g_bipush 8 dX3_goNight_277 (by decide) ?_
        refine g_iload_n 3 dX3_goNight_279 rfl rfl ?_
        refine g_iadd dX3_goNight_280 ?_
        refine g_iaload dX3_goNight_281 fun x39 => ?_
        refine g_aload_n 0 dX3_goNight_282 rfl rfl ?_
        refine g_getR fo_2_30 q1086 dX3_goNight_283 fun y40 => ?_
        refine g_iload_n 3 dX3_goNight_286 rfl rfl ?_
        refine g_iaload dX3_goNight_287 fun x41 => ?_
        refine g_iadd dX3_goNight_288 ?_
        refine g_mmin q1329 (by decide) (Nat.le_of_ble_eq_true rfl) dX3_goNight_289 ?_
        exact g_jmp (hj38 _ _) rfl
      · refine g_iconst 0 dX3_goNight_259 (by decide) ?_
        refine g_aload_n 1 dX3_goNight_260 rfl rfl ?_
        refine g_bipush 8 dX3_goNight_261 (by decide) ?_
        refine g_iload_n 3 dX3_goNight_263 rfl rfl ?_
        refine g_iadd dX3_goNight_264 ?_
        refine g_iaload dX3_goNight_265 fun x42 => ?_
        refine g_iconst 5 dX3_goNight_266 (by decide) ?_
        refine g_isub dX3_goNight_267 ?_
        refine g_mmax q1330 (by decide) (Nat.le_of_ble_eq_true rfl) dX3_goNight_268 ?_
        refine g_goto 292 dX3_goNight_271 (by decide) ?_
        exact g_jmp (hj38 _ _) rfl
theorem mm_X3_goNight (v0 : Option Nat) (v1 : Option Nat) (σ : Hp) : MM yX3_goNight mi_X3_goNight rV [vA v0, vA v1] σ (f_X3_goNight v0 v1 σ) := by
  refine mm_of (by decide +kernel) rfl rfl (Nat.le_of_ble_eq_true rfl) ?_
  intro X
  unfold f_X3_goNight
  refine g_aload_n 0 dX3_goNight_0 rfl rfl ?_
  refine g_iconst 0 dX3_goNight_1 (by decide) ?_
  refine g_putI fo_2_27 (by decide) rfl q1083 dX3_goNight_2 fun σ => ?_
  refine g_aload_n 0 dX3_goNight_5 rfl rfl ?_
  refine g_iconst 0 dX3_goNight_6 (by decide) ?_
  refine g_putI fo_2_28 (by decide) rfl q1084 dX3_goNight_7 fun σ => ?_
  refine g_iconst 0 dX3_goNight_10 (by decide) ?_
  refine g_istore_n 2 dX3_goNight_11 rfl (lt_b rfl) ?_
  refine g_jmp (ok_X3_goNight_b12 X v0 v1 ?_ _ _ _) rfl
  · intro a3 σ
    refine g_iconst (-1) dX3_goNight_38 (by decide) ?_
    refine g_istore_n 2 dX3_goNight_39 rfl (lt_b rfl) ?_
    refine g_iconst 0 dX3_goNight_40 (by decide) ?_
    refine g_istore_n 3 dX3_goNight_41 rfl (lt_b rfl) ?_
    refine g_jmp (ok_X3_goNight_b42 X v0 v1 ?_ _ _ _) rfl
    · intro a33 σ
      refine g_iconst 0 dX3_goNight_235 (by decide) ?_
      refine g_istore_n 3 dX3_goNight_236 rfl (lt_b rfl) ?_
      refine g_jmp (ok_X3_goNight_b237 X v0 v1 ?_ _ _ _) rfl
      · intro a43 σ
        refine g_aload_n 1 dX3_goNight_299 rfl rfl ?_
        refine g_bipush 25 dX3_goNight_300 (by decide) ?_
        refine g_dup2 dX3_goNight_302 rfl rfl ?_
        refine g_iaload dX3_goNight_303 fun x44 => ?_
        refine g_aload_n 0 dX3_goNight_304 rfl rfl ?_
        refine g_getI fo_2_27 (by decide) q1083 dX3_goNight_305 fun x45 => ?_
        refine g_callS_I (mm_J10_bitCount _ _) rfl q1328 q600 q125 q601 dd_J10_bitCount rfl (Nat.le_of_ble_eq_true rfl) (Nat.le_of_ble_eq_true rfl) (Nat.le_of_ble_eq_true rfl) dX3_goNight_308 fun x46 σ => ?_
        refine g_iadd dX3_goNight_311 ?_
        refine g_iastore dX3_goNight_312 fun σ => ?_
        refine g_aload_n 1 dX3_goNight_313 rfl rfl ?_
        refine g_bipush 26 dX3_goNight_314 (by decide) ?_
        refine g_dup2 dX3_goNight_316 rfl rfl ?_
        refine g_iaload dX3_goNight_317 fun x47 => ?_
        refine g_aload_n 0 dX3_goNight_318 rfl rfl ?_
        refine g_getI fo_2_28 (by decide) q1084 dX3_goNight_319 fun x48 => ?_
        refine g_callS_I (mm_J10_bitCount _ _) rfl q1328 q600 q125 q601 dd_J10_bitCount rfl (Nat.le_of_ble_eq_true rfl) (Nat.le_of_ble_eq_true rfl) (Nat.le_of_ble_eq_true rfl) dX3_goNight_322 fun x49 σ => ?_
        refine g_iadd dX3_goNight_325 ?_
        refine g_iastore dX3_goNight_326 fun σ => ?_
        refine g_aload_n 1 dX3_goNight_327 rfl rfl ?_
        refine g_bipush 24 dX3_goNight_328 (by decide) ?_
        refine g_dup2 dX3_goNight_330 rfl rfl ?_
        refine g_iaload dX3_goNight_331 fun x50 => ?_
        refine g_iconst 1 dX3_goNight_332 (by decide) ?_
        refine g_iadd dX3_goNight_333 ?_
        refine g_iastore dX3_goNight_334 fun σ => ?_
        exact g_vret rfl dX3_goNight_335
theorem dd_X3_goNight : yX3_goNight.cls ≠ "java/lang/invoke/MethodHandle" ∧ yX3_goNight.cls ≠ "java/lang/invoke/VarHandle" ∧ (parseMethodDescriptor yX3_goNight.desc).map (fun d => d.parameters.length) = some 1 := by decide +kernel
theorem dv_X3_goNight : yX3_goNight.cls = RX3 ∧ yX3_goNight.cls ≠ "java/lang/invoke/MethodHandle" ∧ yX3_goNight.cls ≠ "java/lang/invoke/VarHandle" ∧ (parseMethodDescriptor yX3_goNight.desc).map (fun d => d.parameters.length) = some 1 := ⟨rfl, dd_X3_goNight⟩
/-! RockingHorseModel.gaps()I -/
abbrev mi_X3_gaps : Mi := (cX3_gaps, 1, "RockingHorseModel", 206, some .int, "gaps")
def f_X3_gaps (v0 : Option Nat) (σ : Hp) : Option (Int32 × Hp) :=
  pI 0 2 11 σ v0 0 fun σ =>
  gR 2 0 σ v0 fun y1 =>
  gR 2 26 σ v0 fun y2 =>
  bnd (f_X3_lay y1 y2 0 σ) fun _ σ =>
  gR 2 26 σ v0 fun y3 =>
  ob 2 σ v0 fun _ => bnd (f_X3_goNight v0 y3 σ) fun _ σ =>
  pI 0 2 10 σ v0 0 fun σ =>
  gI 2 27 σ v0 fun x4 =>
  bnd (f_J10_bitCount x4 σ) fun x5 σ =>
  ob 2 σ v0 fun _ => bnd (f_X3_tell v0 (Int32.toInt64 x5) σ) fun _ σ =>
  gI 2 28 σ v0 fun x6 =>
  ob 2 σ v0 fun _ => bnd (f_X3_tell v0 (Int32.toInt64 x6) σ) fun _ σ =>
  gI 2 27 σ v0 fun x7 =>
  some (x7, σ)
theorem mm_X3_gaps (v0 : Option Nat) (σ : Hp) : MM yX3_gaps mi_X3_gaps rI [vA v0] σ (f_X3_gaps v0 σ) := by
  refine mm_of (by decide +kernel) rfl rfl (Nat.le_of_ble_eq_true rfl) ?_
  intro X
  unfold f_X3_gaps
  refine g_aload_n 0 dX3_gaps_0 rfl rfl ?_
  refine g_iconst 0 dX3_gaps_1 (by decide) ?_
  refine g_putI fo_2_11 (by decide) rfl q1067 dX3_gaps_2 fun σ => ?_
  refine g_aload_n 0 dX3_gaps_5 rfl rfl ?_
  refine g_getR fo_2_0 q1056 dX3_gaps_6 fun y1 => ?_
  refine g_aload_n 0 dX3_gaps_9 rfl rfl ?_
  refine g_getR fo_2_26 q1082 dX3_gaps_10 fun y2 => ?_
  refine g_iconst 0 dX3_gaps_13 (by decide) ?_
  refine g_callS_V (mm_X3_lay _ _ _ _) rfl q1347 q1348 q109 q1349 dd_X3_lay rfl (Nat.le_of_ble_eq_true rfl) (Nat.le_of_ble_eq_true rfl) (Nat.le_of_ble_eq_true rfl) dX3_gaps_14 fun _ σ => ?_
  refine g_aload_n 0 dX3_gaps_17 rfl rfl ?_
  refine g_aload_n 0 dX3_gaps_18 rfl rfl ?_
  refine g_getR fo_2_26 q1082 dX3_gaps_19 fun y3 => ?_
  refine g_callV_V (mm_X3_goNight _ _ _) rfl zc_2 q1374 q1376 qs74 q109 q1377 dv_X3_goNight rfl (Nat.le_of_ble_eq_true rfl) (Nat.le_of_ble_eq_true rfl) (Nat.le_of_ble_eq_true rfl) dX3_gaps_22 fun _ σ => ?_
  refine g_aload_n 0 dX3_gaps_25 rfl rfl ?_
  refine g_iconst 0 dX3_gaps_26 (by decide) ?_
  refine g_putI fo_2_10 (by decide) rfl q1066 dX3_gaps_27 fun σ => ?_
  refine g_aload_n 0 dX3_gaps_30 rfl rfl ?_
  refine g_aload_n 0 dX3_gaps_31 rfl rfl ?_
  refine g_getI fo_2_27 (by decide) q1083 dX3_gaps_32 fun x4 => ?_
  refine g_callS_I (mm_J10_bitCount _ _) rfl q1328 q600 q125 q601 dd_J10_bitCount rfl (Nat.le_of_ble_eq_true rfl) (Nat.le_of_ble_eq_true rfl) (Nat.le_of_ble_eq_true rfl) dX3_gaps_35 fun x5 σ => ?_
  refine g_i2l dX3_gaps_38 ?_
  refine g_callV_V (mm_X3_tell _ _ _) rfl zc_2 q1382 q1384 qs75 q109 q1385 dv_X3_tell rfl (Nat.le_of_ble_eq_true rfl) (Nat.le_of_ble_eq_true rfl) (Nat.le_of_ble_eq_true rfl) dX3_gaps_39 fun _ σ => ?_
  refine g_aload_n 0 dX3_gaps_42 rfl rfl ?_
  refine g_aload_n 0 dX3_gaps_43 rfl rfl ?_
  refine g_getI fo_2_28 (by decide) q1084 dX3_gaps_44 fun x6 => ?_
  refine g_i2l dX3_gaps_47 ?_
  refine g_callV_V (mm_X3_tell _ _ _) rfl zc_2 q1382 q1384 qs75 q109 q1385 dv_X3_tell rfl (Nat.le_of_ble_eq_true rfl) (Nat.le_of_ble_eq_true rfl) (Nat.le_of_ble_eq_true rfl) dX3_gaps_48 fun _ σ => ?_
  refine g_aload_n 0 dX3_gaps_51 rfl rfl ?_
  refine g_getI fo_2_27 (by decide) q1083 dX3_gaps_52 fun x7 => ?_
  exact g_iret rfl dX3_gaps_55
theorem dd_X3_gaps : yX3_gaps.cls ≠ "java/lang/invoke/MethodHandle" ∧ yX3_gaps.cls ≠ "java/lang/invoke/VarHandle" ∧ (parseMethodDescriptor yX3_gaps.desc).map (fun d => d.parameters.length) = some 0 := by decide +kernel
theorem dv_X3_gaps : yX3_gaps.cls = RX3 ∧ yX3_gaps.cls ≠ "java/lang/invoke/MethodHandle" ∧ yX3_gaps.cls ≠ "java/lang/invoke/VarHandle" ∧ (parseMethodDescriptor yX3_gaps.desc).map (fun d => d.parameters.length) = some 0 := ⟨rfl, dd_X3_gaps⟩
/-! RockingHorseModel.first(I)I -/
abbrev mi_X3_first : Mi := (cX3_first, 3, "RockingHorseModel", 206, some .int, "first")
def f_X3_first_b31 (v0 : Option Nat) (v1 : Int32) (k0 : Unit → Hp → Option (Int32 × Hp)) (ag : Int32 → Hp → Option (Int32 × Hp)) (a : Int32) (σ : Hp) : Option (Int32 × Hp) :=
  if v1 ≤ a then
    k0 () σ
  else
    gR 2 26 σ v0 fun y4 =>
    ob 2 σ v0 fun _ => bnd (f_X3_goNight v0 y4 σ) fun _ σ =>
    gI 2 27 σ v0 fun x5 =>
    if x5 = 0 then
      ag (a + 1) σ
    else
      pI 0 2 10 σ v0 0 fun σ =>
      gI 2 27 σ v0 fun x6 =>
      bnd (f_J10_numberOfTrailingZeros x6 σ) fun x7 σ =>
      ob 2 σ v0 fun _ => bnd (f_X3_tell v0 (Int32.toInt64 x7) σ) fun _ σ =>
      some (a, σ)
def f_X3_first (v0 : Option Nat) (v1 : Int32) (σ : Hp) : Option (Int32 × Hp) :=
  pI 0 2 11 σ v0 0 fun σ =>
  bnd (f_X3_in v1 1 60 σ) fun x1 σ =>
  if x1 = 0 then
    some ((-1), σ)
  else
    gR 2 0 σ v0 fun y2 =>
    gR 2 26 σ v0 fun y3 =>
    bnd (f_X3_lay y2 y3 0 σ) fun _ σ =>
    lp 2000 (f_X3_first_b31 v0 v1 (fun (a8 : Unit) σ =>
        some ((-2), σ))) 0 σ
theorem ok_X3_first_b31 (X : Mx) (v0 : Option Nat) (v1 : Int32) {k0 : Unit → Hp → Option (Int32 × Hp)} (hk0 : ∀ (a : Unit) (σ : Hp), GG X mi_X3_first (QM X rI) 79 [] [] σ (k0 a σ)) : ∀ (m : Nat) (a : Int32) (σ : Hp), GG X mi_X3_first (QM X rI) 31 [(0, vA v0), (1, vI v1), (2, vI a)] [] σ (lp m (f_X3_first_b31 v0 v1 k0) a σ) := by
  refine g_lp (fun (a : Int32) => [(0, vA v0), (1, vI v1), (2, vI a)]) ?_
  intro ag hag a σ
  unfold f_X3_first_b31
  refine g_iload_n 2 dX3_first_31 rfl rfl ?_
  refine g_iload_n 1 dX3_first_32 rfl rfl ?_
  refine g_icmp_ge 79 dX3_first_33 (by decide) ?_ ?_
  · exact g_jmp (hk0 _ _) rfl
  · refine g_aload_n 0 dX3_first_36 rfl rfl ?_
    refine g_aload_n 0 dX3_first_37 rfl rfl ?_
    refine g_getR fo_2_26 q1082 dX3_first_38 fun y4 => ?_
    refine g_callV_V (mm_X3_goNight _ _ _) rfl zc_2 q1374 q1376 qs74 q109 q1377 dv_X3_goNight rfl (Nat.le_of_ble_eq_true rfl) (Nat.le_of_ble_eq_true rfl) (Nat.le_of_ble_eq_true rfl) dX3_first_41 fun _ σ => ?_
    refine g_aload_n 0 dX3_first_44 rfl rfl ?_
    refine g_getI fo_2_27 (by decide) q1083 dX3_first_45 fun x5 => ?_
    refine g_if_ne 54 dX3_first_48 (by decide) ?_ ?_
    · refine g_aload_n 0 dX3_first_54 rfl rfl ?_
      refine g_iconst 0 dX3_first_55 (by decide) ?_
      refine g_putI fo_2_10 (by decide) rfl q1066 dX3_first_56 fun σ => ?_
      refine g_aload_n 0 dX3_first_59 rfl rfl ?_
      refine g_aload_n 0 dX3_first_60 rfl rfl ?_
      refine g_getI fo_2_27 (by decide) q1083 dX3_first_61 fun x6 => ?_
      refine g_callS_I (mm_J10_numberOfTrailingZeros _ _) rfl q1422 q718 q125 q719 dd_J10_numberOfTrailingZeros rfl (Nat.le_of_ble_eq_true rfl) (Nat.le_of_ble_eq_true rfl) (Nat.le_of_ble_eq_true rfl) dX3_first_64 fun x7 σ => ?_
      refine g_i2l dX3_first_67 ?_
      refine g_callV_V (mm_X3_tell _ _ _) rfl zc_2 q1382 q1384 qs75 q109 q1385 dv_X3_tell rfl (Nat.le_of_ble_eq_true rfl) (Nat.le_of_ble_eq_true rfl) (Nat.le_of_ble_eq_true rfl) dX3_first_68 fun _ σ => ?_
      refine g_iload_n 2 dX3_first_71 rfl rfl ?_
      exact g_iret rfl dX3_first_72
    · refine g_goto 73 dX3_first_51 (by decide) ?_
      refine g_iinc 1 dX3_first_73 (by decide) rfl (lt_b rfl) ?_
      refine g_goto 31 dX3_first_76 (by decide) ?_
      exact g_jmp (hag _ _) rfl
theorem mm_X3_first (v0 : Option Nat) (v1 : Int32) (σ : Hp) : MM yX3_first mi_X3_first rI [vA v0, vI v1] σ (f_X3_first v0 v1 σ) := by
  refine mm_of (by decide +kernel) rfl rfl (Nat.le_of_ble_eq_true rfl) ?_
  intro X
  unfold f_X3_first
  refine g_aload_n 0 dX3_first_0 rfl rfl ?_
  refine g_iconst 0 dX3_first_1 (by decide) ?_
  refine g_putI fo_2_11 (by decide) rfl q1067 dX3_first_2 fun σ => ?_
  refine g_iload_n 1 dX3_first_5 rfl rfl ?_
  refine g_iconst 1 dX3_first_6 (by decide) ?_
  refine g_bipush 60 dX3_first_7 (by decide) ?_
  refine g_callS_I (mm_X3_in _ _ _ _) rfl q1223 q1224 q109 q1225 dd_X3_in rfl (Nat.le_of_ble_eq_true rfl) (Nat.le_of_ble_eq_true rfl) (Nat.le_of_ble_eq_true rfl) dX3_first_9 fun x1 σ => ?_
  refine g_if_ne 17 dX3_first_12 (by decide) ?_ ?_
  · refine g_aload_n 0 dX3_first_17 rfl rfl ?_
    refine g_getR fo_2_0 q1056 dX3_first_18 fun y2 => ?_
    refine g_aload_n 0 dX3_first_21 rfl rfl ?_
    refine g_getR fo_2_26 q1082 dX3_first_22 fun y3 => ?_
    refine g_iconst 0 dX3_first_25 (by decide) ?_
    refine g_callS_V (mm_X3_lay _ _ _ _) rfl q1347 q1348 q109 q1349 dd_X3_lay rfl (Nat.le_of_ble_eq_true rfl) (Nat.le_of_ble_eq_true rfl) (Nat.le_of_ble_eq_true rfl) dX3_first_26 fun _ σ => ?_
    refine g_iconst 0 dX3_first_29 (by decide) ?_
    refine g_istore_n 2 dX3_first_30 rfl (lt_b rfl) ?_
    refine g_jmp (ok_X3_first_b31 X v0 v1 ?_ _ _ _) rfl
    · intro a8 σ
      refine g_bipush (-2) dX3_first_79 (by decide) ?_
      exact g_iret rfl dX3_first_81
  · refine g_iconst (-1) dX3_first_15 (by decide) ?_
    exact g_iret rfl dX3_first_16
theorem dd_X3_first : yX3_first.cls ≠ "java/lang/invoke/MethodHandle" ∧ yX3_first.cls ≠ "java/lang/invoke/VarHandle" ∧ (parseMethodDescriptor yX3_first.desc).map (fun d => d.parameters.length) = some 1 := by decide +kernel
theorem dv_X3_first : yX3_first.cls = RX3 ∧ yX3_first.cls ≠ "java/lang/invoke/MethodHandle" ∧ yX3_first.cls ≠ "java/lang/invoke/VarHandle" ∧ (parseMethodDescriptor yX3_first.desc).map (fun d => d.parameters.length) = some 1 := ⟨rfl, dd_X3_first⟩
/-! RockingHorseModel.vigil(I)I -/
abbrev mi_X3_vigil : Mi := (cX3_vigil, 6, "RockingHorseModel", 206, some .int, "vigil")
def f_X3_vigil_b39 (v0 : Option Nat) (v1 : Int32) (k0 : (Int32 × Int32) → Hp → Option (Int32 × Hp)) (ag : (Int32 × Int32 × Int32 × Int32) → Hp → Option (Int32 × Hp)) (a : Int32 × Int32 × Int32 × Int32) (σ : Hp) : Option (Int32 × Hp) :=
  if v1 ≤ a.2.2.2 then
    k0 (a.1, a.2.1) σ
  else
    gR 2 26 σ v0 fun y4 =>
    ob 2 σ v0 fun _ => bnd (f_X3_goNight v0 y4 σ) fun _ σ =>
    gI 2 27 σ v0 fun x5 =>
    jn (fun (a6 : Int32) σ =>
        jn (fun (a8 : Int32 × Int32) σ =>
            ag (a8.1, a8.2, a6, (a.2.2.2 + 1)) σ) fun j9 =>
        if a.1 < a6 then
          j9 (a6, ((a.2.2.2 - a6) + 1)) σ
        else
          j9 (a.1, a.2.1) σ) fun j7 =>
    if x5 = 0 then
      j7 (a.2.2.1 + 1) σ
    else
      j7 0 σ
def f_X3_vigil (v0 : Option Nat) (v1 : Int32) (σ : Hp) : Option (Int32 × Hp) :=
  pI 0 2 11 σ v0 0 fun σ =>
  bnd (f_X3_in v1 0 60 σ) fun x1 σ =>
  if x1 = 0 then
    some ((-1), σ)
  else
    gR 2 0 σ v0 fun y2 =>
    gR 2 26 σ v0 fun y3 =>
    bnd (f_X3_lay y2 y3 0 σ) fun _ σ =>
    lp 2000 (f_X3_vigil_b39 v0 v1 (fun (a10 : Int32 × Int32) σ =>
        pI 0 2 10 σ v0 0 fun σ =>
        ob 2 σ v0 fun _ => bnd (f_X3_tell v0 (Int32.toInt64 a10.2) σ) fun _ σ =>
        some (a10.1, σ))) (0, (-1), 0, 0) σ
theorem ok_X3_vigil_b39 (X : Mx) (v0 : Option Nat) (v1 : Int32) {k0 : (Int32 × Int32) → Hp → Option (Int32 × Hp)} (hk0 : ∀ (a : Int32 × Int32) (σ : Hp), GG X mi_X3_vigil (QM X rI) 96 [(0, vA v0), (2, vI a.1), (3, vI a.2)] [] σ (k0 a σ)) : ∀ (m : Nat) (a : Int32 × Int32 × Int32 × Int32) (σ : Hp), GG X mi_X3_vigil (QM X rI) 39 [(0, vA v0), (1, vI v1), (2, vI a.1), (3, vI a.2.1), (4, vI a.2.2.1), (5, vI a.2.2.2)] [] σ (lp m (f_X3_vigil_b39 v0 v1 k0) a σ) := by
  refine g_lp (fun (a : Int32 × Int32 × Int32 × Int32) => [(0, vA v0), (1, vI v1), (2, vI a.1), (3, vI a.2.1), (4, vI a.2.2.1), (5, vI a.2.2.2)]) ?_
  intro ag hag a σ
  unfold f_X3_vigil_b39
  refine g_iload dX3_vigil_39 rfl ?_
  refine g_iload_n 1 dX3_vigil_41 rfl rfl ?_
  refine g_icmp_ge 96 dX3_vigil_42 (by decide) ?_ ?_
  · exact g_jmp (hk0 _ _) rfl
  · refine g_aload_n 0 dX3_vigil_45 rfl rfl ?_
    refine g_aload_n 0 dX3_vigil_46 rfl rfl ?_
    refine g_getR fo_2_26 q1082 dX3_vigil_47 fun y4 => ?_
    refine g_callV_V (mm_X3_goNight _ _ _) rfl zc_2 q1374 q1376 qs74 q109 q1377 dv_X3_goNight rfl (Nat.le_of_ble_eq_true rfl) (Nat.le_of_ble_eq_true rfl) (Nat.le_of_ble_eq_true rfl) dX3_vigil_50 fun _ σ => ?_
    refine g_aload_n 0 dX3_vigil_53 rfl rfl ?_
    refine g_getI fo_2_27 (by decide) q1083 dX3_vigil_54 fun x5 => ?_
    refine g_jn (fun j7 => ∀ (a6 : Int32) (σ : Hp), GG X mi_X3_vigil (QM X rI) 68 [(0, vA v0), (1, vI v1), (2, vI a.1), (3, vI a.2.1), (5, vI a.2.2.2)] [vI a6] σ (j7 a6 σ)) ?_ ?_
    · intro a6 σ
      refine g_istore dX3_vigil_68 (lt_b rfl) ?_
      refine g_iload dX3_vigil_70 rfl ?_
      refine g_iload_n 2 dX3_vigil_72 rfl rfl ?_
      refine g_jn (fun j9 => ∀ (a8 : Int32 × Int32) (σ : Hp), GG X mi_X3_vigil (QM X rI) 90 [(0, vA v0), (1, vI v1), (2, vI a8.1), (3, vI a8.2), (4, vI a6), (5, vI a.2.2.2)] [] σ (j9 a8 σ)) ?_ ?_
      · intro a8 σ
        refine g_iinc 1 dX3_vigil_90 (by decide) rfl (lt_b rfl) ?_
        refine g_goto 39 dX3_vigil_93 (by decide) ?_
        exact g_jmp (hag _ _) rfl
      · intro j9 hj9
        refine g_icmp_gt 79 dX3_vigil_73 (by decide) ?_ ?_
        · refine g_iload dX3_vigil_79 rfl ?_
          refine g_istore_n 2 dX3_vigil_81 rfl (lt_b rfl) ?_
          refine g_iload dX3_vigil_82 rfl ?_
          refine g_iload dX3_vigil_84 rfl ?_
          refine g_isub dX3_vigil_86 ?_
          refine g_iconst 1 dX3_vigil_87 (by decide) ?_
          refine g_iadd dX3_vigil_88 ?_
          refine g_istore_n 3 dX3_vigil_89 rfl (lt_b rfl) ?_
          exact g_jmp (hj9 _ _) rfl
        · refine g_goto 90 dX3_vigil_76 (by decide) ?_
          exact g_jmp (hj9 _ _) rfl
    · intro j7 hj7
      refine g_if_ne 67 dX3_vigil_57 (by decide) ?_ ?_
      · refine g_iconst 0 dX3_vigil_67 (by decide) ?_
        exact g_jmp (hj7 _ _) rfl
      · refine g_iload dX3_vigil_60 rfl ?_
        refine g_iconst 1 dX3_vigil_62 (by decide) ?_
        refine g_iadd dX3_vigil_63 ?_
        refine g_goto 68 dX3_vigil_64 (by decide) ?_
        exact g_jmp (hj7 _ _) rfl
theorem mm_X3_vigil (v0 : Option Nat) (v1 : Int32) (σ : Hp) : MM yX3_vigil mi_X3_vigil rI [vA v0, vI v1] σ (f_X3_vigil v0 v1 σ) := by
  refine mm_of (by decide +kernel) rfl rfl (Nat.le_of_ble_eq_true rfl) ?_
  intro X
  unfold f_X3_vigil
  refine g_aload_n 0 dX3_vigil_0 rfl rfl ?_
  refine g_iconst 0 dX3_vigil_1 (by decide) ?_
  refine g_putI fo_2_11 (by decide) rfl q1067 dX3_vigil_2 fun σ => ?_
  refine g_iload_n 1 dX3_vigil_5 rfl rfl ?_
  refine g_iconst 0 dX3_vigil_6 (by decide) ?_
  refine g_bipush 60 dX3_vigil_7 (by decide) ?_
  refine g_callS_I (mm_X3_in _ _ _ _) rfl q1223 q1224 q109 q1225 dd_X3_in rfl (Nat.le_of_ble_eq_true rfl) (Nat.le_of_ble_eq_true rfl) (Nat.le_of_ble_eq_true rfl) dX3_vigil_9 fun x1 σ => ?_
  refine g_if_ne 17 dX3_vigil_12 (by decide) ?_ ?_
  · refine g_aload_n 0 dX3_vigil_17 rfl rfl ?_
    refine g_getR fo_2_0 q1056 dX3_vigil_18 fun y2 => ?_
    refine g_aload_n 0 dX3_vigil_21 rfl rfl ?_
    refine g_getR fo_2_26 q1082 dX3_vigil_22 fun y3 => ?_
    refine g_iconst 0 dX3_vigil_25 (by decide) ?_
    refine g_callS_V (mm_X3_lay _ _ _ _) rfl q1347 q1348 q109 q1349 dd_X3_lay rfl (Nat.le_of_ble_eq_true rfl) (Nat.le_of_ble_eq_true rfl) (Nat.le_of_ble_eq_true rfl) dX3_vigil_26 fun _ σ => ?_
    refine g_iconst 0 dX3_vigil_29 (by decide) ?_
    refine g_istore_n 2 dX3_vigil_30 rfl (lt_b rfl) ?_
    refine g_iconst (-1) dX3_vigil_31 (by decide) ?_
    refine g_istore_n 3 dX3_vigil_32 rfl (lt_b rfl) ?_
    refine g_iconst 0 dX3_vigil_33 (by decide) ?_
    refine g_istore dX3_vigil_34 (lt_b rfl) ?_
    refine g_iconst 0 dX3_vigil_36 (by decide) ?_
    refine g_istore dX3_vigil_37 (lt_b rfl) ?_
    refine g_jmp (ok_X3_vigil_b39 X v0 v1 ?_ _ _ _) rfl
    · intro a10 σ
      refine g_aload_n 0 dX3_vigil_96 rfl rfl ?_
      refine g_iconst 0 dX3_vigil_97 (by decide) ?_
      refine g_putI fo_2_10 (by decide) rfl q1066 dX3_vigil_98 fun σ => ?_
      refine g_aload_n 0 dX3_vigil_101 rfl rfl ?_
      refine g_iload_n 3 dX3_vigil_102 rfl rfl ?_
      refine g_i2l dX3_vigil_103 ?_
      refine g_callV_V (mm_X3_tell _ _ _) rfl zc_2 q1382 q1384 qs75 q109 q1385 dv_X3_tell rfl (Nat.le_of_ble_eq_true rfl) (Nat.le_of_ble_eq_true rfl) (Nat.le_of_ble_eq_true rfl) dX3_vigil_104 fun _ σ => ?_
      refine g_iload_n 2 dX3_vigil_107 rfl rfl ?_
      exact g_iret rfl dX3_vigil_108
  · refine g_iconst (-1) dX3_vigil_15 (by decide) ?_
    exact g_iret rfl dX3_vigil_16
theorem dd_X3_vigil : yX3_vigil.cls ≠ "java/lang/invoke/MethodHandle" ∧ yX3_vigil.cls ≠ "java/lang/invoke/VarHandle" ∧ (parseMethodDescriptor yX3_vigil.desc).map (fun d => d.parameters.length) = some 1 := by decide +kernel
theorem dv_X3_vigil : yX3_vigil.cls = RX3 ∧ yX3_vigil.cls ≠ "java/lang/invoke/MethodHandle" ∧ yX3_vigil.cls ≠ "java/lang/invoke/VarHandle" ∧ (parseMethodDescriptor yX3_vigil.desc).map (fun d => d.parameters.length) = some 1 := ⟨rfl, dd_X3_vigil⟩
/-! RockingHorseModel.trade()I -/
abbrev mi_X3_trade : Mi := (cX3_trade, 6, "RockingHorseModel", 206, some .int, "trade")
def f_X3_trade_b41 (v0 : Option Nat) (v4 : Int32) (k0 : (Int32 × Int32 × Int32) → Hp → Option (Int32 × Hp)) (ag : (Int32 × Int32 × Int32 × Int32) → Hp → Option (Int32 × Hp)) (a : Int32 × Int32 × Int32 × Int32) (σ : Hp) : Option (Int32 × Hp) :=
  gI 2 1 σ v0 fun x3 =>
  if x3 ≤ a.2.2.2 then
    k0 (a.1, a.2.1, a.2.2.1) σ
  else
    gR 2 0 σ v0 fun y4 =>
    gR 2 26 σ v0 fun y5 =>
    bnd (f_X3_lay y4 y5 0 σ) fun _ σ =>
    gR 2 26 σ v0 fun y6 =>
    gR 2 0 σ v0 fun y7 =>
    lI 100 σ y7 a.2.2.2 fun x8 =>
    sI σ y6 v4 x8 fun σ =>
    gR 2 26 σ v0 fun y9 =>
    gR 2 0 σ v0 fun y10 =>
    lI 100 σ y10 v4 fun x11 =>
    sI σ y9 a.2.2.2 x11 fun σ =>
    gR 2 26 σ v0 fun y12 =>
    ob 2 σ v0 fun _ => bnd (f_X3_goNight v0 y12 σ) fun _ σ =>
    gI 2 27 σ v0 fun x13 =>
    bnd (f_J10_bitCount x13 σ) fun x14 σ =>
    jn (fun (a15 : Int32 × Int32 × Int32) σ =>
        ag (a15.1, a15.2.1, a15.2.2, (a.2.2.2 + 1)) σ) fun j16 =>
    if x14 < a.1 then
      gI 2 27 σ v0 fun x17 =>
      bnd (f_J10_bitCount x17 σ) fun x18 σ =>
      j16 (x18, v4, a.2.2.2) σ
    else
      j16 (a.1, a.2.1, a.2.2.1) σ
def f_X3_trade_b26 (v0 : Option Nat) (k0 : (Int32 × Int32 × Int32) → Hp → Option (Int32 × Hp)) (ag : (Int32 × Int32 × Int32 × Int32) → Hp → Option (Int32 × Hp)) (a : Int32 × Int32 × Int32 × Int32) (σ : Hp) : Option (Int32 × Hp) :=
  gI 2 1 σ v0 fun x2 =>
  if x2 ≤ a.2.2.2 then
    k0 (a.1, a.2.1, a.2.2.1) σ
  else
    lp 2000 (f_X3_trade_b41 v0 a.2.2.2 (fun (a19 : Int32 × Int32 × Int32) σ =>
        ag (a19.1, a19.2.1, a19.2.2, (a.2.2.2 + 1)) σ)) (a.1, a.2.1, a.2.2.1, (a.2.2.2 + 1)) σ
def f_X3_trade (v0 : Option Nat) (σ : Hp) : Option (Int32 × Hp) :=
  pI 0 2 11 σ v0 0 fun σ =>
  gI 2 1 σ v0 fun x1 =>
  if x1 = 1 then
    some ((-2), σ)
  else
    lp 2000 (f_X3_trade_b26 v0 (fun (a20 : Int32 × Int32 × Int32) σ =>
        gR 2 0 σ v0 fun y21 =>
        gR 2 26 σ v0 fun y22 =>
        bnd (f_X3_lay y21 y22 0 σ) fun _ σ =>
        gR 2 26 σ v0 fun y23 =>
        ob 2 σ v0 fun _ => bnd (f_X3_goNight v0 y23 σ) fun _ σ =>
        pI 0 2 10 σ v0 0 fun σ =>
        ob 2 σ v0 fun _ => bnd (f_X3_tell v0 (Int32.toInt64 a20.2.1) σ) fun _ σ =>
        ob 2 σ v0 fun _ => bnd (f_X3_tell v0 (Int32.toInt64 a20.2.2) σ) fun _ σ =>
        gI 2 27 σ v0 fun x24 =>
        bnd (f_J10_bitCount x24 σ) fun x25 σ =>
        ob 2 σ v0 fun _ => bnd (f_X3_tell v0 (Int32.toInt64 x25) σ) fun _ σ =>
        some (a20.1, σ))) (1000000000, (-1), (-1), 0) σ
theorem ok_X3_trade_b41 (X : Mx) (v0 : Option Nat) (v4 : Int32) {k0 : (Int32 × Int32 × Int32) → Hp → Option (Int32 × Hp)} (hk0 : ∀ (a : Int32 × Int32 × Int32) (σ : Hp), GG X mi_X3_trade (QM X rI) 132 [(0, vA v0), (1, vI a.1), (2, vI a.2.1), (3, vI a.2.2), (4, vI v4)] [] σ (k0 a σ)) : ∀ (m : Nat) (a : Int32 × Int32 × Int32 × Int32) (σ : Hp), GG X mi_X3_trade (QM X rI) 41 [(0, vA v0), (1, vI a.1), (2, vI a.2.1), (3, vI a.2.2.1), (4, vI v4), (5, vI a.2.2.2)] [] σ (lp m (f_X3_trade_b41 v0 v4 k0) a σ) := by
  refine g_lp (fun (a : Int32 × Int32 × Int32 × Int32) => [(0, vA v0), (1, vI a.1), (2, vI a.2.1), (3, vI a.2.2.1), (4, vI v4), (5, vI a.2.2.2)]) ?_
  intro ag hag a σ
  unfold f_X3_trade_b41
  refine g_iload dX3_trade_41 rfl ?_
  refine g_aload_n 0 dX3_trade_43 rfl rfl ?_
  refine g_getI fo_2_1 (by decide) q1057 dX3_trade_44 fun x3 => ?_
  refine g_icmp_ge 132 dX3_trade_47 (by decide) ?_ ?_
  · exact g_jmp (hk0 _ _) rfl
  · refine g_aload_n 0 dX3_trade_50 rfl rfl ?_
    refine g_getR fo_2_0 q1056 dX3_trade_51 fun y4 => ?_
    refine g_aload_n 0 dX3_trade_54 rfl rfl ?_
    refine g_getR fo_2_26 q1082 dX3_trade_55 fun y5 => ?_
    refine g_iconst 0 dX3_trade_58 (by decide) ?_
    refine g_callS_V (mm_X3_lay _ _ _ _) rfl q1347 q1348 q109 q1349 dd_X3_lay rfl (Nat.le_of_ble_eq_true rfl) (Nat.le_of_ble_eq_true rfl) (Nat.le_of_ble_eq_true rfl) dX3_trade_59 fun _ σ => ?_
    refine g_aload_n 0 dX3_trade_62 rfl rfl ?_
    refine g_getR fo_2_26 q1082 dX3_trade_63 fun y6 => ?_
    refine g_iload dX3_trade_66 rfl ?_
    refine g_aload_n 0 dX3_trade_68 rfl rfl ?_
    refine g_getR fo_2_0 q1056 dX3_trade_69 fun y7 => ?_
    refine g_iload dX3_trade_72 rfl ?_
    refine g_iaload dX3_trade_74 fun x8 => ?_
    refine g_iastore dX3_trade_75 fun σ => ?_
    refine g_aload_n 0 dX3_trade_76 rfl rfl ?_
    refine g_getR fo_2_26 q1082 dX3_trade_77 fun y9 => ?_
    refine g_iload dX3_trade_80 rfl ?_
    refine g_aload_n 0 dX3_trade_82 rfl rfl ?_
    refine g_getR fo_2_0 q1056 dX3_trade_83 fun y10 => ?_
    refine g_iload dX3_trade_86 rfl ?_
    refine g_iaload dX3_trade_88 fun x11 => ?_
    refine g_iastore dX3_trade_89 fun σ => ?_
    refine g_aload_n 0 dX3_trade_90 rfl rfl ?_
    refine g_aload_n 0 dX3_trade_91 rfl rfl ?_
    refine g_getR fo_2_26 q1082 dX3_trade_92 fun y12 => ?_
    refine g_callV_V (mm_X3_goNight _ _ _) rfl zc_2 q1374 q1376 qs74 q109 q1377 dv_X3_goNight rfl (Nat.le_of_ble_eq_true rfl) (Nat.le_of_ble_eq_true rfl) (Nat.le_of_ble_eq_true rfl) dX3_trade_95 fun _ σ => ?_
    refine g_aload_n 0 dX3_trade_98 rfl rfl ?_
    refine g_getI fo_2_27 (by decide) q1083 dX3_trade_99 fun x13 => ?_
    refine g_callS_I (mm_J10_bitCount _ _) rfl q1328 q600 q125 q601 dd_J10_bitCount rfl (Nat.le_of_ble_eq_true rfl) (Nat.le_of_ble_eq_true rfl) (Nat.le_of_ble_eq_true rfl) dX3_trade_102 fun x14 σ => ?_
    refine g_iload_n 1 dX3_trade_105 rfl rfl ?_
    refine g_jn (fun j16 => ∀ (a15 : Int32 × Int32 × Int32) (σ : Hp), GG X mi_X3_trade (QM X rI) 126 [(0, vA v0), (1, vI a15.1), (2, vI a15.2.1), (3, vI a15.2.2), (4, vI v4), (5, vI a.2.2.2)] [] σ (j16 a15 σ)) ?_ ?_
    · intro a15 σ
      refine g_iinc 1 dX3_trade_126 (by decide) rfl (lt_b rfl) ?_
      refine g_goto 41 dX3_trade_129 (by decide) ?_
      exact g_jmp (hag _ _) rfl
    · intro j16 hj16
      refine g_icmp_lt 112 dX3_trade_106 (by decide) ?_ ?_
      · refine g_aload_n 0 dX3_trade_112 rfl rfl ?_
        refine g_getI fo_2_27 (by decide) q1083 dX3_trade_113 fun x17 => ?_
        refine g_callS_I (mm_J10_bitCount _ _) rfl q1328 q600 q125 q601 dd_J10_bitCount rfl (Nat.le_of_ble_eq_true rfl) (Nat.le_of_ble_eq_true rfl) (Nat.le_of_ble_eq_true rfl) dX3_trade_116 fun x18 σ => ?_
        refine g_istore_n 1 dX3_trade_119 rfl (lt_b rfl) ?_
        refine g_iload dX3_trade_120 rfl ?_
        refine g_istore_n 2 dX3_trade_122 rfl (lt_b rfl) ?_
        refine g_iload dX3_trade_123 rfl ?_
        refine g_istore_n 3 dX3_trade_125 rfl (lt_b rfl) ?_
        exact g_jmp (hj16 _ _) rfl
      · refine g_goto 126 dX3_trade_109 (by decide) ?_
        exact g_jmp (hj16 _ _) rfl
theorem ok_X3_trade_b26 (X : Mx) (v0 : Option Nat) {k0 : (Int32 × Int32 × Int32) → Hp → Option (Int32 × Hp)} (hk0 : ∀ (a : Int32 × Int32 × Int32) (σ : Hp), GG X mi_X3_trade (QM X rI) 138 [(0, vA v0), (1, vI a.1), (2, vI a.2.1), (3, vI a.2.2)] [] σ (k0 a σ)) : ∀ (m : Nat) (a : Int32 × Int32 × Int32 × Int32) (σ : Hp), GG X mi_X3_trade (QM X rI) 26 [(0, vA v0), (1, vI a.1), (2, vI a.2.1), (3, vI a.2.2.1), (4, vI a.2.2.2)] [] σ (lp m (f_X3_trade_b26 v0 k0) a σ) := by
  refine g_lp (fun (a : Int32 × Int32 × Int32 × Int32) => [(0, vA v0), (1, vI a.1), (2, vI a.2.1), (3, vI a.2.2.1), (4, vI a.2.2.2)]) ?_
  intro ag hag a σ
  unfold f_X3_trade_b26
  refine g_iload dX3_trade_26 rfl ?_
  refine g_aload_n 0 dX3_trade_28 rfl rfl ?_
  refine g_getI fo_2_1 (by decide) q1057 dX3_trade_29 fun x2 => ?_
  refine g_icmp_ge 138 dX3_trade_32 (by decide) ?_ ?_
  · exact g_jmp (hk0 _ _) rfl
  · refine g_iload dX3_trade_35 rfl ?_
    refine g_iconst 1 dX3_trade_37 (by decide) ?_
    refine g_iadd dX3_trade_38 ?_
    refine g_istore dX3_trade_39 (lt_b rfl) ?_
    refine g_jmp (ok_X3_trade_b41 X v0 a.2.2.2 ?_ _ _ _) rfl
    · intro a19 σ
      refine g_iinc 1 dX3_trade_132 (by decide) rfl (lt_b rfl) ?_
      refine g_goto 26 dX3_trade_135 (by decide) ?_
      exact g_jmp (hag _ _) rfl
theorem mm_X3_trade (v0 : Option Nat) (σ : Hp) : MM yX3_trade mi_X3_trade rI [vA v0] σ (f_X3_trade v0 σ) := by
  refine mm_of (by decide +kernel) rfl rfl (Nat.le_of_ble_eq_true rfl) ?_
  intro X
  unfold f_X3_trade
  refine g_aload_n 0 dX3_trade_0 rfl rfl ?_
  refine g_iconst 0 dX3_trade_1 (by decide) ?_
  refine g_putI fo_2_11 (by decide) rfl q1067 dX3_trade_2 fun σ => ?_
  refine g_aload_n 0 dX3_trade_5 rfl rfl ?_
  refine g_getI fo_2_1 (by decide) q1057 dX3_trade_6 fun x1 => ?_
  refine g_iconst 1 dX3_trade_9 (by decide) ?_
  refine g_icmp_ne 16 dX3_trade_10 (by decide) ?_ ?_
  · refine g_ldc dX3_trade_16 q1055 ?_
    refine g_istore_n 1 dX3_trade_18 rfl (lt_b rfl) ?_
    refine g_iconst (-1) dX3_trade_19 (by decide) ?_
    refine g_istore_n 2 dX3_trade_20 rfl (lt_b rfl) ?_
    refine g_iconst (-1) dX3_trade_21 (by decide) ?_
    refine g_istore_n 3 dX3_trade_22 rfl (lt_b rfl) ?_
    refine g_iconst 0 dX3_trade_23 (by decide) ?_
    refine g_istore dX3_trade_24 (lt_b rfl) ?_
    refine g_jmp (ok_X3_trade_b26 X v0 ?_ _ _ _) rfl
    · intro a20 σ
      refine g_aload_n 0 dX3_trade_138 rfl rfl ?_
      refine g_getR fo_2_0 q1056 dX3_trade_139 fun y21 => ?_
      refine g_aload_n 0 dX3_trade_142 rfl rfl ?_
      refine g_getR fo_2_26 q1082 dX3_trade_143 fun y22 => ?_
      refine g_iconst 0 dX3_trade_146 (by decide) ?_
      refine g_callS_V (mm_X3_lay _ _ _ _) rfl q1347 q1348 q109 q1349 dd_X3_lay rfl (Nat.le_of_ble_eq_true rfl) (Nat.le_of_ble_eq_true rfl) (Nat.le_of_ble_eq_true rfl) dX3_trade_147 fun _ σ => ?_
      refine g_aload_n 0 dX3_trade_150 rfl rfl ?_
      refine g_aload_n 0 dX3_trade_151 rfl rfl ?_
      refine g_getR fo_2_26 q1082 dX3_trade_152 fun y23 => ?_
      refine g_callV_V (mm_X3_goNight _ _ _) rfl zc_2 q1374 q1376 qs74 q109 q1377 dv_X3_goNight rfl (Nat.le_of_ble_eq_true rfl) (Nat.le_of_ble_eq_true rfl) (Nat.le_of_ble_eq_true rfl) dX3_trade_155 fun _ σ => ?_
      refine g_aload_n 0 dX3_trade_158 rfl rfl ?_
      refine g_iconst 0 dX3_trade_159 (by decide) ?_
      refine g_putI fo_2_10 (by decide) rfl q1066 dX3_trade_160 fun σ => ?_
      refine g_aload_n 0 dX3_trade_163 rfl rfl ?_
      refine g_iload_n 2 dX3_trade_164 rfl rfl ?_
      refine g_i2l dX3_trade_165 ?_
      refine g_callV_V (mm_X3_tell _ _ _) rfl zc_2 q1382 q1384 qs75 q109 q1385 dv_X3_tell rfl (Nat.le_of_ble_eq_true rfl) (Nat.le_of_ble_eq_true rfl) (Nat.le_of_ble_eq_true rfl) dX3_trade_166 fun _ σ => ?_
      refine g_aload_n 0 dX3_trade_169 rfl rfl ?_
      refine g_iload_n 3 dX3_trade_170 rfl rfl ?_
      refine g_i2l dX3_trade_171 ?_
      refine g_callV_V (mm_X3_tell _ _ _) rfl zc_2 q1382 q1384 qs75 q109 q1385 dv_X3_tell rfl (Nat.le_of_ble_eq_true rfl) (Nat.le_of_ble_eq_true rfl) (Nat.le_of_ble_eq_true rfl) dX3_trade_172 fun _ σ => ?_
      refine g_aload_n 0 dX3_trade_175 rfl rfl ?_
      refine g_aload_n 0 dX3_trade_176 rfl rfl ?_
      refine g_getI fo_2_27 (by decide) q1083 dX3_trade_177 fun x24 => ?_
      refine g_callS_I (mm_J10_bitCount _ _) rfl q1328 q600 q125 q601 dd_J10_bitCount rfl (Nat.le_of_ble_eq_true rfl) (Nat.le_of_ble_eq_true rfl) (Nat.le_of_ble_eq_true rfl) dX3_trade_180 fun x25 σ => ?_
      refine g_i2l dX3_trade_183 ?_
      refine g_callV_V (mm_X3_tell _ _ _) rfl zc_2 q1382 q1384 qs75 q109 q1385 dv_X3_tell rfl (Nat.le_of_ble_eq_true rfl) (Nat.le_of_ble_eq_true rfl) (Nat.le_of_ble_eq_true rfl) dX3_trade_184 fun _ σ => ?_
      refine g_iload_n 1 dX3_trade_187 rfl rfl ?_
      exact g_iret rfl dX3_trade_188
  · refine g_bipush (-2) dX3_trade_13 (by decide) ?_
    exact g_iret rfl dX3_trade_15
theorem dd_X3_trade : yX3_trade.cls ≠ "java/lang/invoke/MethodHandle" ∧ yX3_trade.cls ≠ "java/lang/invoke/VarHandle" ∧ (parseMethodDescriptor yX3_trade.desc).map (fun d => d.parameters.length) = some 0 := by decide +kernel
theorem dv_X3_trade : yX3_trade.cls = RX3 ∧ yX3_trade.cls ≠ "java/lang/invoke/MethodHandle" ∧ yX3_trade.cls ≠ "java/lang/invoke/VarHandle" ∧ (parseMethodDescriptor yX3_trade.desc).map (fun d => d.parameters.length) = some 0 := ⟨rfl, dd_X3_trade⟩
/-! RockingHorseModel.layMay(I)V -/
abbrev mi_X3_layMay : Mi := (cX3_layMay, 4, "RockingHorseModel", 205, none, "layMay")
def f_X3_layMay_b58 (v0 : Option Nat) (v2 : Int32) (k0 : Unit → Hp → Option (Unit × Hp)) (ag : Int32 → Hp → Option (Unit × Hp)) (a : Int32) (σ : Hp) : Option (Unit × Hp) :=
  if 8 ≤ a then
    k0 () σ
  else
    gR 2 36 σ v0 fun y8 =>
    gR 2 0 σ v0 fun y9 =>
    ob 2 σ v0 fun _ => bnd (f_X3_hardOf v0 y9 v2 a σ) fun x10 σ =>
    sI σ y8 ((8 * v2) + a) x10 fun σ =>
    ag (a + 1) σ
def f_X3_layMay_b2 (v0 : Option Nat) (v1 : Int32) (k0 : Unit → Hp → Option (Unit × Hp)) (ag : Int32 → Hp → Option (Unit × Hp)) (a : Int32) (σ : Hp) : Option (Unit × Hp) :=
  gI 2 3 σ v0 fun x1 =>
  if x1 ≤ a then
    k0 () σ
  else
    gR 2 32 σ v0 fun y2 =>
    gR 2 0 σ v0 fun y3 =>
    lI 100 σ y3 (16 + a) fun x4 =>
    jn (fun (a5 : Int32) σ =>
        sI σ y2 a a5 fun σ =>
        gR 2 33 σ v0 fun y7 =>
        sI σ y7 a 0 fun σ =>
        lp 2000 (f_X3_layMay_b58 v0 a (fun (a11 : Unit) σ =>
            ag (a + 1) σ)) 0 σ) fun j6 =>
    if x4 = 1 then
      j6 0 σ
    else
      if a = v1 then
        j6 0 σ
      else
        gR 2 6 σ v0 fun y12 =>
        lI 100 σ y12 a fun x13 =>
        ob 2 σ v0 fun _ => bnd (f_X3_night v0 σ) fun x14 σ =>
        j6 (x13 &&& x14) σ
def f_X3_layMay (v0 : Option Nat) (v1 : Int32) (σ : Hp) : Option (Unit × Hp) :=
  lp 2000 (f_X3_layMay_b2 v0 v1 (fun (a15 : Unit) σ =>
      some ((), σ))) 0 σ
theorem ok_X3_layMay_b58 (X : Mx) (v0 : Option Nat) (v2 : Int32) (v1 : Int32) {k0 : Unit → Hp → Option (Unit × Hp)} (hk0 : ∀ (a : Unit) (σ : Hp), GG X mi_X3_layMay (QM X rV) 91 [(0, vA v0), (1, vI v1), (2, vI v2)] [] σ (k0 a σ)) : ∀ (m : Nat) (a : Int32) (σ : Hp), GG X mi_X3_layMay (QM X rV) 58 [(0, vA v0), (1, vI v1), (2, vI v2), (3, vI a)] [] σ (lp m (f_X3_layMay_b58 v0 v2 k0) a σ) := by
  refine g_lp (fun (a : Int32) => [(0, vA v0), (1, vI v1), (2, vI v2), (3, vI a)]) ?_
  intro ag hag a σ
  unfold f_X3_layMay_b58
  refine g_iload_n 3 dX3_layMay_58 rfl rfl ?_
  refine g_bipush 8 dX3_layMay_59 (by decide) ?_
  refine g_icmp_ge 91 dX3_layMay_61 (by decide) ?_ ?_
  · exact g_jmp (hk0 _ _) rfl
  · refine g_aload_n 0 dX3_layMay_64 rfl rfl ?_
    refine g_getR fo_2_36 q1092 dX3_layMay_65 fun y8 => ?_
    refine g_bipush 8 dX3_layMay_68 (by decide) ?_
    refine g_iload_n 2 dX3_layMay_70 rfl rfl ?_
    refine g_imul dX3_layMay_71 ?_
    refine g_iload_n 3 dX3_layMay_72 rfl rfl ?_
    refine g_iadd dX3_layMay_73 ?_
    refine g_aload_n 0 dX3_layMay_74 rfl rfl ?_
    refine g_aload_n 0 dX3_layMay_75 rfl rfl ?_
    refine g_getR fo_2_0 q1056 dX3_layMay_76 fun y9 => ?_
    refine g_iload_n 2 dX3_layMay_79 rfl rfl ?_
    refine g_iload_n 3 dX3_layMay_80 rfl rfl ?_
    refine g_callV_I (mm_X3_hardOf _ _ _ _ _) rfl zc_2 q1324 q1326 qs69 q109 q1327 dv_X3_hardOf rfl (Nat.le_of_ble_eq_true rfl) (Nat.le_of_ble_eq_true rfl) (Nat.le_of_ble_eq_true rfl) dX3_layMay_81 fun x10 σ => ?_
    refine g_iastore dX3_layMay_84 fun σ => ?_
    refine g_iinc 1 dX3_layMay_85 (by decide) rfl (lt_b rfl) ?_
    refine g_goto 58 dX3_layMay_88 (by decide) ?_
    exact g_jmp (hag _ _) rfl
theorem ok_X3_layMay_b2 (X : Mx) (v0 : Option Nat) (v1 : Int32) {k0 : Unit → Hp → Option (Unit × Hp)} (hk0 : ∀ (a : Unit) (σ : Hp), GG X mi_X3_layMay (QM X rV) 97 [] [] σ (k0 a σ)) : ∀ (m : Nat) (a : Int32) (σ : Hp), GG X mi_X3_layMay (QM X rV) 2 [(0, vA v0), (1, vI v1), (2, vI a)] [] σ (lp m (f_X3_layMay_b2 v0 v1 k0) a σ) := by
  refine g_lp (fun (a : Int32) => [(0, vA v0), (1, vI v1), (2, vI a)]) ?_
  intro ag hag a σ
  unfold f_X3_layMay_b2
  refine g_iload_n 2 dX3_layMay_2 rfl rfl ?_
  refine g_aload_n 0 dX3_layMay_3 rfl rfl ?_
  refine g_getI fo_2_3 (by decide) q1059 dX3_layMay_4 fun x1 => ?_
  refine g_icmp_ge 97 dX3_layMay_7 (by decide) ?_ ?_
  · exact g_jmp (hk0 _ _) rfl
  · refine g_aload_n 0 dX3_layMay_10 rfl rfl ?_
    refine g_getR fo_2_32 q1088 dX3_layMay_11 fun y2 => ?_
    refine g_iload_n 2 dX3_layMay_14 rfl rfl ?_
    refine g_aload_n 0 dX3_layMay_15 rfl rfl ?_
    refine g_getR fo_2_0 q1056 dX3_layMay_16 fun y3 => ?_
    refine g_bipush 16 dX3_layMay_19 (by decide) ?_
    refine g_iload_n 2 dX3_layMay_21 rfl rfl ?_
    refine g_iadd dX3_layMay_22 ?_
    refine g_iaload dX3_layMay_23 fun x4 => ?_
    refine g_iconst 1 dX3_layMay_24 (by decide) ?_
    refine g_jn (fun j6 => ∀ (a5 : Int32) (σ : Hp), GG X mi_X3_layMay (QM X rV) 48 [(0, vA v0), (1, vI v1), (2, vI a)] [vI a5, vI a, vA y2] σ (j6 a5 σ)) ?_ ?_
    · intro a5 σ
      refine g_iastore dX3_layMay_48 fun σ => ?_
      refine g_aload_n 0 dX3_layMay_49 rfl rfl ?_
      refine g_getR fo_2_33 q1089 dX3_layMay_50 fun y7 => ?_
      refine g_iload_n 2 dX3_layMay_53 rfl rfl ?_
      refine g_iconst 0 dX3_layMay_54 (by decide) ?_
      refine g_iastore dX3_layMay_55 fun σ => ?_
      refine g_iconst 0 dX3_layMay_56 (by decide) ?_
      refine g_istore_n 3 dX3_layMay_57 rfl (lt_b rfl) ?_
      refine g_jmp (ok_X3_layMay_b58 X v0 a v1 ?_ _ _ _) rfl
      · intro a11 σ
        refine g_iinc 1 dX3_layMay_91 (by decide) rfl (lt_b rfl) ?_
        refine g_goto 2 dX3_layMay_94 (by decide) ?_
        exact g_jmp (hag _ _) rfl
    · intro j6 hj6
      refine g_icmp_eq 33 dX3_layMay_25 (by decide) ?_ ?_
      · refine g_iconst 0 dX3_layMay_33 (by decide) ?_
        refine g_goto 48 dX3_layMay_34 (by decide) ?_
        exact g_jmp (hj6 _ _) rfl
      · refine g_iload_n 2 dX3_layMay_28 rfl rfl ?_
        refine g_iload_n 1 dX3_layMay_29 rfl rfl ?_
        refine g_icmp_ne 37 dX3_layMay_30 (by decide) ?_ ?_
        · refine g_aload_n 0 dX3_layMay_37 rfl rfl ?_
          refine g_getR fo_2_6 q1062 dX3_layMay_38 fun y12 => ?_
          refine g_iload_n 2 dX3_layMay_41 rfl rfl ?_
          refine g_iaload dX3_layMay_42 fun x13 => ?_
          refine g_aload_n 0 dX3_layMay_43 rfl rfl ?_
          refine g_callV_I (mm_X3_night _ _) rfl zc_2 q1447 q1449 qs83 q109 q1450 dv_X3_night rfl (Nat.le_of_ble_eq_true rfl) (Nat.le_of_ble_eq_true rfl) (Nat.le_of_ble_eq_true rfl) dX3_layMay_44 fun x14 σ => ?_
          refine g_iand dX3_layMay_47 ?_
          exact g_jmp (hj6 _ _) rfl
        · refine g_iconst 0 dX3_layMay_33 (by decide) ?_
          refine g_goto 48 dX3_layMay_34 (by decide) ?_
          exact g_jmp (hj6 _ _) rfl
theorem mm_X3_layMay (v0 : Option Nat) (v1 : Int32) (σ : Hp) : MM yX3_layMay mi_X3_layMay rV [vA v0, vI v1] σ (f_X3_layMay v0 v1 σ) := by
  refine mm_of (by decide +kernel) rfl rfl (Nat.le_of_ble_eq_true rfl) ?_
  intro X
  unfold f_X3_layMay
  refine g_iconst 0 dX3_layMay_0 (by decide) ?_
  refine g_istore_n 2 dX3_layMay_1 rfl (lt_b rfl) ?_
  refine g_jmp (ok_X3_layMay_b2 X v0 v1 ?_ _ _ _) rfl
  · intro a15 σ
    exact g_vret rfl dX3_layMay_97
theorem dd_X3_layMay : yX3_layMay.cls ≠ "java/lang/invoke/MethodHandle" ∧ yX3_layMay.cls ≠ "java/lang/invoke/VarHandle" ∧ (parseMethodDescriptor yX3_layMay.desc).map (fun d => d.parameters.length) = some 1 := by decide +kernel
theorem dv_X3_layMay : yX3_layMay.cls = RX3 ∧ yX3_layMay.cls ≠ "java/lang/invoke/MethodHandle" ∧ yX3_layMay.cls ≠ "java/lang/invoke/VarHandle" ∧ (parseMethodDescriptor yX3_layMay.desc).map (fun d => d.parameters.length) = some 1 := ⟨rfl, dd_X3_layMay⟩
/-! RockingHorseModel.solve(I)I -/
abbrev mi_X3_solve : Mi := (cX3_solve, 8, "RockingHorseModel", 3, some .int, "solve")
def f_X3_solve_b2 (v0 : Option Nat) (k0 : Unit → Hp → Option (Int32 × Hp)) (ag : Int32 → Hp → Option (Int32 × Hp)) (a : Int32) (σ : Hp) : Option (Int32 × Hp) :=
  ob 2 σ v0 fun _ => bnd (f_X3_night v0 σ) fun x1 σ =>
  if x1 < a then
    k0 () σ
  else
    gR 2 37 σ v0 fun y2 =>
    gI 2 3 σ v0 fun x3 =>
    jn (fun (a4 : Int32) σ =>
        sI σ y2 ((shl x3 8) ||| a) a4 fun σ =>
        ag (a + 1) σ) fun j5 =>
    if a = 0 then
      j5 0 σ
    else
      j5 1000000000 σ
def f_X3_solve_b53 (v0 : Option Nat) (v2 : Int32) (k0 : Unit → Hp → Option (Int32 × Hp)) (ag : Int32 → Hp → Option (Int32 × Hp)) (a : Int32) (σ : Hp) : Option (Int32 × Hp) :=
  ob 2 σ v0 fun _ => bnd (f_X3_night v0 σ) fun x8 σ =>
  if x8 < a then
    k0 () σ
  else
    gR 2 37 σ v0 fun y9 =>
    sI σ y9 ((shl v2 8) ||| a) 1000000000 fun σ =>
    ag (a + 1) σ
def f_X3_solve_b126 (v0 : Option Nat) (v2 : Int32) (v3 : Int32) (v4 : Int32) (v5 : Int32) (k0 : Unit → Hp → Option (Int32 × Hp)) (ag : Int32 → Hp → Option (Int32 × Hp)) (a : Int32) (σ : Hp) : Option (Int32 × Hp) :=
  if a < 0 then
    k0 () σ
  else
    gR 2 37 σ v0 fun y22 =>
    lI 100 σ y22 ((shl (v2 + 1) 8) ||| a) fun x23 =>
    jn (fun (a24 : Unit) σ =>
        jn (fun (a26 : Int32) σ =>
            ag a26 σ) fun j27 =>
        if a = 0 then
          j27 (-1) σ
        else
          j27 ((a - 1) &&& v5) σ) fun j25 =>
    if 1000000000 ≤ x23 then
      j25 () σ
    else
      gR 2 37 σ v0 fun y28 =>
      gR 2 37 σ v0 fun y29 =>
      lI 100 σ y29 (((shl v2 8) ||| a) ||| v3) fun x30 =>
      sI σ y28 (((shl v2 8) ||| a) ||| v3) (imin x30 (x23 + v4)) fun σ =>
      j25 () σ
def f_X3_solve_b87 (v0 : Option Nat) (v1 : Int32) (v2 : Int32) (k0 : Unit → Hp → Option (Int32 × Hp)) (ag : Int32 → Hp → Option (Int32 × Hp)) (a : Int32) (σ : Hp) : Option (Int32 × Hp) :=
  if a < 0 then
    k0 () σ
  else
    ob 2 σ v0 fun _ => bnd (f_X3_canTake v0 v2 a σ) fun x13 σ =>
    jn (fun (a14 : Unit) σ =>
        jn (fun (a16 : Int32) σ =>
            ag a16 σ) fun j17 =>
        if a = 0 then
          j17 (-1) σ
        else
          gR 2 32 σ v0 fun y18 =>
          lI 100 σ y18 v2 fun x19 =>
          j17 ((a - 1) &&& x19) σ) fun j15 =>
    if x13 = 0 then
      j15 () σ
    else
      ob 2 σ v0 fun _ => bnd (f_X3_costOf v0 v1 v2 a σ) fun x20 σ =>
      ob 2 σ v0 fun _ => bnd (f_X3_night v0 σ) fun x21 σ =>
      lp 2000 (f_X3_solve_b126 v0 v2 a x20 (x21 &&& (a ^^^ (-1))) (fun (a31 : Unit) σ =>
          j15 () σ)) (x21 &&& (a ^^^ (-1))) σ
def f_X3_solve_b47 (v0 : Option Nat) (v1 : Int32) (k0 : Unit → Hp → Option (Int32 × Hp)) (ag : Int32 → Hp → Option (Int32 × Hp)) (a : Int32) (σ : Hp) : Option (Int32 × Hp) :=
  if a < 0 then
    k0 () σ
  else
    lp 2000 (f_X3_solve_b53 v0 a (fun (a10 : Unit) σ =>
        gR 2 32 σ v0 fun y11 =>
        lI 100 σ y11 a fun x12 =>
        lp 2000 (f_X3_solve_b87 v0 v1 a (fun (a32 : Unit) σ =>
            ag (a + (-1)) σ)) x12 σ)) 0 σ
def f_X3_solve (v0 : Option Nat) (v1 : Int32) (σ : Hp) : Option (Int32 × Hp) :=
  lp 2000 (f_X3_solve_b2 v0 (fun (a6 : Unit) σ =>
      gI 2 3 σ v0 fun x7 =>
      lp 2000 (f_X3_solve_b47 v0 v1 (fun (a33 : Unit) σ =>
          gR 2 37 σ v0 fun y34 =>
          ob 2 σ v0 fun _ => bnd (f_X3_night v0 σ) fun x35 σ =>
          lI 100 σ y34 x35 fun x36 =>
          some (x36, σ))) (x7 - 1) σ)) 0 σ
theorem ok_X3_solve_b2 (X : Mx) (v0 : Option Nat) (v1 : Int32) {k0 : Unit → Hp → Option (Int32 × Hp)} (hk0 : ∀ (a : Unit) (σ : Hp), GG X mi_X3_solve (QM X rI) 40 [(0, vA v0), (1, vI v1)] [] σ (k0 a σ)) : ∀ (m : Nat) (a : Int32) (σ : Hp), GG X mi_X3_solve (QM X rI) 2 [(0, vA v0), (1, vI v1), (2, vI a)] [] σ (lp m (f_X3_solve_b2 v0 k0) a σ) := by
  refine g_lp (fun (a : Int32) => [(0, vA v0), (1, vI v1), (2, vI a)]) ?_
  intro ag hag a σ
  unfold f_X3_solve_b2
  refine g_iload_n 2 dX3_solve_2 rfl rfl ?_
  refine g_aload_n 0 dX3_solve_3 rfl rfl ?_
  refine g_callV_I (mm_X3_night _ _) rfl zc_2 q1447 q1449 qs83 q109 q1450 dv_X3_night rfl (Nat.le_of_ble_eq_true rfl) (Nat.le_of_ble_eq_true rfl) (Nat.le_of_ble_eq_true rfl) dX3_solve_4 fun x1 σ => ?_
  refine g_icmp_gt 40 dX3_solve_7 (by decide) ?_ ?_
  · exact g_jmp (hk0 _ _) rfl
  · refine g_aload_n 0 dX3_solve_10 rfl rfl ?_
    refine g_getR fo_2_37 q1093 dX3_solve_11 fun y2 => ?_
    refine g_aload_n 0 dX3_solve_14 rfl rfl ?_
    refine g_getI fo_2_3 (by decide) q1059 dX3_solve_15 fun x3 => ?_
    refine g_bipush 8 dX3_solve_18 (by decide) ?_
    refine g_ishl dX3_solve_20 ?_
    refine g_iload_n 2 dX3_solve_21 rfl rfl ?_
    refine g_ior dX3_solve_22 ?_
    refine g_iload_n 2 dX3_solve_23 rfl rfl ?_
    refine g_jn (fun j5 => ∀ (a4 : Int32) (σ : Hp), GG X mi_X3_solve (QM X rI) 33 [(0, vA v0), (1, vI v1), (2, vI a)] [vI a4, vI ((shl x3 8) ||| a), vA y2] σ (j5 a4 σ)) ?_ ?_
    · intro a4 σ
      refine g_iastore dX3_solve_33 fun σ => ?_
      refine g_iinc 1 dX3_solve_34 (by decide) rfl (lt_b rfl) ?_
      refine g_goto 2 dX3_solve_37 (by decide) ?_
      exact g_jmp (hag _ _) rfl
    · intro j5 hj5
      refine g_if_ne 31 dX3_solve_24 (by decide) ?_ ?_
      · refine g_ldc dX3_solve_31 q1055 ?_
        exact g_jmp (hj5 _ _) rfl
      · refine g_iconst 0 dX3_solve_27 (by decide) ?_
        refine g_goto 33 dX3_solve_28 (by decide) ?_
        exact g_jmp (hj5 _ _) rfl
theorem ok_X3_solve_b53 (X : Mx) (v0 : Option Nat) (v2 : Int32) (v1 : Int32) {k0 : Unit → Hp → Option (Int32 × Hp)} (hk0 : ∀ (a : Unit) (σ : Hp), GG X mi_X3_solve (QM X rI) 80 [(0, vA v0), (1, vI v1), (2, vI v2)] [] σ (k0 a σ)) : ∀ (m : Nat) (a : Int32) (σ : Hp), GG X mi_X3_solve (QM X rI) 53 [(0, vA v0), (1, vI v1), (2, vI v2), (3, vI a)] [] σ (lp m (f_X3_solve_b53 v0 v2 k0) a σ) := by
  refine g_lp (fun (a : Int32) => [(0, vA v0), (1, vI v1), (2, vI v2), (3, vI a)]) ?_
  intro ag hag a σ
  unfold f_X3_solve_b53
  refine g_iload_n 3 dX3_solve_53 rfl rfl ?_
  refine g_aload_n 0 dX3_solve_54 rfl rfl ?_
  refine g_callV_I (mm_X3_night _ _) rfl zc_2 q1447 q1449 qs83 q109 q1450 dv_X3_night rfl (Nat.le_of_ble_eq_true rfl) (Nat.le_of_ble_eq_true rfl) (Nat.le_of_ble_eq_true rfl) dX3_solve_55 fun x8 σ => ?_
  refine g_icmp_gt 80 dX3_solve_58 (by decide) ?_ ?_
  · exact g_jmp (hk0 _ _) rfl
  · refine g_aload_n 0 dX3_solve_61 rfl rfl ?_
    refine g_getR fo_2_37 q1093 dX3_solve_62 fun y9 => ?_
    refine g_iload_n 2 dX3_solve_65 rfl rfl ?_
    refine g_bipush 8 dX3_solve_66 (by decide) ?_
    refine g_ishl dX3_solve_68 ?_
    refine g_iload_n 3 dX3_solve_69 rfl rfl ?_
    refine g_ior dX3_solve_70 ?_
    refine g_ldc dX3_solve_71 q1055 ?_
    refine g_iastore dX3_solve_73 fun σ => ?_
    refine g_iinc 1 dX3_solve_74 (by decide) rfl (lt_b rfl) ?_
    refine g_goto 53 dX3_solve_77 (by decide) ?_
    exact g_jmp (hag _ _) rfl
theorem ok_X3_solve_b126 (X : Mx) (v0 : Option Nat) (v2 : Int32) (v3 : Int32) (v4 : Int32) (v5 : Int32) (v1 : Int32) {k0 : Unit → Hp → Option (Int32 × Hp)} (hk0 : ∀ (a : Unit) (σ : Hp), GG X mi_X3_solve (QM X rI) 211 [(0, vA v0), (1, vI v1), (2, vI v2), (3, vI v3)] [] σ (k0 a σ)) : ∀ (m : Nat) (a : Int32) (σ : Hp), GG X mi_X3_solve (QM X rI) 126 [(0, vA v0), (1, vI v1), (2, vI v2), (3, vI v3), (4, vI v4), (5, vI v5), (6, vI a)] [] σ (lp m (f_X3_solve_b126 v0 v2 v3 v4 v5 k0) a σ) := by
  refine g_lp (fun (a : Int32) => [(0, vA v0), (1, vI v1), (2, vI v2), (3, vI v3), (4, vI v4), (5, vI v5), (6, vI a)]) ?_
  intro ag hag a σ
  unfold f_X3_solve_b126
  refine g_iload dX3_solve_126 rfl ?_
  refine g_if_lt 211 dX3_solve_128 (by decide) ?_ ?_
  · exact g_jmp (hk0 _ _) rfl
  · refine g_aload_n 0 dX3_solve_131 rfl rfl ?_
    refine g_getR fo_2_37 q1093 dX3_solve_132 fun y22 => ?_
    refine g_iload_n 2 dX3_solve_135 rfl rfl ?_
    refine g_iconst 1 dX3_solve_136 (by decide) ?_
    refine g_iadd dX3_solve_137 ?_
    refine g_bipush 8 dX3_solve_138 (by decide) ?_
    refine g_ishl dX3_solve_140 ?_
    refine g_iload dX3_solve_141 rfl ?_
    refine g_ior dX3_solve_143 ?_
    refine g_iaload dX3_solve_144 fun x23 => ?_
    refine g_istore dX3_solve_145 (lt_b rfl) ?_
    refine g_iload dX3_solve_147 rfl ?_
    refine g_ldc dX3_solve_149 q1055 ?_
    refine g_jn (fun j25 => ∀ (a24 : Unit) (σ : Hp), GG X mi_X3_solve (QM X rI) 190 [(0, vA v0), (1, vI v1), (2, vI v2), (3, vI v3), (4, vI v4), (5, vI v5), (6, vI a)] [] σ (j25 a24 σ)) ?_ ?_
    · intro a24 σ
      refine g_iload dX3_solve_190 rfl ?_
      refine g_jn (fun j27 => ∀ (a26 : Int32) (σ : Hp), GG X mi_X3_solve (QM X rI) 206 [(0, vA v0), (1, vI v1), (2, vI v2), (3, vI v3), (4, vI v4), (5, vI v5)] [vI a26] σ (j27 a26 σ)) ?_ ?_
      · intro a26 σ
        refine g_istore dX3_solve_206 (lt_b rfl) ?_
        refine g_goto 126 dX3_solve_208 (by decide) ?_
        exact g_jmp (hag _ _) rfl
      · intro j27 hj27
        refine g_if_ne 199 dX3_solve_192 (by decide) ?_ ?_
        · refine g_iload dX3_solve_199 rfl ?_
          refine g_iconst 1 dX3_solve_201 (by decide) ?_
          refine g_isub dX3_solve_202 ?_
          refine g_iload dX3_solve_203 rfl ?_
          refine g_iand dX3_solve_205 ?_
          exact g_jmp (hj27 _ _) rfl
        · refine g_iconst (-1) dX3_solve_195 (by decide) ?_
          refine g_goto 206 dX3_solve_196 (by decide) ?_
          exact g_jmp (hj27 _ _) rfl
    · intro j25 hj25
      refine g_icmp_ge 190 dX3_solve_151 (by decide) ?_ ?_
      · exact g_jmp (hj25 _ _) rfl
      · refine g_aload_n 0 dX3_solve_154 rfl rfl ?_
        refine g_getR fo_2_37 q1093 dX3_solve_155 fun y28 => ?_
        refine g_iload_n 2 dX3_solve_158 rfl rfl ?_
        refine g_bipush 8 dX3_solve_159 (by decide) ?_
        refine g_ishl dX3_solve_161 ?_
        refine g_iload dX3_solve_162 rfl ?_
        refine g_ior dX3_solve_164 ?_
        refine g_iload_n 3 dX3_solve_165 rfl rfl ?_
        refine g_ior dX3_solve_166 ?_
        refine g_aload_n 0 dX3_solve_167 rfl rfl ?_
        refine g_getR fo_2_37 q1093 dX3_solve_168 fun y29 => ?_
        refine g_iload_n 2 dX3_solve_171 rfl rfl ?_
        refine g_bipush 8 dX3_solve_172 (by decide) ?_
        refine g_ishl dX3_solve_174 ?_
        refine g_iload dX3_solve_175 rfl ?_
        refine g_ior dX3_solve_177 ?_
        refine g_iload_n 3 dX3_solve_178 rfl rfl ?_
        refine g_ior dX3_solve_179 ?_
        refine g_iaload dX3_solve_180 fun x30 => ?_
        refine g_iload dX3_solve_181 rfl ?_
        refine g_iload dX3_solve_183 rfl ?_
        refine g_iadd dX3_solve_185 ?_
        refine g_mmin q1329 (by decide) (Nat.le_of_ble_eq_true rfl) dX3_solve_186 ?_
        refine g_iastore dX3_solve_189 fun σ => ?_
        exact g_jmp (hj25 _ _) rfl
theorem ok_X3_solve_b87 (X : Mx) (v0 : Option Nat) (v1 : Int32) (v2 : Int32) {k0 : Unit → Hp → Option (Int32 × Hp)} (hk0 : ∀ (a : Unit) (σ : Hp), GG X mi_X3_solve (QM X rI) 233 [(0, vA v0), (1, vI v1), (2, vI v2)] [] σ (k0 a σ)) : ∀ (m : Nat) (a : Int32) (σ : Hp), GG X mi_X3_solve (QM X rI) 87 [(0, vA v0), (1, vI v1), (2, vI v2), (3, vI a)] [] σ (lp m (f_X3_solve_b87 v0 v1 v2 k0) a σ) := by
  refine g_lp (fun (a : Int32) => [(0, vA v0), (1, vI v1), (2, vI v2), (3, vI a)]) ?_
  intro ag hag a σ
  unfold f_X3_solve_b87
  refine g_iload_n 3 dX3_solve_87 rfl rfl ?_
  refine g_if_lt 233 dX3_solve_88 (by decide) ?_ ?_
  · exact g_jmp (hk0 _ _) rfl
  · refine g_aload_n 0 dX3_solve_91 rfl rfl ?_
    refine g_iload_n 2 dX3_solve_92 rfl rfl ?_
    refine g_iload_n 3 dX3_solve_93 rfl rfl ?_
    refine g_callV_I (mm_X3_canTake _ _ _ _) rfl zc_2 q1455 q1457 qs85 q109 q1458 dv_X3_canTake rfl (Nat.le_of_ble_eq_true rfl) (Nat.le_of_ble_eq_true rfl) (Nat.le_of_ble_eq_true rfl) dX3_solve_94 fun x13 σ => ?_
    refine g_jn (fun j15 => ∀ (a14 : Unit) (σ : Hp), GG X mi_X3_solve (QM X rI) 211 [(0, vA v0), (1, vI v1), (2, vI v2), (3, vI a)] [] σ (j15 a14 σ)) ?_ ?_
    · intro a14 σ
      refine g_iload_n 3 dX3_solve_211 rfl rfl ?_
      refine g_jn (fun j17 => ∀ (a16 : Int32) (σ : Hp), GG X mi_X3_solve (QM X rI) 229 [(0, vA v0), (1, vI v1), (2, vI v2)] [vI a16] σ (j17 a16 σ)) ?_ ?_
      · intro a16 σ
        refine g_istore_n 3 dX3_solve_229 rfl (lt_b rfl) ?_
        refine g_goto 87 dX3_solve_230 (by decide) ?_
        exact g_jmp (hag _ _) rfl
      · intro j17 hj17
        refine g_if_ne 219 dX3_solve_212 (by decide) ?_ ?_
        · refine g_iload_n 3 dX3_solve_219 rfl rfl ?_
          refine g_iconst 1 dX3_solve_220 (by decide) ?_
          refine g_isub dX3_solve_221 ?_
          refine g_aload_n 0 dX3_solve_222 rfl rfl ?_
          refine g_getR fo_2_32 q1088 dX3_solve_223 fun y18 => ?_
          refine g_iload_n 2 dX3_solve_226 rfl rfl ?_
          refine g_iaload dX3_solve_227 fun x19 => ?_
          refine g_iand dX3_solve_228 ?_
          exact g_jmp (hj17 _ _) rfl
        · refine g_iconst (-1) dX3_solve_215 (by decide) ?_
          refine g_goto 229 dX3_solve_216 (by decide) ?_
          exact g_jmp (hj17 _ _) rfl
    · intro j15 hj15
      refine g_if_ne 103 dX3_solve_97 (by decide) ?_ ?_
      · refine g_aload_n 0 dX3_solve_103 rfl rfl ?_
        refine g_iload_n 1 dX3_solve_104 rfl rfl ?_
        refine g_iload_n 2 dX3_solve_105 rfl rfl ?_
        refine g_iload_n 3 dX3_solve_106 rfl rfl ?_
        refine g_callV_I (mm_X3_costOf _ _ _ _ _) rfl zc_2 q1463 q1465 qs87 q109 q1466 dv_X3_costOf rfl (Nat.le_of_ble_eq_true rfl) (Nat.le_of_ble_eq_true rfl) (Nat.le_of_ble_eq_true rfl) dX3_solve_107 fun x20 σ => ?_
        refine g_istore dX3_solve_110 (lt_b rfl) ?_
        refine g_aload_n 0 dX3_solve_112 rfl rfl ?_
        refine g_callV_I (mm_X3_night _ _) rfl zc_2 q1447 q1449 qs83 q109 q1450 dv_X3_night rfl (Nat.le_of_ble_eq_true rfl) (Nat.le_of_ble_eq_true rfl) (Nat.le_of_ble_eq_true rfl) dX3_solve_113 fun x21 σ => ?_
        refine g_iload_n 3 dX3_solve_116 rfl rfl ?_
        refine g_iconst (-1) dX3_solve_117 (by decide) ?_
        refine g_ixor dX3_solve_118 ?_
        refine g_iand dX3_solve_119 ?_
        refine g_istore dX3_solve_120 (lt_b rfl) ?_
        refine g_iload dX3_solve_122 rfl ?_
        refine g_istore dX3_solve_124 (lt_b rfl) ?_
        refine g_jmp (ok_X3_solve_b126 X v0 v2 a x20 (x21 &&& (a ^^^ (-1))) v1 ?_ _ _ _) rfl
        · intro a31 σ
          exact g_jmp (hj15 _ _) rfl
      · refine g_goto 211 dX3_solve_100 (by decide) ?_
        exact g_jmp (hj15 _ _) rfl
theorem ok_X3_solve_b47 (X : Mx) (v0 : Option Nat) (v1 : Int32) {k0 : Unit → Hp → Option (Int32 × Hp)} (hk0 : ∀ (a : Unit) (σ : Hp), GG X mi_X3_solve (QM X rI) 239 [(0, vA v0)] [] σ (k0 a σ)) : ∀ (m : Nat) (a : Int32) (σ : Hp), GG X mi_X3_solve (QM X rI) 47 [(0, vA v0), (1, vI v1), (2, vI a)] [] σ (lp m (f_X3_solve_b47 v0 v1 k0) a σ) := by
  refine g_lp (fun (a : Int32) => [(0, vA v0), (1, vI v1), (2, vI a)]) ?_
  intro ag hag a σ
  unfold f_X3_solve_b47
  refine g_iload_n 2 dX3_solve_47 rfl rfl ?_
  refine g_if_lt 239 dX3_solve_48 (by decide) ?_ ?_
  · exact g_jmp (hk0 _ _) rfl
  · refine g_iconst 0 dX3_solve_51 (by decide) ?_
    refine g_istore_n 3 dX3_solve_52 rfl (lt_b rfl) ?_
    refine g_jmp (ok_X3_solve_b53 X v0 a v1 ?_ _ _ _) rfl
    · intro a10 σ
      refine g_aload_n 0 dX3_solve_80 rfl rfl ?_
      refine g_getR fo_2_32 q1088 dX3_solve_81 fun y11 => ?_
      refine g_iload_n 2 dX3_solve_84 rfl rfl ?_
      refine g_iaload dX3_solve_85 fun x12 => ?_
      refine g_istore_n 3 dX3_solve_86 rfl (lt_b rfl) ?_
      refine g_jmp (ok_X3_solve_b87 X v0 v1 a ?_ _ _ _) rfl
      · intro a32 σ
        refine g_iinc (-1) dX3_solve_233 (by decide) rfl (lt_b rfl) ?_
        refine g_goto 47 dX3_solve_236 (by decide) ?_
        exact g_jmp (hag _ _) rfl
theorem mm_X3_solve (v0 : Option Nat) (v1 : Int32) (σ : Hp) : MM yX3_solve mi_X3_solve rI [vA v0, vI v1] σ (f_X3_solve v0 v1 σ) := by
  refine mm_of (by decide +kernel) rfl rfl (Nat.le_of_ble_eq_true rfl) ?_
  intro X
  unfold f_X3_solve
  refine g_iconst 0 dX3_solve_0 (by decide) ?_
  refine g_istore_n 2 dX3_solve_1 rfl (lt_b rfl) ?_
  refine g_jmp (ok_X3_solve_b2 X v0 v1 ?_ _ _ _) rfl
  · intro a6 σ
    refine g_aload_n 0 dX3_solve_40 rfl rfl ?_
    refine g_getI fo_2_3 (by decide) q1059 dX3_solve_41 fun x7 => ?_
    refine g_iconst 1 dX3_solve_44 (by decide) ?_
    refine g_isub dX3_solve_45 ?_
    refine g_istore_n 2 dX3_solve_46 rfl (lt_b rfl) ?_
    refine g_jmp (ok_X3_solve_b47 X v0 v1 ?_ _ _ _) rfl
    · intro a33 σ
      refine g_aload_n 0 dX3_solve_239 rfl rfl ?_
      refine g_getR fo_2_37 q1093 dX3_solve_240 fun y34 => ?_
      refine g_aload_n 0 dX3_solve_243 rfl rfl ?_
      refine g_callV_I (mm_X3_night _ _) rfl zc_2 q1447 q1449 qs83 q109 q1450 dv_X3_night rfl (Nat.le_of_ble_eq_true rfl) (Nat.le_of_ble_eq_true rfl) (Nat.le_of_ble_eq_true rfl) dX3_solve_244 fun x35 σ => ?_
      refine g_iaload dX3_solve_247 fun x36 => ?_
      exact g_iret rfl dX3_solve_248
theorem dd_X3_solve : yX3_solve.cls ≠ "java/lang/invoke/MethodHandle" ∧ yX3_solve.cls ≠ "java/lang/invoke/VarHandle" ∧ (parseMethodDescriptor yX3_solve.desc).map (fun d => d.parameters.length) = some 1 := by decide +kernel
theorem dv_X3_solve : yX3_solve.cls = RX3 ∧ yX3_solve.cls ≠ "java/lang/invoke/MethodHandle" ∧ yX3_solve.cls ≠ "java/lang/invoke/VarHandle" ∧ (parseMethodDescriptor yX3_solve.desc).map (fun d => d.parameters.length) = some 1 := ⟨rfl, dd_X3_solve⟩
/-! RockingHorseModel.layLine(II)V -/
abbrev mi_X3_layLine : Mi := (cX3_layLine, 6, "RockingHorseModel", 4, none, "layLine")
def f_X3_layLine_b16 (v0 : Option Nat) (v1 : Int32) (v2 : Int32) (v3 : Int32) (k0 : Unit → Hp → Option (Unit × Hp)) (ag : (Int32 × Int32) → Hp → Option (Unit × Hp)) (a : Int32 × Int32) (σ : Hp) : Option (Unit × Hp) :=
  gI 2 3 σ v0 fun x2 =>
  if x2 ≤ a.2 then
    k0 () σ
  else
    if a.1 = 0 then
      gR 2 32 σ v0 fun y3 =>
      lI 100 σ y3 a.2 fun x4 =>
      bnd (f_X3_has x4 v3 σ) fun x5 σ =>
      jn (fun (a6 : Int32) σ =>
          ag (a6, (a.2 + 1)) σ) fun j7 =>
      if x5 = 0 then
        j7 a.1 σ
      else
        ob 2 σ v0 fun _ => bnd (f_X3_keepMay v0 σ) fun _ σ =>
        ob 2 σ v0 fun _ => bnd (f_X3_fix v0 v3 a.2 σ) fun _ σ =>
        ob 2 σ v0 fun _ => bnd (f_X3_areRight v0 a.2 σ) fun x8 σ =>
        jn (fun (a9 : Int32) σ =>
            if a9 = 0 then
              ob 2 σ v0 fun _ => bnd (f_X3_bringMay v0 σ) fun _ σ =>
              j7 a9 σ
            else
              gR 2 40 σ v0 fun y11 =>
              sI σ y11 v3 a.2 fun σ =>
              j7 a9 σ) fun j10 =>
        if x8 = 0 then
          j10 0 σ
        else
          ob 2 σ v0 fun _ => bnd (f_X3_solve v0 v1 σ) fun x12 σ =>
          if x12 = v2 then
            j10 1 σ
          else
            j10 0 σ
    else
      k0 () σ
def f_X3_layLine_b2 (v0 : Option Nat) (v1 : Int32) (v2 : Int32) (k0 : Unit → Hp → Option (Unit × Hp)) (ag : Int32 → Hp → Option (Unit × Hp)) (a : Int32) (σ : Hp) : Option (Unit × Hp) :=
  gI 2 1 σ v0 fun x1 =>
  if x1 ≤ a then
    k0 () σ
  else
    lp 2000 (f_X3_layLine_b16 v0 v1 v2 a (fun (a13 : Unit) σ =>
        ag (a + 1) σ)) (0, 0) σ
def f_X3_layLine (v0 : Option Nat) (v1 : Int32) (v2 : Int32) (σ : Hp) : Option (Unit × Hp) :=
  lp 2000 (f_X3_layLine_b2 v0 v1 v2 (fun (a14 : Unit) σ =>
      some ((), σ))) 0 σ
theorem ok_X3_layLine_b16 (X : Mx) (v0 : Option Nat) (v1 : Int32) (v2 : Int32) (v3 : Int32) {k0 : Unit → Hp → Option (Unit × Hp)} (hk0 : ∀ (a : Unit) (σ : Hp), GG X mi_X3_layLine (QM X rV) 109 [(0, vA v0), (1, vI v1), (2, vI v2), (3, vI v3)] [] σ (k0 a σ)) : ∀ (m : Nat) (a : Int32 × Int32) (σ : Hp), GG X mi_X3_layLine (QM X rV) 16 [(0, vA v0), (1, vI v1), (2, vI v2), (3, vI v3), (4, vI a.1), (5, vI a.2)] [] σ (lp m (f_X3_layLine_b16 v0 v1 v2 v3 k0) a σ) := by
  refine g_lp (fun (a : Int32 × Int32) => [(0, vA v0), (1, vI v1), (2, vI v2), (3, vI v3), (4, vI a.1), (5, vI a.2)]) ?_
  intro ag hag a σ
  unfold f_X3_layLine_b16
  refine g_iload dX3_layLine_16 rfl ?_
  refine g_aload_n 0 dX3_layLine_18 rfl rfl ?_
  refine g_getI fo_2_3 (by decide) q1059 dX3_layLine_19 fun x2 => ?_
  refine g_icmp_ge 109 dX3_layLine_22 (by decide) ?_ ?_
  · exact g_jmp (hk0 _ _) rfl
  · refine g_iload dX3_layLine_25 rfl ?_
    refine g_if_ne 109 dX3_layLine_27 (by decide) ?_ ?_
    · exact g_jmp (hk0 _ _) rfl
    · refine g_aload_n 0 dX3_layLine_30 rfl rfl ?_
      refine g_getR fo_2_32 q1088 dX3_layLine_31 fun y3 => ?_
      refine g_iload dX3_layLine_34 rfl ?_
      refine g_iaload dX3_layLine_36 fun x4 => ?_
      refine g_iload_n 3 dX3_layLine_37 rfl rfl ?_
      refine g_callS_I (mm_X3_has _ _ _) rfl q1378 q1379 q109 q1380 dd_X3_has rfl (Nat.le_of_ble_eq_true rfl) (Nat.le_of_ble_eq_true rfl) (Nat.le_of_ble_eq_true rfl) dX3_layLine_38 fun x5 σ => ?_
      refine g_jn (fun j7 => ∀ (a6 : Int32) (σ : Hp), GG X mi_X3_layLine (QM X rV) 103 [(0, vA v0), (1, vI v1), (2, vI v2), (3, vI v3), (4, vI a6), (5, vI a.2)] [] σ (j7 a6 σ)) ?_ ?_
      · intro a6 σ
        refine g_iinc 1 dX3_layLine_103 (by decide) rfl (lt_b rfl) ?_
        refine g_goto 16 dX3_layLine_106 (by decide) ?_
        exact g_jmp (hag _ _) rfl
      · intro j7 hj7
        refine g_if_ne 47 dX3_layLine_41 (by decide) ?_ ?_
        · refine g_aload_n 0 dX3_layLine_47 rfl rfl ?_
          refine g_callV_V (mm_X3_keepMay _ _) rfl zc_2 q1471 q1473 qs89 q109 q1474 dv_X3_keepMay rfl (Nat.le_of_ble_eq_true rfl) (Nat.le_of_ble_eq_true rfl) (Nat.le_of_ble_eq_true rfl) dX3_layLine_48 fun _ σ => ?_
          refine g_aload_n 0 dX3_layLine_51 rfl rfl ?_
          refine g_iload_n 3 dX3_layLine_52 rfl rfl ?_
          refine g_iload dX3_layLine_53 rfl ?_
          refine g_callV_V (mm_X3_fix _ _ _ _) rfl zc_2 q1475 q1477 qs90 q109 q1478 dv_X3_fix rfl (Nat.le_of_ble_eq_true rfl) (Nat.le_of_ble_eq_true rfl) (Nat.le_of_ble_eq_true rfl) dX3_layLine_55 fun _ σ => ?_
          refine g_aload_n 0 dX3_layLine_58 rfl rfl ?_
          refine g_iload dX3_layLine_59 rfl ?_
          refine g_callV_I (mm_X3_areRight _ _ _) rfl zc_2 q1479 q1481 qs91 q109 q1482 dv_X3_areRight rfl (Nat.le_of_ble_eq_true rfl) (Nat.le_of_ble_eq_true rfl) (Nat.le_of_ble_eq_true rfl) dX3_layLine_61 fun x8 σ => ?_
          refine g_jn (fun j10 => ∀ (a9 : Int32) (σ : Hp), GG X mi_X3_layLine (QM X rV) 81 [(0, vA v0), (1, vI v1), (2, vI v2), (3, vI v3), (5, vI a.2)] [vI a9] σ (j10 a9 σ)) ?_ ?_
          · intro a9 σ
            refine g_istore dX3_layLine_81 (lt_b rfl) ?_
            refine g_iload dX3_layLine_83 rfl ?_
            refine g_if_eq 99 dX3_layLine_85 (by decide) ?_ ?_
            · refine g_aload_n 0 dX3_layLine_99 rfl rfl ?_
              refine g_callV_V (mm_X3_bringMay _ _) rfl zc_2 q1483 q1485 qs92 q109 q1486 dv_X3_bringMay rfl (Nat.le_of_ble_eq_true rfl) (Nat.le_of_ble_eq_true rfl) (Nat.le_of_ble_eq_true rfl) dX3_layLine_100 fun _ σ => ?_
              exact g_jmp (hj7 _ _) rfl
            · refine g_aload_n 0 dX3_layLine_88 rfl rfl ?_
              refine g_getR fo_2_40 q1096 dX3_layLine_89 fun y11 => ?_
              refine g_iload_n 3 dX3_layLine_92 rfl rfl ?_
              refine g_iload dX3_layLine_93 rfl ?_
              refine g_iastore dX3_layLine_95 fun σ => ?_
              refine g_goto 103 dX3_layLine_96 (by decide) ?_
              exact g_jmp (hj7 _ _) rfl
          · intro j10 hj10
            refine g_if_eq 80 dX3_layLine_64 (by decide) ?_ ?_
            · refine g_iconst 0 dX3_layLine_80 (by decide) ?_
              exact g_jmp (hj10 _ _) rfl
            · refine g_aload_n 0 dX3_layLine_67 rfl rfl ?_
              refine g_iload_n 1 dX3_layLine_68 rfl rfl ?_
              refine g_callV_I (mm_X3_solve _ _ _) rfl zc_2 q1451 q1453 qs84 q109 q1454 dv_X3_solve rfl (Nat.le_of_ble_eq_true rfl) (Nat.le_of_ble_eq_true rfl) (Nat.le_of_ble_eq_true rfl) dX3_layLine_69 fun x12 σ => ?_
              refine g_iload_n 2 dX3_layLine_72 rfl rfl ?_
              refine g_icmp_ne 80 dX3_layLine_73 (by decide) ?_ ?_
              · refine g_iconst 0 dX3_layLine_80 (by decide) ?_
                exact g_jmp (hj10 _ _) rfl
              · refine g_iconst 1 dX3_layLine_76 (by decide) ?_
                refine g_goto 81 dX3_layLine_77 (by decide) ?_
                exact g_jmp (hj10 _ _) rfl
        · refine g_goto 103 dX3_layLine_44 (by decide) ?_
          exact g_jmp (hj7 _ _) rfl
theorem ok_X3_layLine_b2 (X : Mx) (v0 : Option Nat) (v1 : Int32) (v2 : Int32) {k0 : Unit → Hp → Option (Unit × Hp)} (hk0 : ∀ (a : Unit) (σ : Hp), GG X mi_X3_layLine (QM X rV) 115 [] [] σ (k0 a σ)) : ∀ (m : Nat) (a : Int32) (σ : Hp), GG X mi_X3_layLine (QM X rV) 2 [(0, vA v0), (1, vI v1), (2, vI v2), (3, vI a)] [] σ (lp m (f_X3_layLine_b2 v0 v1 v2 k0) a σ) := by
  refine g_lp (fun (a : Int32) => [(0, vA v0), (1, vI v1), (2, vI v2), (3, vI a)]) ?_
  intro ag hag a σ
  unfold f_X3_layLine_b2
  refine g_iload_n 3 dX3_layLine_2 rfl rfl ?_
  refine g_aload_n 0 dX3_layLine_3 rfl rfl ?_
  refine g_getI fo_2_1 (by decide) q1057 dX3_layLine_4 fun x1 => ?_
  refine g_icmp_ge 115 dX3_layLine_7 (by decide) ?_ ?_
  · exact g_jmp (hk0 _ _) rfl
  · refine g_iconst 0 dX3_layLine_10 (by decide) ?_
    refine g_istore dX3_layLine_11 (lt_b rfl) ?_
    refine g_iconst 0 dX3_layLine_13 (by decide) ?_
    refine g_istore dX3_layLine_14 (lt_b rfl) ?_
    refine g_jmp (ok_X3_layLine_b16 X v0 v1 v2 a ?_ _ _ _) rfl
    · intro a13 σ
      refine g_iinc 1 dX3_layLine_109 (by decide) rfl (lt_b rfl) ?_
      refine g_goto 2 dX3_layLine_112 (by decide) ?_
      exact g_jmp (hag _ _) rfl
theorem mm_X3_layLine (v0 : Option Nat) (v1 : Int32) (v2 : Int32) (σ : Hp) : MM yX3_layLine mi_X3_layLine rV [vA v0, vI v1, vI v2] σ (f_X3_layLine v0 v1 v2 σ) := by
  refine mm_of (by decide +kernel) rfl rfl (Nat.le_of_ble_eq_true rfl) ?_
  intro X
  unfold f_X3_layLine
  refine g_iconst 0 dX3_layLine_0 (by decide) ?_
  refine g_istore_n 3 dX3_layLine_1 rfl (lt_b rfl) ?_
  refine g_jmp (ok_X3_layLine_b2 X v0 v1 v2 ?_ _ _ _) rfl
  · intro a14 σ
    exact g_vret rfl dX3_layLine_115
theorem dd_X3_layLine : yX3_layLine.cls ≠ "java/lang/invoke/MethodHandle" ∧ yX3_layLine.cls ≠ "java/lang/invoke/VarHandle" ∧ (parseMethodDescriptor yX3_layLine.desc).map (fun d => d.parameters.length) = some 2 := by decide +kernel
theorem dv_X3_layLine : yX3_layLine.cls = RX3 ∧ yX3_layLine.cls ≠ "java/lang/invoke/MethodHandle" ∧ yX3_layLine.cls ≠ "java/lang/invoke/VarHandle" ∧ (parseMethodDescriptor yX3_layLine.desc).map (fun d => d.parameters.length) = some 2 := ⟨rfl, dd_X3_layLine⟩
/-! RockingHorseModel.layCanBe()V -/
abbrev mi_X3_layCanBe : Mi := (cX3_layCanBe, 3, "RockingHorseModel", 206, none, "layCanBe")
def f_X3_layCanBe_b19 (v0 : Option Nat) (v1 : Int32) (k0 : Unit → Hp → Option (Unit × Hp)) (ag : Int32 → Hp → Option (Unit × Hp)) (a : Int32) (σ : Hp) : Option (Unit × Hp) :=
  gI 2 3 σ v0 fun x2 =>
  if x2 ≤ a then
    k0 () σ
  else
    gR 2 32 σ v0 fun y3 =>
    bnd (f_X3_has v1 a σ) fun x4 σ =>
    jn (fun (a5 : Int32) σ =>
        sI σ y3 a a5 fun σ =>
        ag (a + 1) σ) fun j6 =>
    if x4 = 0 then
      j6 0 σ
    else
      gR 2 32 σ v0 fun y7 =>
      lI 100 σ y7 a fun x8 =>
      j6 x8 σ
def f_X3_layCanBe_b2 (v0 : Option Nat) (k0 : Unit → Hp → Option (Unit × Hp)) (ag : Int32 → Hp → Option (Unit × Hp)) (a : Int32) (σ : Hp) : Option (Unit × Hp) :=
  gI 2 3 σ v0 fun x1 =>
  if (shl 1 x1) ≤ a then
    k0 () σ
  else
    ob 2 σ v0 fun _ => bnd (f_X3_layMay v0 (-1) σ) fun _ σ =>
    lp 2000 (f_X3_layCanBe_b19 v0 a (fun (a9 : Unit) σ =>
        gR 2 41 σ v0 fun y10 =>
        ob 2 σ v0 fun _ => bnd (f_X3_solve v0 2 σ) fun x11 σ =>
        jn (fun (a12 : Int32) σ =>
            sZ σ y10 a a12 fun σ =>
            ag (a + 1) σ) fun j13 =>
        if 1000000000 ≤ x11 then
          j13 0 σ
        else
          j13 1 σ)) 0 σ
def f_X3_layCanBe (v0 : Option Nat) (σ : Hp) : Option (Unit × Hp) :=
  lp 2000 (f_X3_layCanBe_b2 v0 (fun (a14 : Unit) σ =>
      some ((), σ))) 0 σ
theorem ok_X3_layCanBe_b19 (X : Mx) (v0 : Option Nat) (v1 : Int32) {k0 : Unit → Hp → Option (Unit × Hp)} (hk0 : ∀ (a : Unit) (σ : Hp), GG X mi_X3_layCanBe (QM X rV) 57 [(0, vA v0), (1, vI v1)] [] σ (k0 a σ)) : ∀ (m : Nat) (a : Int32) (σ : Hp), GG X mi_X3_layCanBe (QM X rV) 19 [(0, vA v0), (1, vI v1), (2, vI a)] [] σ (lp m (f_X3_layCanBe_b19 v0 v1 k0) a σ) := by
  refine g_lp (fun (a : Int32) => [(0, vA v0), (1, vI v1), (2, vI a)]) ?_
  intro ag hag a σ
  unfold f_X3_layCanBe_b19
  refine g_iload_n 2 dX3_layCanBe_19 rfl rfl ?_
  refine g_aload_n 0 dX3_layCanBe_20 rfl rfl ?_
  refine g_getI fo_2_3 (by decide) q1059 dX3_layCanBe_21 fun x2 => ?_
  refine g_icmp_ge 57 dX3_layCanBe_24 (by decide) ?_ ?_
  · exact g_jmp (hk0 _ _) rfl
  · refine g_aload_n 0 dX3_layCanBe_27 rfl rfl ?_
    refine g_getR fo_2_32 q1088 dX3_layCanBe_28 fun y3 => ?_
    refine g_iload_n 2 dX3_layCanBe_31 rfl rfl ?_
    refine g_iload_n 1 dX3_layCanBe_32 rfl rfl ?_
    refine g_iload_n 2 dX3_layCanBe_33 rfl rfl ?_
    refine g_callS_I (mm_X3_has _ _ _) rfl q1378 q1379 q109 q1380 dd_X3_has rfl (Nat.le_of_ble_eq_true rfl) (Nat.le_of_ble_eq_true rfl) (Nat.le_of_ble_eq_true rfl) dX3_layCanBe_34 fun x4 σ => ?_
    refine g_jn (fun j6 => ∀ (a5 : Int32) (σ : Hp), GG X mi_X3_layCanBe (QM X rV) 50 [(0, vA v0), (1, vI v1), (2, vI a)] [vI a5, vI a, vA y3] σ (j6 a5 σ)) ?_ ?_
    · intro a5 σ
      refine g_iastore dX3_layCanBe_50 fun σ => ?_
      refine g_iinc 1 dX3_layCanBe_51 (by decide) rfl (lt_b rfl) ?_
      refine g_goto 19 dX3_layCanBe_54 (by decide) ?_
      exact g_jmp (hag _ _) rfl
    · intro j6 hj6
      refine g_if_eq 49 dX3_layCanBe_37 (by decide) ?_ ?_
      · refine g_iconst 0 dX3_layCanBe_49 (by decide) ?_
        exact g_jmp (hj6 _ _) rfl
      · refine g_aload_n 0 dX3_layCanBe_40 rfl rfl ?_
        refine g_getR fo_2_32 q1088 dX3_layCanBe_41 fun y7 => ?_
        refine g_iload_n 2 dX3_layCanBe_44 rfl rfl ?_
        refine g_iaload dX3_layCanBe_45 fun x8 => ?_
        refine g_goto 50 dX3_layCanBe_46 (by decide) ?_
        exact g_jmp (hj6 _ _) rfl
theorem ok_X3_layCanBe_b2 (X : Mx) (v0 : Option Nat) {k0 : Unit → Hp → Option (Unit × Hp)} (hk0 : ∀ (a : Unit) (σ : Hp), GG X mi_X3_layCanBe (QM X rV) 84 [] [] σ (k0 a σ)) : ∀ (m : Nat) (a : Int32) (σ : Hp), GG X mi_X3_layCanBe (QM X rV) 2 [(0, vA v0), (1, vI a)] [] σ (lp m (f_X3_layCanBe_b2 v0 k0) a σ) := by
  refine g_lp (fun (a : Int32) => [(0, vA v0), (1, vI a)]) ?_
  intro ag hag a σ
  unfold f_X3_layCanBe_b2
  refine g_iload_n 1 dX3_layCanBe_2 rfl rfl ?_
  refine g_iconst 1 dX3_layCanBe_3 (by decide) ?_
  refine g_aload_n 0 dX3_layCanBe_4 rfl rfl ?_
  refine g_getI fo_2_3 (by decide) q1059 dX3_layCanBe_5 fun x1 => ?_
  refine g_ishl dX3_layCanBe_8 ?_
  refine g_icmp_ge 84 dX3_layCanBe_9 (by decide) ?_ ?_
  · exact g_jmp (hk0 _ _) rfl
  · refine g_aload_n 0 dX3_layCanBe_12 rfl rfl ?_
    refine g_iconst (-1) dX3_layCanBe_13 (by decide) ?_
    refine g_callV_V (mm_X3_layMay _ _ _) rfl zc_2 q1443 q1445 qs82 q109 q1446 dv_X3_layMay rfl (Nat.le_of_ble_eq_true rfl) (Nat.le_of_ble_eq_true rfl) (Nat.le_of_ble_eq_true rfl) dX3_layCanBe_14 fun _ σ => ?_
    refine g_iconst 0 dX3_layCanBe_17 (by decide) ?_
    refine g_istore_n 2 dX3_layCanBe_18 rfl (lt_b rfl) ?_
    refine g_jmp (ok_X3_layCanBe_b19 X v0 a ?_ _ _ _) rfl
    · intro a9 σ
      refine g_aload_n 0 dX3_layCanBe_57 rfl rfl ?_
      refine g_getR fo_2_41 q1097 dX3_layCanBe_58 fun y10 => ?_
      refine g_iload_n 1 dX3_layCanBe_61 rfl rfl ?_
      refine g_aload_n 0 dX3_layCanBe_62 rfl rfl ?_
      refine g_iconst 2 dX3_layCanBe_63 (by decide) ?_
      refine g_callV_I (mm_X3_solve _ _ _) rfl zc_2 q1451 q1453 qs84 q109 q1454 dv_X3_solve rfl (Nat.le_of_ble_eq_true rfl) (Nat.le_of_ble_eq_true rfl) (Nat.le_of_ble_eq_true rfl) dX3_layCanBe_64 fun x11 σ => ?_
      refine g_ldc dX3_layCanBe_67 q1055 ?_
      refine g_jn (fun j13 => ∀ (a12 : Int32) (σ : Hp), GG X mi_X3_layCanBe (QM X rV) 77 [(0, vA v0), (1, vI a)] [vI a12, vI a, vA y10] σ (j13 a12 σ)) ?_ ?_
      · intro a12 σ
        refine g_zastore dX3_layCanBe_77 fun σ => ?_
        refine g_iinc 1 dX3_layCanBe_78 (by decide) rfl (lt_b rfl) ?_
        refine g_goto 2 dX3_layCanBe_81 (by decide) ?_
        exact g_jmp (hag _ _) rfl
      · intro j13 hj13
        refine g_icmp_ge 76 dX3_layCanBe_69 (by decide) ?_ ?_
        · refine g_iconst 0 dX3_layCanBe_76 (by decide) ?_
          exact g_jmp (hj13 _ _) rfl
        · refine g_iconst 1 dX3_layCanBe_72 (by decide) ?_
          refine g_goto 77 dX3_layCanBe_73 (by decide) ?_
          exact g_jmp (hj13 _ _) rfl
theorem mm_X3_layCanBe (v0 : Option Nat) (σ : Hp) : MM yX3_layCanBe mi_X3_layCanBe rV [vA v0] σ (f_X3_layCanBe v0 σ) := by
  refine mm_of (by decide +kernel) rfl rfl (Nat.le_of_ble_eq_true rfl) ?_
  intro X
  unfold f_X3_layCanBe
  refine g_iconst 0 dX3_layCanBe_0 (by decide) ?_
  refine g_istore_n 1 dX3_layCanBe_1 rfl (lt_b rfl) ?_
  refine g_jmp (ok_X3_layCanBe_b2 X v0 ?_ _ _ _) rfl
  · intro a14 σ
    exact g_vret rfl dX3_layCanBe_84
theorem dd_X3_layCanBe : yX3_layCanBe.cls ≠ "java/lang/invoke/MethodHandle" ∧ yX3_layCanBe.cls ≠ "java/lang/invoke/VarHandle" ∧ (parseMethodDescriptor yX3_layCanBe.desc).map (fun d => d.parameters.length) = some 0 := by decide +kernel
theorem dv_X3_layCanBe : yX3_layCanBe.cls = RX3 ∧ yX3_layCanBe.cls ≠ "java/lang/invoke/MethodHandle" ∧ yX3_layCanBe.cls ≠ "java/lang/invoke/VarHandle" ∧ (parseMethodDescriptor yX3_layCanBe.desc).map (fun d => d.parameters.length) = some 0 := ⟨rfl, dd_X3_layCanBe⟩
/-! RockingHorseModel.bare()I -/
abbrev mi_X3_bare : Mi := (cX3_bare, 3, "RockingHorseModel", 206, some .int, "bare")
def f_X3_bare_b20 (v0 : Option Nat) (k0 : Int32 → Hp → Option (Int32 × Hp)) (ag : (Int32 × Int32) → Hp → Option (Int32 × Hp)) (a : Int32 × Int32) (σ : Hp) : Option (Int32 × Hp) :=
  ob 2 σ v0 fun _ => bnd (f_X3_night v0 σ) fun x2 σ =>
  if x2 < a.2 then
    k0 a.1 σ
  else
    gR 2 37 σ v0 fun y3 =>
    lI 100 σ y3 a.2 fun x4 =>
    jn (fun (a5 : Int32) σ =>
        ag (a5, (a.2 + 1)) σ) fun j6 =>
    if x4 = 1000000000 then
      jn (fun (a7 : Unit) σ =>
          j6 a.2 σ) fun j8 =>
      if a.1 = (-1) then
        j8 () σ
      else
        bnd (f_J10_bitCount a.2 σ) fun x9 σ =>
        bnd (f_J10_bitCount a.1 σ) fun x10 σ =>
        if x10 ≤ x9 then
          j6 a.1 σ
        else
          j8 () σ
    else
      j6 a.1 σ
def f_X3_bare (v0 : Option Nat) (σ : Hp) : Option (Int32 × Hp) :=
  pI 0 2 11 σ v0 0 fun σ =>
  ob 2 σ v0 fun _ => bnd (f_X3_layMay v0 (-1) σ) fun _ σ =>
  ob 2 σ v0 fun _ => bnd (f_X3_solve v0 2 σ) fun x1 σ =>
  lp 2000 (f_X3_bare_b20 v0 (fun (a11 : Int32) σ =>
      if a11 = (-1) then
        some ((-2), σ)
      else
        pI 0 2 10 σ v0 0 fun σ =>
        ob 2 σ v0 fun _ => bnd (f_X3_tell v0 (Int32.toInt64 a11) σ) fun _ σ =>
        bnd (f_J10_bitCount a11 σ) fun x12 σ =>
        some (x12, σ))) ((-1), 1) σ
theorem ok_X3_bare_b20 (X : Mx) (v0 : Option Nat) {k0 : Int32 → Hp → Option (Int32 × Hp)} (hk0 : ∀ (a : Int32) (σ : Hp), GG X mi_X3_bare (QM X rI) 63 [(0, vA v0), (1, vI a)] [] σ (k0 a σ)) : ∀ (m : Nat) (a : Int32 × Int32) (σ : Hp), GG X mi_X3_bare (QM X rI) 20 [(0, vA v0), (1, vI a.1), (2, vI a.2)] [] σ (lp m (f_X3_bare_b20 v0 k0) a σ) := by
  refine g_lp (fun (a : Int32 × Int32) => [(0, vA v0), (1, vI a.1), (2, vI a.2)]) ?_
  intro ag hag a σ
  unfold f_X3_bare_b20
  refine g_iload_n 2 dX3_bare_20 rfl rfl ?_
  refine g_aload_n 0 dX3_bare_21 rfl rfl ?_
  refine g_callV_I (mm_X3_night _ _) rfl zc_2 q1447 q1449 qs83 q109 q1450 dv_X3_night rfl (Nat.le_of_ble_eq_true rfl) (Nat.le_of_ble_eq_true rfl) (Nat.le_of_ble_eq_true rfl) dX3_bare_22 fun x2 σ => ?_
  refine g_icmp_gt 63 dX3_bare_25 (by decide) ?_ ?_
  · exact g_jmp (hk0 _ _) rfl
  · refine g_aload_n 0 dX3_bare_28 rfl rfl ?_
    refine g_getR fo_2_37 q1093 dX3_bare_29 fun y3 => ?_
    refine g_iload_n 2 dX3_bare_32 rfl rfl ?_
    refine g_iaload dX3_bare_33 fun x4 => ?_
    refine g_ldc dX3_bare_34 q1055 ?_
    refine g_jn (fun j6 => ∀ (a5 : Int32) (σ : Hp), GG X mi_X3_bare (QM X rI) 57 [(0, vA v0), (1, vI a5), (2, vI a.2)] [] σ (j6 a5 σ)) ?_ ?_
    · intro a5 σ
      refine g_iinc 1 dX3_bare_57 (by decide) rfl (lt_b rfl) ?_
      refine g_goto 20 dX3_bare_60 (by decide) ?_
      exact g_jmp (hag _ _) rfl
    · intro j6 hj6
      refine g_icmp_ne 57 dX3_bare_36 (by decide) ?_ ?_
      · exact g_jmp (hj6 _ _) rfl
      · refine g_iload_n 1 dX3_bare_39 rfl rfl ?_
        refine g_iconst (-1) dX3_bare_40 (by decide) ?_
        refine g_jn (fun j8 => ∀ (a7 : Unit) (σ : Hp), GG X mi_X3_bare (QM X rI) 55 [(0, vA v0), (2, vI a.2)] [] σ (j8 a7 σ)) ?_ ?_
        · intro a7 σ
          refine g_iload_n 2 dX3_bare_55 rfl rfl ?_
          refine g_istore_n 1 dX3_bare_56 rfl (lt_b rfl) ?_
          exact g_jmp (hj6 _ _) rfl
        · intro j8 hj8
          refine g_icmp_eq 55 dX3_bare_41 (by decide) ?_ ?_
          · exact g_jmp (hj8 _ _) rfl
          · refine g_iload_n 2 dX3_bare_44 rfl rfl ?_
            refine g_callS_I (mm_J10_bitCount _ _) rfl q1328 q600 q125 q601 dd_J10_bitCount rfl (Nat.le_of_ble_eq_true rfl) (Nat.le_of_ble_eq_true rfl) (Nat.le_of_ble_eq_true rfl) dX3_bare_45 fun x9 σ => ?_
            refine g_iload_n 1 dX3_bare_48 rfl rfl ?_
            refine g_callS_I (mm_J10_bitCount _ _) rfl q1328 q600 q125 q601 dd_J10_bitCount rfl (Nat.le_of_ble_eq_true rfl) (Nat.le_of_ble_eq_true rfl) (Nat.le_of_ble_eq_true rfl) dX3_bare_49 fun x10 σ => ?_
            refine g_icmp_ge 57 dX3_bare_52 (by decide) ?_ ?_
            · exact g_jmp (hj6 _ _) rfl
            · exact g_jmp (hj8 _ _) rfl
theorem mm_X3_bare (v0 : Option Nat) (σ : Hp) : MM yX3_bare mi_X3_bare rI [vA v0] σ (f_X3_bare v0 σ) := by
  refine mm_of (by decide +kernel) rfl rfl (Nat.le_of_ble_eq_true rfl) ?_
  intro X
  unfold f_X3_bare
  refine g_aload_n 0 dX3_bare_0 rfl rfl ?_
  refine g_iconst 0 dX3_bare_1 (by decide) ?_
  refine g_putI fo_2_11 (by decide) rfl q1067 dX3_bare_2 fun σ => ?_
  refine g_aload_n 0 dX3_bare_5 rfl rfl ?_
  refine g_iconst (-1) dX3_bare_6 (by decide) ?_
  refine g_callV_V (mm_X3_layMay _ _ _) rfl zc_2 q1443 q1445 qs82 q109 q1446 dv_X3_layMay rfl (Nat.le_of_ble_eq_true rfl) (Nat.le_of_ble_eq_true rfl) (Nat.le_of_ble_eq_true rfl) dX3_bare_7 fun _ σ => ?_
  refine g_aload_n 0 dX3_bare_10 rfl rfl ?_
  refine g_iconst 2 dX3_bare_11 (by decide) ?_
  refine g_callV_I (mm_X3_solve _ _ _) rfl zc_2 q1451 q1453 qs84 q109 q1454 dv_X3_solve rfl (Nat.le_of_ble_eq_true rfl) (Nat.le_of_ble_eq_true rfl) (Nat.le_of_ble_eq_true rfl) dX3_bare_12 fun x1 σ => ?_
  refine g_pop dX3_bare_15 rfl ?_
  refine g_iconst (-1) dX3_bare_16 (by decide) ?_
  refine g_istore_n 1 dX3_bare_17 rfl (lt_b rfl) ?_
  refine g_iconst 1 dX3_bare_18 (by decide) ?_
  refine g_istore_n 2 dX3_bare_19 rfl (lt_b rfl) ?_
  refine g_jmp (ok_X3_bare_b20 X v0 ?_ _ _ _) rfl
  · intro a11 σ
    refine g_iload_n 1 dX3_bare_63 rfl rfl ?_
    refine g_iconst (-1) dX3_bare_64 (by decide) ?_
    refine g_icmp_ne 71 dX3_bare_65 (by decide) ?_ ?_
    · refine g_aload_n 0 dX3_bare_71 rfl rfl ?_
      refine g_iconst 0 dX3_bare_72 (by decide) ?_
      refine g_putI fo_2_10 (by decide) rfl q1066 dX3_bare_73 fun σ => ?_
      refine g_aload_n 0 dX3_bare_76 rfl rfl ?_
      refine g_iload_n 1 dX3_bare_77 rfl rfl ?_
      refine g_i2l dX3_bare_78 ?_
      refine g_callV_V (mm_X3_tell _ _ _) rfl zc_2 q1382 q1384 qs75 q109 q1385 dv_X3_tell rfl (Nat.le_of_ble_eq_true rfl) (Nat.le_of_ble_eq_true rfl) (Nat.le_of_ble_eq_true rfl) dX3_bare_79 fun _ σ => ?_
      refine g_iload_n 1 dX3_bare_82 rfl rfl ?_
      refine g_callS_I (mm_J10_bitCount _ _) rfl q1328 q600 q125 q601 dd_J10_bitCount rfl (Nat.le_of_ble_eq_true rfl) (Nat.le_of_ble_eq_true rfl) (Nat.le_of_ble_eq_true rfl) dX3_bare_83 fun x12 σ => ?_
      exact g_iret rfl dX3_bare_86
    · refine g_bipush (-2) dX3_bare_68 (by decide) ?_
      exact g_iret rfl dX3_bare_70
theorem dd_X3_bare : yX3_bare.cls ≠ "java/lang/invoke/MethodHandle" ∧ yX3_bare.cls ≠ "java/lang/invoke/VarHandle" ∧ (parseMethodDescriptor yX3_bare.desc).map (fun d => d.parameters.length) = some 0 := by decide +kernel
theorem dv_X3_bare : yX3_bare.cls = RX3 ∧ yX3_bare.cls ≠ "java/lang/invoke/MethodHandle" ∧ yX3_bare.cls ≠ "java/lang/invoke/VarHandle" ∧ (parseMethodDescriptor yX3_bare.desc).map (fun d => d.parameters.length) = some 0 := ⟨rfl, dd_X3_bare⟩
/-! RockingHorseModel.tellWays()I -/
abbrev mi_X3_tellWays : Mi := (cX3_tellWays, 2, "RockingHorseModel", 5, some .int, "tellWays")
def f_X3_tellWays (v0 : Option Nat) (σ : Hp) : Option (Int32 × Hp) :=
  ob 2 σ v0 fun _ => bnd (f_X3_countWays v0 σ) fun x1 σ =>
  pI 0 2 10 σ v0 0 fun σ =>
  if x1 = 0 then
    some (0, σ)
  else
    ob 2 σ v0 fun _ => bnd (f_X3_layLine v0 2 0 σ) fun _ σ =>
    ob 2 σ v0 fun _ => bnd (f_X3_tellLine v0 σ) fun _ σ =>
    some (x1, σ)
theorem mm_X3_tellWays (v0 : Option Nat) (σ : Hp) : MM yX3_tellWays mi_X3_tellWays rI [vA v0] σ (f_X3_tellWays v0 σ) := by
  refine mm_of (by decide +kernel) rfl rfl (Nat.le_of_ble_eq_true rfl) ?_
  intro X
  unfold f_X3_tellWays
  refine g_aload_n 0 dX3_tellWays_0 rfl rfl ?_
  refine g_callV_I (mm_X3_countWays _ _) rfl zc_2 q1511 q1513 qs96 q109 q1514 dv_X3_countWays rfl (Nat.le_of_ble_eq_true rfl) (Nat.le_of_ble_eq_true rfl) (Nat.le_of_ble_eq_true rfl) dX3_tellWays_1 fun x1 σ => ?_
  refine g_istore_n 1 dX3_tellWays_4 rfl (lt_b rfl) ?_
  refine g_aload_n 0 dX3_tellWays_5 rfl rfl ?_
  refine g_iconst 0 dX3_tellWays_6 (by decide) ?_
  refine g_putI fo_2_10 (by decide) rfl q1066 dX3_tellWays_7 fun σ => ?_
  refine g_iload_n 1 dX3_tellWays_10 rfl rfl ?_
  refine g_if_ne 16 dX3_tellWays_11 (by decide) ?_ ?_
  · refine g_aload_n 0 dX3_tellWays_16 rfl rfl ?_
    refine g_iconst 2 dX3_tellWays_17 (by decide) ?_
    refine g_iconst 0 dX3_tellWays_18 (by decide) ?_
    refine g_callV_V (mm_X3_layLine _ _ _ _) rfl zc_2 q1467 q1469 qs88 q109 q1470 dv_X3_layLine rfl (Nat.le_of_ble_eq_true rfl) (Nat.le_of_ble_eq_true rfl) (Nat.le_of_ble_eq_true rfl) dX3_tellWays_19 fun _ σ => ?_
    refine g_aload_n 0 dX3_tellWays_22 rfl rfl ?_
    refine g_callV_V (mm_X3_tellLine _ _) rfl zc_2 q1487 q1489 qs93 q109 q1490 dv_X3_tellLine rfl (Nat.le_of_ble_eq_true rfl) (Nat.le_of_ble_eq_true rfl) (Nat.le_of_ble_eq_true rfl) dX3_tellWays_23 fun _ σ => ?_
    refine g_iload_n 1 dX3_tellWays_26 rfl rfl ?_
    exact g_iret rfl dX3_tellWays_27
  · refine g_iconst 0 dX3_tellWays_14 (by decide) ?_
    exact g_iret rfl dX3_tellWays_15
theorem dd_X3_tellWays : yX3_tellWays.cls ≠ "java/lang/invoke/MethodHandle" ∧ yX3_tellWays.cls ≠ "java/lang/invoke/VarHandle" ∧ (parseMethodDescriptor yX3_tellWays.desc).map (fun d => d.parameters.length) = some 0 := by decide +kernel
theorem dv_X3_tellWays : yX3_tellWays.cls = RX3 ∧ yX3_tellWays.cls ≠ "java/lang/invoke/MethodHandle" ∧ yX3_tellWays.cls ≠ "java/lang/invoke/VarHandle" ∧ (parseMethodDescriptor yX3_tellWays.desc).map (fun d => d.parameters.length) = some 0 := ⟨rfl, dd_X3_tellWays⟩
/-! RockingHorseModel.mended(I)I -/
abbrev mi_X3_mended : Mi := (cX3_mended, 3, "RockingHorseModel", 206, some .int, "mended")
def f_X3_mended (v0 : Option Nat) (v1 : Int32) (σ : Hp) : Option (Int32 × Hp) :=
  pI 0 2 11 σ v0 0 fun σ =>
  ob 2 σ v0 fun _ => bnd (f_X3_isMan v0 v1 σ) fun x1 σ =>
  if x1 = 0 then
    some ((-1), σ)
  else
    ob 2 σ v0 fun _ => bnd (f_X3_layMay v0 v1 σ) fun _ σ =>
    ob 2 σ v0 fun _ => bnd (f_X3_solve v0 1 σ) fun x2 σ =>
    if x2 = 1000000000 then
      some ((-2), σ)
    else
      ob 2 σ v0 fun _ => bnd (f_X3_layLine v0 1 x2 σ) fun _ σ =>
      ob 2 σ v0 fun _ => bnd (f_X3_tellLine v0 σ) fun _ σ =>
      some (x2, σ)
theorem mm_X3_mended (v0 : Option Nat) (v1 : Int32) (σ : Hp) : MM yX3_mended mi_X3_mended rI [vA v0, vI v1] σ (f_X3_mended v0 v1 σ) := by
  refine mm_of (by decide +kernel) rfl rfl (Nat.le_of_ble_eq_true rfl) ?_
  intro X
  unfold f_X3_mended
  refine g_aload_n 0 dX3_mended_0 rfl rfl ?_
  refine g_iconst 0 dX3_mended_1 (by decide) ?_
  refine g_putI fo_2_11 (by decide) rfl q1067 dX3_mended_2 fun σ => ?_
  refine g_aload_n 0 dX3_mended_5 rfl rfl ?_
  refine g_iload_n 1 dX3_mended_6 rfl rfl ?_
  refine g_callV_I (mm_X3_isMan _ _ _) rfl zc_2 q1305 q1307 qs66 q109 q1308 dv_X3_isMan rfl (Nat.le_of_ble_eq_true rfl) (Nat.le_of_ble_eq_true rfl) (Nat.le_of_ble_eq_true rfl) dX3_mended_7 fun x1 σ => ?_
  refine g_if_ne 15 dX3_mended_10 (by decide) ?_ ?_
  · refine g_aload_n 0 dX3_mended_15 rfl rfl ?_
    refine g_iload_n 1 dX3_mended_16 rfl rfl ?_
    refine g_callV_V (mm_X3_layMay _ _ _) rfl zc_2 q1443 q1445 qs82 q109 q1446 dv_X3_layMay rfl (Nat.le_of_ble_eq_true rfl) (Nat.le_of_ble_eq_true rfl) (Nat.le_of_ble_eq_true rfl) dX3_mended_17 fun _ σ => ?_
    refine g_aload_n 0 dX3_mended_20 rfl rfl ?_
    refine g_iconst 1 dX3_mended_21 (by decide) ?_
    refine g_callV_I (mm_X3_solve _ _ _) rfl zc_2 q1451 q1453 qs84 q109 q1454 dv_X3_solve rfl (Nat.le_of_ble_eq_true rfl) (Nat.le_of_ble_eq_true rfl) (Nat.le_of_ble_eq_true rfl) dX3_mended_22 fun x2 σ => ?_
    refine g_istore_n 2 dX3_mended_25 rfl (lt_b rfl) ?_
    refine g_iload_n 2 dX3_mended_26 rfl rfl ?_
    refine g_ldc dX3_mended_27 q1055 ?_
    refine g_icmp_ne 35 dX3_mended_29 (by decide) ?_ ?_
    · refine g_aload_n 0 dX3_mended_35 rfl rfl ?_
      refine g_iconst 1 dX3_mended_36 (by decide) ?_
      refine g_iload_n 2 dX3_mended_37 rfl rfl ?_
      refine g_callV_V (mm_X3_layLine _ _ _ _) rfl zc_2 q1467 q1469 qs88 q109 q1470 dv_X3_layLine rfl (Nat.le_of_ble_eq_true rfl) (Nat.le_of_ble_eq_true rfl) (Nat.le_of_ble_eq_true rfl) dX3_mended_38 fun _ σ => ?_
      refine g_aload_n 0 dX3_mended_41 rfl rfl ?_
      refine g_callV_V (mm_X3_tellLine _ _) rfl zc_2 q1487 q1489 qs93 q109 q1490 dv_X3_tellLine rfl (Nat.le_of_ble_eq_true rfl) (Nat.le_of_ble_eq_true rfl) (Nat.le_of_ble_eq_true rfl) dX3_mended_42 fun _ σ => ?_
      refine g_iload_n 2 dX3_mended_45 rfl rfl ?_
      exact g_iret rfl dX3_mended_46
    · refine g_bipush (-2) dX3_mended_32 (by decide) ?_
      exact g_iret rfl dX3_mended_34
  · refine g_iconst (-1) dX3_mended_13 (by decide) ?_
    exact g_iret rfl dX3_mended_14
theorem dd_X3_mended : yX3_mended.cls ≠ "java/lang/invoke/MethodHandle" ∧ yX3_mended.cls ≠ "java/lang/invoke/VarHandle" ∧ (parseMethodDescriptor yX3_mended.desc).map (fun d => d.parameters.length) = some 1 := by decide +kernel
theorem dv_X3_mended : yX3_mended.cls = RX3 ∧ yX3_mended.cls ≠ "java/lang/invoke/MethodHandle" ∧ yX3_mended.cls ≠ "java/lang/invoke/VarHandle" ∧ (parseMethodDescriptor yX3_mended.desc).map (fun d => d.parameters.length) = some 1 := ⟨rfl, dd_X3_mended⟩
/-! RockingHorseModel.fairest()I -/
abbrev mi_X3_fairest : Mi := (cX3_fairest, 4, "RockingHorseModel", 206, some .int, "fairest")
def f_X3_fairest_b16 (v0 : Option Nat) (k0 : Int32 → Hp → Option (Int32 × Hp)) (ag : (Int32 × Int32) → Hp → Option (Int32 × Hp)) (a : Int32 × Int32) (σ : Hp) : Option (Int32 × Hp) :=
  if (a.2 - a.1) ≤ 1 then
    k0 a.2 σ
  else
    idv 2 <|
    pI 0 2 39 σ v0 ((a.1 + a.2) / 2) fun σ =>
    ob 2 σ v0 fun _ => bnd (f_X3_solve v0 0 σ) fun x1 σ =>
    if 1000000000 ≤ x1 then
      gI 2 39 σ v0 fun x2 =>
      ag (x2, a.2) σ
    else
      gI 2 39 σ v0 fun x3 =>
      ag (a.1, x3) σ
def f_X3_fairest (v0 : Option Nat) (σ : Hp) : Option (Int32 × Hp) :=
  pI 0 2 11 σ v0 0 fun σ =>
  ob 2 σ v0 fun _ => bnd (f_X3_layMay v0 (-1) σ) fun _ σ =>
  lp 2000 (f_X3_fairest_b16 v0 (fun (a4 : Int32) σ =>
      pI 0 2 39 σ v0 a4 fun σ =>
      ob 2 σ v0 fun _ => bnd (f_X3_solve v0 0 σ) fun x5 σ =>
      pI 0 2 39 σ v0 1000000000 fun σ =>
      if x5 = 1000000000 then
        some ((-2), σ)
      else
        pI 0 2 10 σ v0 0 fun σ =>
        ob 2 σ v0 fun _ => bnd (f_X3_tell v0 (Int32.toInt64 x5) σ) fun _ σ =>
        some (a4, σ))) ((-1), 3997) σ
theorem ok_X3_fairest_b16 (X : Mx) (v0 : Option Nat) {k0 : Int32 → Hp → Option (Int32 × Hp)} (hk0 : ∀ (a : Int32) (σ : Hp), GG X mi_X3_fairest (QM X rI) 58 [(0, vA v0), (2, vI a)] [] σ (k0 a σ)) : ∀ (m : Nat) (a : Int32 × Int32) (σ : Hp), GG X mi_X3_fairest (QM X rI) 16 [(0, vA v0), (1, vI a.1), (2, vI a.2)] [] σ (lp m (f_X3_fairest_b16 v0 k0) a σ) := by
  refine g_lp (fun (a : Int32 × Int32) => [(0, vA v0), (1, vI a.1), (2, vI a.2)]) ?_
  intro ag hag a σ
  unfold f_X3_fairest_b16
  refine g_iload_n 2 dX3_fairest_16 rfl rfl ?_
  refine g_iload_n 1 dX3_fairest_17 rfl rfl ?_
  refine g_isub dX3_fairest_18 ?_
  refine g_iconst 1 dX3_fairest_19 (by decide) ?_
  refine g_icmp_le 58 dX3_fairest_20 (by decide) ?_ ?_
  · exact g_jmp (hk0 _ _) rfl
  · refine g_aload_n 0 dX3_fairest_23 rfl rfl ?_
    refine g_iload_n 1 dX3_fairest_24 rfl rfl ?_
    refine g_iload_n 2 dX3_fairest_25 rfl rfl ?_
    refine g_iadd dX3_fairest_26 ?_
    refine g_iconst 2 dX3_fairest_27 (by decide) ?_
    refine g_idiv dX3_fairest_28 ?_
    refine g_putI fo_2_39 (by decide) rfl q1095 dX3_fairest_29 fun σ => ?_
    refine g_aload_n 0 dX3_fairest_32 rfl rfl ?_
    refine g_iconst 0 dX3_fairest_33 (by decide) ?_
    refine g_callV_I (mm_X3_solve _ _ _) rfl zc_2 q1451 q1453 qs84 q109 q1454 dv_X3_solve rfl (Nat.le_of_ble_eq_true rfl) (Nat.le_of_ble_eq_true rfl) (Nat.le_of_ble_eq_true rfl) dX3_fairest_34 fun x1 σ => ?_
    refine g_ldc dX3_fairest_37 q1055 ?_
    refine g_icmp_ge 50 dX3_fairest_39 (by decide) ?_ ?_
    · refine g_aload_n 0 dX3_fairest_50 rfl rfl ?_
      refine g_getI fo_2_39 (by decide) q1095 dX3_fairest_51 fun x2 => ?_
      refine g_istore_n 1 dX3_fairest_54 rfl (lt_b rfl) ?_
      refine g_goto 16 dX3_fairest_55 (by decide) ?_
      exact g_jmp (hag _ _) rfl
    · refine g_aload_n 0 dX3_fairest_42 rfl rfl ?_
      refine g_getI fo_2_39 (by decide) q1095 dX3_fairest_43 fun x3 => ?_
      refine g_istore_n 2 dX3_fairest_46 rfl (lt_b rfl) ?_
      refine g_goto 16 dX3_fairest_47 (by decide) ?_
      exact g_jmp (hag _ _) rfl
theorem mm_X3_fairest (v0 : Option Nat) (σ : Hp) : MM yX3_fairest mi_X3_fairest rI [vA v0] σ (f_X3_fairest v0 σ) := by
  refine mm_of (by decide +kernel) rfl rfl (Nat.le_of_ble_eq_true rfl) ?_
  intro X
  unfold f_X3_fairest
  refine g_aload_n 0 dX3_fairest_0 rfl rfl ?_
  refine g_iconst 0 dX3_fairest_1 (by decide) ?_
  refine g_putI fo_2_11 (by decide) rfl q1067 dX3_fairest_2 fun σ => ?_
  refine g_aload_n 0 dX3_fairest_5 rfl rfl ?_
  refine g_iconst (-1) dX3_fairest_6 (by decide) ?_
  refine g_callV_V (mm_X3_layMay _ _ _) rfl zc_2 q1443 q1445 qs82 q109 q1446 dv_X3_layMay rfl (Nat.le_of_ble_eq_true rfl) (Nat.le_of_ble_eq_true rfl) (Nat.le_of_ble_eq_true rfl) dX3_fairest_7 fun _ σ => ?_
  refine g_iconst (-1) dX3_fairest_10 (by decide) ?_
  refine g_istore_n 1 dX3_fairest_11 rfl (lt_b rfl) ?_
  refine g_sipush 3997 dX3_fairest_12 (by decide) ?_
  refine g_istore_n 2 dX3_fairest_15 rfl (lt_b rfl) ?_
  refine g_jmp (ok_X3_fairest_b16 X v0 ?_ _ _ _) rfl
  · intro a4 σ
    refine g_aload_n 0 dX3_fairest_58 rfl rfl ?_
    refine g_iload_n 2 dX3_fairest_59 rfl rfl ?_
    refine g_putI fo_2_39 (by decide) rfl q1095 dX3_fairest_60 fun σ => ?_
    refine g_aload_n 0 dX3_fairest_63 rfl rfl ?_
    refine g_iconst 0 dX3_fairest_64 (by decide) ?_
    refine g_callV_I (mm_X3_solve _ _ _) rfl zc_2 q1451 q1453 qs84 q109 q1454 dv_X3_solve rfl (Nat.le_of_ble_eq_true rfl) (Nat.le_of_ble_eq_true rfl) (Nat.le_of_ble_eq_true rfl) dX3_fairest_65 fun x5 σ => ?_
    refine g_istore_n 3 dX3_fairest_68 rfl (lt_b rfl) ?_
    refine g_aload_n 0 dX3_fairest_69 rfl rfl ?_
    refine g_ldc dX3_fairest_70 q1055 ?_
    refine g_putI fo_2_39 (by decide) rfl q1095 dX3_fairest_72 fun σ => ?_
    refine g_iload_n 3 dX3_fairest_75 rfl rfl ?_
    refine g_ldc dX3_fairest_76 q1055 ?_
    refine g_icmp_ne 84 dX3_fairest_78 (by decide) ?_ ?_
    · refine g_aload_n 0 dX3_fairest_84 rfl rfl ?_
      refine g_iconst 0 dX3_fairest_85 (by decide) ?_
      refine g_putI fo_2_10 (by decide) rfl q1066 dX3_fairest_86 fun σ => ?_
      refine g_aload_n 0 dX3_fairest_89 rfl rfl ?_
      refine g_iload_n 3 dX3_fairest_90 rfl rfl ?_
      refine g_i2l dX3_fairest_91 ?_
      refine g_callV_V (mm_X3_tell _ _ _) rfl zc_2 q1382 q1384 qs75 q109 q1385 dv_X3_tell rfl (Nat.le_of_ble_eq_true rfl) (Nat.le_of_ble_eq_true rfl) (Nat.le_of_ble_eq_true rfl) dX3_fairest_92 fun _ σ => ?_
      refine g_iload_n 2 dX3_fairest_95 rfl rfl ?_
      exact g_iret rfl dX3_fairest_96
    · refine g_bipush (-2) dX3_fairest_81 (by decide) ?_
      exact g_iret rfl dX3_fairest_83
theorem dd_X3_fairest : yX3_fairest.cls ≠ "java/lang/invoke/MethodHandle" ∧ yX3_fairest.cls ≠ "java/lang/invoke/VarHandle" ∧ (parseMethodDescriptor yX3_fairest.desc).map (fun d => d.parameters.length) = some 0 := by decide +kernel
theorem dv_X3_fairest : yX3_fairest.cls = RX3 ∧ yX3_fairest.cls ≠ "java/lang/invoke/MethodHandle" ∧ yX3_fairest.cls ≠ "java/lang/invoke/VarHandle" ∧ (parseMethodDescriptor yX3_fairest.desc).map (fun d => d.parameters.length) = some 0 := ⟨rfl, dd_X3_fairest⟩
/-! RockingHorseModel.away()I -/
abbrev mi_X3_away : Mi := (cX3_away, 4, "RockingHorseModel", 207, some .int, "away")
def f_X3_away_b33 (v0 : Option Nat) (v1 : Int32) (k0 : Int32 → Hp → Option (Int32 × Hp)) (ag : (Int32 × Int32) → Hp → Option (Int32 × Hp)) (a : Int32 × Int32) (σ : Hp) : Option (Int32 × Hp) :=
  if v1 < a.2 then
    k0 a.1 σ
  else
    jn (fun (a4 : Int32) σ =>
        ag (a4, (a.2 + 1)) σ) fun j5 =>
    if (a.2 &&& (v1 ^^^ (-1))) = 0 then
      gR 2 41 σ v0 fun y6 =>
      lI 102 σ y6 (v1 &&& (a.2 ^^^ (-1))) fun x7 =>
      if x7 = 0 then
        j5 a.1 σ
      else
        jn (fun (a8 : Unit) σ =>
            j5 a.2 σ) fun j9 =>
        if a.1 = (-1) then
          j9 () σ
        else
          bnd (f_J10_bitCount a.2 σ) fun x10 σ =>
          bnd (f_J10_bitCount a.1 σ) fun x11 σ =>
          if x10 ≤ x11 then
            j5 a.1 σ
          else
            j9 () σ
    else
      j5 a.1 σ
def f_X3_away (v0 : Option Nat) (σ : Hp) : Option (Int32 × Hp) :=
  pI 0 2 11 σ v0 0 fun σ =>
  ob 2 σ v0 fun _ => bnd (f_X3_layCanBe v0 σ) fun _ σ =>
  gI 2 3 σ v0 fun x1 =>
  gR 2 0 σ v0 fun y2 =>
  ob 2 σ v0 fun _ => bnd (f_X3_illBits v0 y2 σ) fun x3 σ =>
  lp 2000 (f_X3_away_b33 v0 (((shl 1 x1) - 1) &&& (x3 ^^^ (-1))) (fun (a12 : Int32) σ =>
      if a12 = (-1) then
        some ((-2), σ)
      else
        pI 0 2 10 σ v0 0 fun σ =>
        ob 2 σ v0 fun _ => bnd (f_X3_tell v0 (Int32.toInt64 a12) σ) fun _ σ =>
        bnd (f_J10_bitCount a12 σ) fun x13 σ =>
        some (x13, σ))) ((-1), 0) σ
theorem ok_X3_away_b33 (X : Mx) (v0 : Option Nat) (v1 : Int32) {k0 : Int32 → Hp → Option (Int32 × Hp)} (hk0 : ∀ (a : Int32) (σ : Hp), GG X mi_X3_away (QM X rI) 86 [(0, vA v0), (2, vI a)] [] σ (k0 a σ)) : ∀ (m : Nat) (a : Int32 × Int32) (σ : Hp), GG X mi_X3_away (QM X rI) 33 [(0, vA v0), (1, vI v1), (2, vI a.1), (3, vI a.2)] [] σ (lp m (f_X3_away_b33 v0 v1 k0) a σ) := by
  refine g_lp (fun (a : Int32 × Int32) => [(0, vA v0), (1, vI v1), (2, vI a.1), (3, vI a.2)]) ?_
  intro ag hag a σ
  unfold f_X3_away_b33
  refine g_iload_n 3 dX3_away_33 rfl rfl ?_
  refine g_iload_n 1 dX3_away_34 rfl rfl ?_
  refine g_icmp_gt 86 dX3_away_35 (by decide) ?_ ?_
  · exact g_jmp (hk0 _ _) rfl
  · refine g_iload_n 3 dX3_away_38 rfl rfl ?_
    refine g_iload_n 1 dX3_away_39 rfl rfl ?_
    refine g_iconst (-1) dX3_away_40 (by decide) ?_
    refine g_ixor dX3_away_41 ?_
    refine g_iand dX3_away_42 ?_
    refine g_jn (fun j5 => ∀ (a4 : Int32) (σ : Hp), GG X mi_X3_away (QM X rI) 80 [(0, vA v0), (1, vI v1), (2, vI a4), (3, vI a.2)] [] σ (j5 a4 σ)) ?_ ?_
    · intro a4 σ
      refine g_iinc 1 dX3_away_80 (by decide) rfl (lt_b rfl) ?_
      refine g_goto 33 dX3_away_83 (by decide) ?_
      exact g_jmp (hag _ _) rfl
    · intro j5 hj5
      refine g_if_ne 80 dX3_away_43 (by decide) ?_ ?_
      · exact g_jmp (hj5 _ _) rfl
      · refine g_aload_n 0 dX3_away_46 rfl rfl ?_
        refine g_getR fo_2_41 q1097 dX3_away_47 fun y6 => ?_
        refine g_iload_n 1 dX3_away_50 rfl rfl ?_
        refine g_iload_n 3 dX3_away_51 rfl rfl ?_
        refine g_iconst (-1) dX3_away_52 (by decide) ?_
        refine g_ixor dX3_away_53 ?_
        refine g_iand dX3_away_54 ?_
        refine g_zaload dX3_away_55 fun x7 => ?_
        refine g_if_ne 62 dX3_away_56 (by decide) ?_ ?_
        · refine g_iload_n 2 dX3_away_62 rfl rfl ?_
          refine g_iconst (-1) dX3_away_63 (by decide) ?_
          refine g_jn (fun j9 => ∀ (a8 : Unit) (σ : Hp), GG X mi_X3_away (QM X rI) 78 [(0, vA v0), (1, vI v1), (3, vI a.2)] [] σ (j9 a8 σ)) ?_ ?_
          · intro a8 σ
            refine g_iload_n 3 dX3_away_78 rfl rfl ?_
            refine g_istore_n 2 dX3_away_79 rfl (lt_b rfl) ?_
            exact g_jmp (hj5 _ _) rfl
          · intro j9 hj9
            refine g_icmp_eq 78 dX3_away_64 (by decide) ?_ ?_
            · exact g_jmp (hj9 _ _) rfl
            · refine g_iload_n 3 dX3_away_67 rfl rfl ?_
              refine g_callS_I (mm_J10_bitCount _ _) rfl q1328 q600 q125 q601 dd_J10_bitCount rfl (Nat.le_of_ble_eq_true rfl) (Nat.le_of_ble_eq_true rfl) (Nat.le_of_ble_eq_true rfl) dX3_away_68 fun x10 σ => ?_
              refine g_iload_n 2 dX3_away_71 rfl rfl ?_
              refine g_callS_I (mm_J10_bitCount _ _) rfl q1328 q600 q125 q601 dd_J10_bitCount rfl (Nat.le_of_ble_eq_true rfl) (Nat.le_of_ble_eq_true rfl) (Nat.le_of_ble_eq_true rfl) dX3_away_72 fun x11 σ => ?_
              refine g_icmp_le 80 dX3_away_75 (by decide) ?_ ?_
              · exact g_jmp (hj5 _ _) rfl
              · exact g_jmp (hj9 _ _) rfl
        · refine g_goto 80 dX3_away_59 (by decide) ?_
          exact g_jmp (hj5 _ _) rfl
theorem mm_X3_away (v0 : Option Nat) (σ : Hp) : MM yX3_away mi_X3_away rI [vA v0] σ (f_X3_away v0 σ) := by
  refine mm_of (by decide +kernel) rfl rfl (Nat.le_of_ble_eq_true rfl) ?_
  intro X
  unfold f_X3_away
  refine g_aload_n 0 dX3_away_0 rfl rfl ?_
  refine g_iconst 0 dX3_away_1 (by decide) ?_
  refine g_putI fo_2_11 (by decide) rfl q1067 dX3_away_2 fun σ => ?_
  refine g_aload_n 0 dX3_away_5 rfl rfl ?_
  refine g_callV_V (mm_X3_layCanBe _ _) rfl zc_2 q1495 q1497 qs94 q109 q1498 dv_X3_layCanBe rfl (Nat.le_of_ble_eq_true rfl) (Nat.le_of_ble_eq_true rfl) (Nat.le_of_ble_eq_true rfl) dX3_away_6 fun _ σ => ?_
  refine g_iconst 1 dX3_away_9 (by decide) ?_
  refine g_aload_n 0 dX3_away_10 rfl rfl ?_
  refine g_getI fo_2_3 (by decide) q1059 dX3_away_11 fun x1 => ?_
  refine g_ishl dX3_away_14 ?_
  refine g_iconst 1 dX3_away_15 (by decide) ?_
  refine g_isub dX3_away_16 ?_
  refine g_aload_n 0 dX3_away_17 rfl rfl ?_
  refine g_aload_n 0 dX3_away_18 rfl rfl ?_
  refine g_getR fo_2_0 q1056 dX3_away_19 fun y2 => ?_
  refine g_callV_I (mm_X3_illBits _ _ _) rfl zc_2 q1362 q1364 qs72 q109 q1365 dv_X3_illBits rfl (Nat.le_of_ble_eq_true rfl) (Nat.le_of_ble_eq_true rfl) (Nat.le_of_ble_eq_true rfl) dX3_away_22 fun x3 σ => ?_
  refine g_iconst (-1) dX3_away_25 (by decide) ?_
  refine g_ixor dX3_away_26 ?_
  refine g_iand dX3_away_27 ?_
  refine g_istore_n 1 dX3_away_28 rfl (lt_b rfl) ?_
  refine g_iconst (-1) dX3_away_29 (by decide) ?_
  refine g_istore_n 2 dX3_away_30 rfl (lt_b rfl) ?_
  refine g_iconst 0 dX3_away_31 (by decide) ?_
  refine g_istore_n 3 dX3_away_32 rfl (lt_b rfl) ?_
  refine g_jmp (ok_X3_away_b33 X v0 (((shl 1 x1) - 1) &&& (x3 ^^^ (-1))) ?_ _ _ _) rfl
  · intro a12 σ
    refine g_iload_n 2 dX3_away_86 rfl rfl ?_
    refine g_iconst (-1) dX3_away_87 (by decide) ?_
    refine g_icmp_ne 94 dX3_away_88 (by decide) ?_ ?_
    · refine g_aload_n 0 dX3_away_94 rfl rfl ?_
      refine g_iconst 0 dX3_away_95 (by decide) ?_
      refine g_putI fo_2_10 (by decide) rfl q1066 dX3_away_96 fun σ => ?_
      refine g_aload_n 0 dX3_away_99 rfl rfl ?_
      refine g_iload_n 2 dX3_away_100 rfl rfl ?_
      refine g_i2l dX3_away_101 ?_
      refine g_callV_V (mm_X3_tell _ _ _) rfl zc_2 q1382 q1384 qs75 q109 q1385 dv_X3_tell rfl (Nat.le_of_ble_eq_true rfl) (Nat.le_of_ble_eq_true rfl) (Nat.le_of_ble_eq_true rfl) dX3_away_102 fun _ σ => ?_
      refine g_iload_n 2 dX3_away_105 rfl rfl ?_
      refine g_callS_I (mm_J10_bitCount _ _) rfl q1328 q600 q125 q601 dd_J10_bitCount rfl (Nat.le_of_ble_eq_true rfl) (Nat.le_of_ble_eq_true rfl) (Nat.le_of_ble_eq_true rfl) dX3_away_106 fun x13 σ => ?_
      exact g_iret rfl dX3_away_109
    · refine g_bipush (-2) dX3_away_91 (by decide) ?_
      exact g_iret rfl dX3_away_93
theorem dd_X3_away : yX3_away.cls ≠ "java/lang/invoke/MethodHandle" ∧ yX3_away.cls ≠ "java/lang/invoke/VarHandle" ∧ (parseMethodDescriptor yX3_away.desc).map (fun d => d.parameters.length) = some 0 := by decide +kernel
theorem dv_X3_away : yX3_away.cls = RX3 ∧ yX3_away.cls ≠ "java/lang/invoke/MethodHandle" ∧ yX3_away.cls ≠ "java/lang/invoke/VarHandle" ∧ (parseMethodDescriptor yX3_away.desc).map (fun d => d.parameters.length) = some 0 := ⟨rfl, dd_X3_away⟩
/-! RockingHorseModel.able(I)I -/
abbrev mi_X3_able : Mi := (cX3_able, 6, "RockingHorseModel", 205, some .int, "able")
def f_X3_able_b37 (v0 : Option Nat) (v1 : Int32) (v2 : Int32) (k0 : Int32 → Hp → Option (Int32 × Hp)) (ag : (Int32 × Int32) → Hp → Option (Int32 × Hp)) (a : Int32 × Int32) (σ : Hp) : Option (Int32 × Hp) :=
  gI 2 3 σ v0 fun x3 =>
  if x3 ≤ a.2 then
    k0 a.1 σ
  else
    bnd (f_X3_has v2 a.2 σ) fun x4 σ =>
    jn (fun (a5 : Int32) σ =>
        ag (a5, (a.2 + 1)) σ) fun j6 =>
    if x4 = 0 then
      gR 2 0 σ v0 fun y7 =>
      lI 100 σ y7 (16 + a.2) fun x8 =>
      if x8 = 1 then
        j6 a.1 σ
      else
        gR 2 6 σ v0 fun y9 =>
        lI 100 σ y9 a.2 fun x10 =>
        bnd (f_X3_has x10 v1 σ) fun x11 σ =>
        if x11 = 0 then
          j6 a.1 σ
        else
          jn (fun (a12 : Unit) σ =>
              j6 a.2 σ) fun j13 =>
          if a.1 = (-1) then
            j13 () σ
          else
            gR 2 0 σ v0 fun y14 =>
            ob 2 σ v0 fun _ => bnd (f_X3_hardOf v0 y14 a.2 v1 σ) fun x15 σ =>
            gR 2 0 σ v0 fun y16 =>
            ob 2 σ v0 fun _ => bnd (f_X3_hardOf v0 y16 a.1 v1 σ) fun x17 σ =>
            if x17 ≤ x15 then
              j6 a.1 σ
            else
              j13 () σ
    else
      j6 a.1 σ
def f_X3_able_b23 (v0 : Option Nat) (v1 : Int32) (k0 : Unit → Hp → Option (Int32 × Hp)) (ag : (Int32 × Int32) → Hp → Option (Int32 × Hp)) (a : Int32 × Int32) (σ : Hp) : Option (Int32 × Hp) :=
  gI 2 3 σ v0 fun x2 =>
  if x2 ≤ a.2 then
    k0 () σ
  else
    lp 2000 (f_X3_able_b37 v0 v1 a.1 (fun (a18 : Int32) σ =>
        jn (fun (a19 : Int32) σ =>
            ag (a19, (a.2 + 1)) σ) fun j20 =>
        if a18 = (-1) then
          j20 a.1 σ
        else
          ob 2 σ v0 fun _ => bnd (f_X3_tell v0 (Int32.toInt64 a18) σ) fun _ σ =>
          j20 (a.1 ||| (shl 1 a18)) σ)) ((-1), 0) σ
def f_X3_able (v0 : Option Nat) (v1 : Int32) (σ : Hp) : Option (Int32 × Hp) :=
  pI 0 2 11 σ v0 0 fun σ =>
  bnd (f_X3_isHour v1 σ) fun x1 σ =>
  if x1 = 0 then
    some ((-1), σ)
  else
    pI 0 2 10 σ v0 0 fun σ =>
    lp 2000 (f_X3_able_b23 v0 v1 (fun (a21 : Unit) σ =>
        gI 2 10 σ v0 fun x22 =>
        some (x22, σ))) (0, 0) σ
theorem ok_X3_able_b37 (X : Mx) (v0 : Option Nat) (v1 : Int32) (v2 : Int32) (v3 : Int32) {k0 : Int32 → Hp → Option (Int32 × Hp)} (hk0 : ∀ (a : Int32) (σ : Hp), GG X mi_X3_able (QM X rI) 127 [(0, vA v0), (1, vI v1), (2, vI v2), (3, vI v3), (4, vI a)] [] σ (k0 a σ)) : ∀ (m : Nat) (a : Int32 × Int32) (σ : Hp), GG X mi_X3_able (QM X rI) 37 [(0, vA v0), (1, vI v1), (2, vI v2), (3, vI v3), (4, vI a.1), (5, vI a.2)] [] σ (lp m (f_X3_able_b37 v0 v1 v2 k0) a σ) := by
  refine g_lp (fun (a : Int32 × Int32) => [(0, vA v0), (1, vI v1), (2, vI v2), (3, vI v3), (4, vI a.1), (5, vI a.2)]) ?_
  intro ag hag a σ
  unfold f_X3_able_b37
  refine g_iload dX3_able_37 rfl ?_
  refine g_aload_n 0 dX3_able_39 rfl rfl ?_
  refine g_getI fo_2_3 (by decide) q1059 dX3_able_40 fun x3 => ?_
  refine g_icmp_ge 127 dX3_able_43 (by decide) ?_ ?_
  · exact g_jmp (hk0 _ _) rfl
  · refine g_iload_n 2 dX3_able_46 rfl rfl ?_
    refine g_iload dX3_able_47 rfl ?_
    refine g_callS_I (mm_X3_has _ _ _) rfl q1378 q1379 q109 q1380 dd_X3_has rfl (Nat.le_of_ble_eq_true rfl) (Nat.le_of_ble_eq_true rfl) (Nat.le_of_ble_eq_true rfl) dX3_able_49 fun x4 σ => ?_
    refine g_jn (fun j6 => ∀ (a5 : Int32) (σ : Hp), GG X mi_X3_able (QM X rI) 121 [(0, vA v0), (1, vI v1), (2, vI v2), (3, vI v3), (4, vI a5), (5, vI a.2)] [] σ (j6 a5 σ)) ?_ ?_
    · intro a5 σ
      refine g_iinc 1 dX3_able_121 (by decide) rfl (lt_b rfl) ?_
      refine g_goto 37 dX3_able_124 (by decide) ?_
      exact g_jmp (hag _ _) rfl
    · intro j6 hj6
      refine g_if_ne 121 dX3_able_52 (by decide) ?_ ?_
      · exact g_jmp (hj6 _ _) rfl
      · refine g_aload_n 0 dX3_able_55 rfl rfl ?_
        refine g_getR fo_2_0 q1056 dX3_able_56 fun y7 => ?_
        refine g_bipush 16 dX3_able_59 (by decide) ?_
        refine g_iload dX3_able_61 rfl ?_
        refine g_iadd dX3_able_63 ?_
        refine g_iaload dX3_able_64 fun x8 => ?_
        refine g_iconst 1 dX3_able_65 (by decide) ?_
        refine g_icmp_eq 121 dX3_able_66 (by decide) ?_ ?_
        · exact g_jmp (hj6 _ _) rfl
        · refine g_aload_n 0 dX3_able_69 rfl rfl ?_
          refine g_getR fo_2_6 q1062 dX3_able_70 fun y9 => ?_
          refine g_iload dX3_able_73 rfl ?_
          refine g_iaload dX3_able_75 fun x10 => ?_
          refine g_iload_n 1 dX3_able_76 rfl rfl ?_
          refine g_callS_I (mm_X3_has _ _ _) rfl q1378 q1379 q109 q1380 dd_X3_has rfl (Nat.le_of_ble_eq_true rfl) (Nat.le_of_ble_eq_true rfl) (Nat.le_of_ble_eq_true rfl) dX3_able_77 fun x11 σ => ?_
          refine g_if_ne 86 dX3_able_80 (by decide) ?_ ?_
          · refine g_iload dX3_able_86 rfl ?_
            refine g_iconst (-1) dX3_able_88 (by decide) ?_
            refine g_jn (fun j13 => ∀ (a12 : Unit) (σ : Hp), GG X mi_X3_able (QM X rI) 117 [(0, vA v0), (1, vI v1), (2, vI v2), (3, vI v3), (5, vI a.2)] [] σ (j13 a12 σ)) ?_ ?_
            · intro a12 σ
              refine g_iload dX3_able_117 rfl ?_
              refine g_istore dX3_able_119 (lt_b rfl) ?_
              exact g_jmp (hj6 _ _) rfl
            · intro j13 hj13
              refine g_icmp_eq 117 dX3_able_89 (by decide) ?_ ?_
              · exact g_jmp (hj13 _ _) rfl
              · refine g_aload_n 0 dX3_able_92 rfl rfl ?_
                refine g_aload_n 0 dX3_able_93 rfl rfl ?_
                refine g_getR fo_2_0 q1056 dX3_able_94 fun y14 => ?_
                refine g_iload dX3_able_97 rfl ?_
                refine g_iload_n 1 dX3_able_99 rfl rfl ?_
                refine g_callV_I (mm_X3_hardOf _ _ _ _ _) rfl zc_2 q1324 q1326 qs69 q109 q1327 dv_X3_hardOf rfl (Nat.le_of_ble_eq_true rfl) (Nat.le_of_ble_eq_true rfl) (Nat.le_of_ble_eq_true rfl) dX3_able_100 fun x15 σ => ?_
                refine g_aload_n 0 dX3_able_103 rfl rfl ?_
                refine g_aload_n 0 dX3_able_104 rfl rfl ?_
                refine g_getR fo_2_0 q1056 dX3_able_105 fun y16 => ?_
                refine g_iload dX3_able_108 rfl ?_
                refine g_iload_n 1 dX3_able_110 rfl rfl ?_
                refine g_callV_I (mm_X3_hardOf _ _ _ _ _) rfl zc_2 q1324 q1326 qs69 q109 q1327 dv_X3_hardOf rfl (Nat.le_of_ble_eq_true rfl) (Nat.le_of_ble_eq_true rfl) (Nat.le_of_ble_eq_true rfl) dX3_able_111 fun x17 σ => ?_
                refine g_icmp_ge 121 dX3_able_114 (by decide) ?_ ?_
                · exact g_jmp (hj6 _ _) rfl
                · exact g_jmp (hj13 _ _) rfl
          · refine g_goto 121 dX3_able_83 (by decide) ?_
            exact g_jmp (hj6 _ _) rfl
theorem ok_X3_able_b23 (X : Mx) (v0 : Option Nat) (v1 : Int32) {k0 : Unit → Hp → Option (Int32 × Hp)} (hk0 : ∀ (a : Unit) (σ : Hp), GG X mi_X3_able (QM X rI) 156 [(0, vA v0)] [] σ (k0 a σ)) : ∀ (m : Nat) (a : Int32 × Int32) (σ : Hp), GG X mi_X3_able (QM X rI) 23 [(0, vA v0), (1, vI v1), (2, vI a.1), (3, vI a.2)] [] σ (lp m (f_X3_able_b23 v0 v1 k0) a σ) := by
  refine g_lp (fun (a : Int32 × Int32) => [(0, vA v0), (1, vI v1), (2, vI a.1), (3, vI a.2)]) ?_
  intro ag hag a σ
  unfold f_X3_able_b23
  refine g_iload_n 3 dX3_able_23 rfl rfl ?_
  refine g_aload_n 0 dX3_able_24 rfl rfl ?_
  refine g_getI fo_2_3 (by decide) q1059 dX3_able_25 fun x2 => ?_
  refine g_icmp_ge 156 dX3_able_28 (by decide) ?_ ?_
  · exact g_jmp (hk0 _ _) rfl
  · refine g_iconst (-1) dX3_able_31 (by decide) ?_
    refine g_istore dX3_able_32 (lt_b rfl) ?_
    refine g_iconst 0 dX3_able_34 (by decide) ?_
    refine g_istore dX3_able_35 (lt_b rfl) ?_
    refine g_jmp (ok_X3_able_b37 X v0 v1 a.1 a.2 ?_ _ _ _) rfl
    · intro a18 σ
      refine g_iload dX3_able_127 rfl ?_
      refine g_iconst (-1) dX3_able_129 (by decide) ?_
      refine g_jn (fun j20 => ∀ (a19 : Int32) (σ : Hp), GG X mi_X3_able (QM X rI) 150 [(0, vA v0), (1, vI v1), (2, vI a19), (3, vI a.2)] [] σ (j20 a19 σ)) ?_ ?_
      · intro a19 σ
        refine g_iinc 1 dX3_able_150 (by decide) rfl (lt_b rfl) ?_
        refine g_goto 23 dX3_able_153 (by decide) ?_
        exact g_jmp (hag _ _) rfl
      · intro j20 hj20
        refine g_icmp_ne 136 dX3_able_130 (by decide) ?_ ?_
        · refine g_aload_n 0 dX3_able_136 rfl rfl ?_
          refine g_iload dX3_able_137 rfl ?_
          refine g_i2l dX3_able_139 ?_
          refine g_callV_V (mm_X3_tell _ _ _) rfl zc_2 q1382 q1384 qs75 q109 q1385 dv_X3_tell rfl (Nat.le_of_ble_eq_true rfl) (Nat.le_of_ble_eq_true rfl) (Nat.le_of_ble_eq_true rfl) dX3_able_140 fun _ σ => ?_
          refine g_iload_n 2 dX3_able_143 rfl rfl ?_
          refine g_iconst 1 dX3_able_144 (by decide) ?_
          refine g_iload dX3_able_145 rfl ?_
          refine g_ishl dX3_able_147 ?_
          refine g_ior dX3_able_148 ?_
          refine g_istore_n 2 dX3_able_149 rfl (lt_b rfl) ?_
          exact g_jmp (hj20 _ _) rfl
        · refine g_goto 150 dX3_able_133 (by decide) ?_
          exact g_jmp (hj20 _ _) rfl
theorem mm_X3_able (v0 : Option Nat) (v1 : Int32) (σ : Hp) : MM yX3_able mi_X3_able rI [vA v0, vI v1] σ (f_X3_able v0 v1 σ) := by
  refine mm_of (by decide +kernel) rfl rfl (Nat.le_of_ble_eq_true rfl) ?_
  intro X
  unfold f_X3_able
  refine g_aload_n 0 dX3_able_0 rfl rfl ?_
  refine g_iconst 0 dX3_able_1 (by decide) ?_
  refine g_putI fo_2_11 (by decide) rfl q1067 dX3_able_2 fun σ => ?_
  refine g_iload_n 1 dX3_able_5 rfl rfl ?_
  refine g_callS_I (mm_X3_isHour _ _) rfl q1321 q1322 q109 q1323 dd_X3_isHour rfl (Nat.le_of_ble_eq_true rfl) (Nat.le_of_ble_eq_true rfl) (Nat.le_of_ble_eq_true rfl) dX3_able_6 fun x1 σ => ?_
  refine g_if_ne 14 dX3_able_9 (by decide) ?_ ?_
  · refine g_iconst 0 dX3_able_14 (by decide) ?_
    refine g_istore_n 2 dX3_able_15 rfl (lt_b rfl) ?_
    refine g_aload_n 0 dX3_able_16 rfl rfl ?_
    refine g_iconst 0 dX3_able_17 (by decide) ?_
    refine g_putI fo_2_10 (by decide) rfl q1066 dX3_able_18 fun σ => ?_
    refine g_iconst 0 dX3_able_21 (by decide) ?_
    refine g_istore_n 3 dX3_able_22 rfl (lt_b rfl) ?_
    refine g_jmp (ok_X3_able_b23 X v0 v1 ?_ _ _ _) rfl
    · intro a21 σ
      refine g_aload_n 0 dX3_able_156 rfl rfl ?_
      refine g_getI fo_2_10 (by decide) q1066 dX3_able_157 fun x22 => ?_
      exact g_iret rfl dX3_able_160
  · refine g_iconst (-1) dX3_able_12 (by decide) ?_
    exact g_iret rfl dX3_able_13
theorem dd_X3_able : yX3_able.cls ≠ "java/lang/invoke/MethodHandle" ∧ yX3_able.cls ≠ "java/lang/invoke/VarHandle" ∧ (parseMethodDescriptor yX3_able.desc).map (fun d => d.parameters.length) = some 1 := by decide +kernel
theorem dv_X3_able : yX3_able.cls = RX3 ∧ yX3_able.cls ≠ "java/lang/invoke/MethodHandle" ∧ yX3_able.cls ≠ "java/lang/invoke/VarHandle" ∧ (parseMethodDescriptor yX3_able.desc).map (fun d => d.parameters.length) = some 1 := ⟨rfl, dd_X3_able⟩
/-! RockingHorseModel.spent(I)I -/
abbrev mi_X3_spent : Mi := (cX3_spent, 6, "RockingHorseModel", 205, some .int, "spent")
def f_X3_spent_b37 (v0 : Option Nat) (v1 : Int32) (v4 : Int32) (k0 : (Int32 × Int32) → Hp → Option (Int32 × Hp)) (ag : (Int32 × Int32 × Int32) → Hp → Option (Int32 × Hp)) (a : Int32 × Int32 × Int32) (σ : Hp) : Option (Int32 × Hp) :=
  if 8 ≤ a.2.2 then
    k0 (a.1, a.2.1) σ
  else
    gR 2 6 σ v0 fun y3 =>
    lI 100 σ y3 v4 fun x4 =>
    bnd (f_X3_has x4 a.2.2 σ) fun x5 σ =>
    jn (fun (a6 : Int32 × Int32) σ =>
        ag (a6.1, a6.2, (a.2.2 + 1)) σ) fun j7 =>
    if x5 = 0 then
      j7 (a.1, a.2.1) σ
    else
      gR 2 0 σ v0 fun y8 =>
      ob 2 σ v0 fun _ => bnd (f_X3_hardOf v0 y8 v4 a.2.2 σ) fun x9 σ =>
      if v1 < x9 then
        gR 2 0 σ v0 fun y10 =>
        ob 2 σ v0 fun _ => bnd (f_X3_hardOf v0 y10 v4 a.2.2 σ) fun x11 σ =>
        j7 ((a.1 ||| (shl 1 v4)), (imax a.2.1 x11)) σ
      else
        j7 (a.1, a.2.1) σ
def f_X3_spent_b25 (v0 : Option Nat) (v1 : Int32) (k0 : (Int32 × Int32) → Hp → Option (Int32 × Hp)) (ag : (Int32 × Int32 × Int32) → Hp → Option (Int32 × Hp)) (a : Int32 × Int32 × Int32) (σ : Hp) : Option (Int32 × Hp) :=
  gI 2 3 σ v0 fun x2 =>
  if x2 ≤ a.2.2 then
    k0 (a.1, a.2.1) σ
  else
    lp 2000 (f_X3_spent_b37 v0 v1 a.2.2 (fun (a12 : Int32 × Int32) σ =>
        ag (a12.1, a12.2, (a.2.2 + 1)) σ)) (a.1, a.2.1, 0) σ
def f_X3_spent (v0 : Option Nat) (v1 : Int32) (σ : Hp) : Option (Int32 × Hp) :=
  pI 0 2 11 σ v0 0 fun σ =>
  bnd (f_X3_in v1 0 999 σ) fun x1 σ =>
  if x1 = 0 then
    some ((-1), σ)
  else
    lp 2000 (f_X3_spent_b25 v0 v1 (fun (a13 : Int32 × Int32) σ =>
        pI 0 2 10 σ v0 0 fun σ =>
        bnd (f_J10_bitCount a13.1 σ) fun x14 σ =>
        ob 2 σ v0 fun _ => bnd (f_X3_tell v0 (Int32.toInt64 x14) σ) fun _ σ =>
        ob 2 σ v0 fun _ => bnd (f_X3_tell v0 (Int32.toInt64 a13.2) σ) fun _ σ =>
        some (a13.1, σ))) (0, 0, 0) σ
theorem ok_X3_spent_b37 (X : Mx) (v0 : Option Nat) (v1 : Int32) (v4 : Int32) {k0 : (Int32 × Int32) → Hp → Option (Int32 × Hp)} (hk0 : ∀ (a : Int32 × Int32) (σ : Hp), GG X mi_X3_spent (QM X rI) 108 [(0, vA v0), (1, vI v1), (2, vI a.1), (3, vI a.2), (4, vI v4)] [] σ (k0 a σ)) : ∀ (m : Nat) (a : Int32 × Int32 × Int32) (σ : Hp), GG X mi_X3_spent (QM X rI) 37 [(0, vA v0), (1, vI v1), (2, vI a.1), (3, vI a.2.1), (4, vI v4), (5, vI a.2.2)] [] σ (lp m (f_X3_spent_b37 v0 v1 v4 k0) a σ) := by
  refine g_lp (fun (a : Int32 × Int32 × Int32) => [(0, vA v0), (1, vI v1), (2, vI a.1), (3, vI a.2.1), (4, vI v4), (5, vI a.2.2)]) ?_
  intro ag hag a σ
  unfold f_X3_spent_b37
  refine g_iload dX3_spent_37 rfl ?_
  refine g_bipush 8 dX3_spent_39 (by decide) ?_
  refine g_icmp_ge 108 dX3_spent_41 (by decide) ?_ ?_
  · exact g_jmp (hk0 _ _) rfl
  · refine g_aload_n 0 dX3_spent_44 rfl rfl ?_
    refine g_getR fo_2_6 q1062 dX3_spent_45 fun y3 => ?_
    refine g_iload dX3_spent_48 rfl ?_
    refine g_iaload dX3_spent_50 fun x4 => ?_
    refine g_iload dX3_spent_51 rfl ?_
    refine g_callS_I (mm_X3_has _ _ _) rfl q1378 q1379 q109 q1380 dd_X3_has rfl (Nat.le_of_ble_eq_true rfl) (Nat.le_of_ble_eq_true rfl) (Nat.le_of_ble_eq_true rfl) dX3_spent_53 fun x5 σ => ?_
    refine g_jn (fun j7 => ∀ (a6 : Int32 × Int32) (σ : Hp), GG X mi_X3_spent (QM X rI) 102 [(0, vA v0), (1, vI v1), (2, vI a6.1), (3, vI a6.2), (4, vI v4), (5, vI a.2.2)] [] σ (j7 a6 σ)) ?_ ?_
    · intro a6 σ
      refine g_iinc 1 dX3_spent_102 (by decide) rfl (lt_b rfl) ?_
      refine g_goto 37 dX3_spent_105 (by decide) ?_
      exact g_jmp (hag _ _) rfl
    · intro j7 hj7
      refine g_if_eq 102 dX3_spent_56 (by decide) ?_ ?_
      · exact g_jmp (hj7 _ _) rfl
      · refine g_aload_n 0 dX3_spent_59 rfl rfl ?_
        refine g_aload_n 0 dX3_spent_60 rfl rfl ?_
        refine g_getR fo_2_0 q1056 dX3_spent_61 fun y8 => ?_
        refine g_iload dX3_spent_64 rfl ?_
        refine g_iload dX3_spent_66 rfl ?_
        refine g_callV_I (mm_X3_hardOf _ _ _ _ _) rfl zc_2 q1324 q1326 qs69 q109 q1327 dv_X3_hardOf rfl (Nat.le_of_ble_eq_true rfl) (Nat.le_of_ble_eq_true rfl) (Nat.le_of_ble_eq_true rfl) dX3_spent_68 fun x9 σ => ?_
        refine g_iload_n 1 dX3_spent_71 rfl rfl ?_
        refine g_icmp_gt 78 dX3_spent_72 (by decide) ?_ ?_
        · refine g_iload_n 2 dX3_spent_78 rfl rfl ?_
          refine g_iconst 1 dX3_spent_79 (by decide) ?_
          refine g_iload dX3_spent_80 rfl ?_
          refine g_ishl dX3_spent_82 ?_
          refine g_ior dX3_spent_83 ?_
          refine g_istore_n 2 dX3_spent_84 rfl (lt_b rfl) ?_
          refine g_iload_n 3 dX3_spent_85 rfl rfl ?_
          refine g_aload_n 0 dX3_spent_86 rfl rfl ?_
          refine g_aload_n 0 dX3_spent_87 rfl rfl ?_
          refine g_getR fo_2_0 q1056 dX3_spent_88 fun y10 => ?_
          refine g_iload dX3_spent_91 rfl ?_
          refine g_iload dX3_spent_93 rfl ?_
          refine g_callV_I (mm_X3_hardOf _ _ _ _ _) rfl zc_2 q1324 q1326 qs69 q109 q1327 dv_X3_hardOf rfl (Nat.le_of_ble_eq_true rfl) (Nat.le_of_ble_eq_true rfl) (Nat.le_of_ble_eq_true rfl) dX3_spent_95 fun x11 σ => ?_
          refine g_mmax q1330 (by decide) (Nat.le_of_ble_eq_true rfl) dX3_spent_98 ?_
          refine g_istore_n 3 dX3_spent_101 rfl (lt_b rfl) ?_
          exact g_jmp (hj7 _ _) rfl
        · refine g_goto 102 dX3_spent_75 (by decide) ?_
          exact g_jmp (hj7 _ _) rfl
theorem ok_X3_spent_b25 (X : Mx) (v0 : Option Nat) (v1 : Int32) {k0 : (Int32 × Int32) → Hp → Option (Int32 × Hp)} (hk0 : ∀ (a : Int32 × Int32) (σ : Hp), GG X mi_X3_spent (QM X rI) 114 [(0, vA v0), (2, vI a.1), (3, vI a.2)] [] σ (k0 a σ)) : ∀ (m : Nat) (a : Int32 × Int32 × Int32) (σ : Hp), GG X mi_X3_spent (QM X rI) 25 [(0, vA v0), (1, vI v1), (2, vI a.1), (3, vI a.2.1), (4, vI a.2.2)] [] σ (lp m (f_X3_spent_b25 v0 v1 k0) a σ) := by
  refine g_lp (fun (a : Int32 × Int32 × Int32) => [(0, vA v0), (1, vI v1), (2, vI a.1), (3, vI a.2.1), (4, vI a.2.2)]) ?_
  intro ag hag a σ
  unfold f_X3_spent_b25
  refine g_iload dX3_spent_25 rfl ?_
  refine g_aload_n 0 dX3_spent_27 rfl rfl ?_
  refine g_getI fo_2_3 (by decide) q1059 dX3_spent_28 fun x2 => ?_
  refine g_icmp_ge 114 dX3_spent_31 (by decide) ?_ ?_
  · exact g_jmp (hk0 _ _) rfl
  · refine g_iconst 0 dX3_spent_34 (by decide) ?_
    refine g_istore dX3_spent_35 (lt_b rfl) ?_
    refine g_jmp (ok_X3_spent_b37 X v0 v1 a.2.2 ?_ _ _ _) rfl
    · intro a12 σ
      refine g_iinc 1 dX3_spent_108 (by decide) rfl (lt_b rfl) ?_
      refine g_goto 25 dX3_spent_111 (by decide) ?_
      exact g_jmp (hag _ _) rfl
theorem mm_X3_spent (v0 : Option Nat) (v1 : Int32) (σ : Hp) : MM yX3_spent mi_X3_spent rI [vA v0, vI v1] σ (f_X3_spent v0 v1 σ) := by
  refine mm_of (by decide +kernel) rfl rfl (Nat.le_of_ble_eq_true rfl) ?_
  intro X
  unfold f_X3_spent
  refine g_aload_n 0 dX3_spent_0 rfl rfl ?_
  refine g_iconst 0 dX3_spent_1 (by decide) ?_
  refine g_putI fo_2_11 (by decide) rfl q1067 dX3_spent_2 fun σ => ?_
  refine g_iload_n 1 dX3_spent_5 rfl rfl ?_
  refine g_iconst 0 dX3_spent_6 (by decide) ?_
  refine g_sipush 999 dX3_spent_7 (by decide) ?_
  refine g_callS_I (mm_X3_in _ _ _ _) rfl q1223 q1224 q109 q1225 dd_X3_in rfl (Nat.le_of_ble_eq_true rfl) (Nat.le_of_ble_eq_true rfl) (Nat.le_of_ble_eq_true rfl) dX3_spent_10 fun x1 σ => ?_
  refine g_if_ne 18 dX3_spent_13 (by decide) ?_ ?_
  · refine g_iconst 0 dX3_spent_18 (by decide) ?_
    refine g_istore_n 2 dX3_spent_19 rfl (lt_b rfl) ?_
    refine g_iconst 0 dX3_spent_20 (by decide) ?_
    refine g_istore_n 3 dX3_spent_21 rfl (lt_b rfl) ?_
    refine g_iconst 0 dX3_spent_22 (by decide) ?_
    refine g_istore dX3_spent_23 (lt_b rfl) ?_
    refine g_jmp (ok_X3_spent_b25 X v0 v1 ?_ _ _ _) rfl
    · intro a13 σ
      refine g_aload_n 0 dX3_spent_114 rfl rfl ?_
      refine g_iconst 0 dX3_spent_115 (by decide) ?_
      refine g_putI fo_2_10 (by decide) rfl q1066 dX3_spent_116 fun σ => ?_
      refine g_aload_n 0 dX3_spent_119 rfl rfl ?_
      refine g_iload_n 2 dX3_spent_120 rfl rfl ?_
      refine g_callS_I (mm_J10_bitCount _ _) rfl q1328 q600 q125 q601 dd_J10_bitCount rfl (Nat.le_of_ble_eq_true rfl) (Nat.le_of_ble_eq_true rfl) (Nat.le_of_ble_eq_true rfl) dX3_spent_121 fun x14 σ => ?_
      refine g_i2l dX3_spent_124 ?_
      refine g_callV_V (mm_X3_tell _ _ _) rfl zc_2 q1382 q1384 qs75 q109 q1385 dv_X3_tell rfl (Nat.le_of_ble_eq_true rfl) (Nat.le_of_ble_eq_true rfl) (Nat.le_of_ble_eq_true rfl) dX3_spent_125 fun _ σ => ?_
      refine g_aload_n 0 dX3_spent_128 rfl rfl ?_
      refine g_iload_n 3 dX3_spent_129 rfl rfl ?_
      refine g_i2l dX3_spent_130 ?_
      refine g_callV_V (mm_X3_tell _ _ _) rfl zc_2 q1382 q1384 qs75 q109 q1385 dv_X3_tell rfl (Nat.le_of_ble_eq_true rfl) (Nat.le_of_ble_eq_true rfl) (Nat.le_of_ble_eq_true rfl) dX3_spent_131 fun _ σ => ?_
      refine g_iload_n 2 dX3_spent_134 rfl rfl ?_
      exact g_iret rfl dX3_spent_135
  · refine g_iconst (-1) dX3_spent_16 (by decide) ?_
    exact g_iret rfl dX3_spent_17
theorem dd_X3_spent : yX3_spent.cls ≠ "java/lang/invoke/MethodHandle" ∧ yX3_spent.cls ≠ "java/lang/invoke/VarHandle" ∧ (parseMethodDescriptor yX3_spent.desc).map (fun d => d.parameters.length) = some 1 := by decide +kernel
theorem dv_X3_spent : yX3_spent.cls = RX3 ∧ yX3_spent.cls ≠ "java/lang/invoke/MethodHandle" ∧ yX3_spent.cls ≠ "java/lang/invoke/VarHandle" ∧ (parseMethodDescriptor yX3_spent.desc).map (fun d => d.parameters.length) = some 1 := ⟨rfl, dd_X3_spent⟩
/-! RockingHorseModel.smoothest()I -/
abbrev mi_X3_smoothest : Mi := (cX3_smoothest, 2, "RockingHorseModel", 206, some .int, "smoothest")
def f_X3_smoothest_b25 (v0 : Option Nat) (k0 : Unit → Hp → Option (Int32 × Hp)) (ag : Int32 → Hp → Option (Int32 × Hp)) (a : Int32) (σ : Hp) : Option (Int32 × Hp) :=
  if 8 ≤ a then
    k0 () σ
  else
    gR 2 29 σ v0 fun y2 =>
    sI σ y2 a 0 fun σ =>
    ag (a + 1) σ
def f_X3_smoothest_b46 (v0 : Option Nat) (k0 : Int32 → Hp → Option (Int32 × Hp)) (ag : Int32 → Hp → Option (Int32 × Hp)) (a : Int32) (σ : Hp) : Option (Int32 × Hp) :=
  ob 2 σ v0 fun _ => bnd (f_X3_goSmooth 20 v0 0 a σ) fun x4 σ =>
  if x4 = 0 then
    ag (a + 1) σ
  else
    k0 a σ
def f_X3_smoothest (v0 : Option Nat) (σ : Hp) : Option (Int32 × Hp) :=
  pI 0 2 11 σ v0 0 fun σ =>
  ob 2 σ v0 fun _ => bnd (f_X3_layMay v0 (-1) σ) fun _ σ =>
  ob 2 σ v0 fun _ => bnd (f_X3_solve v0 2 σ) fun x1 σ =>
  if x1 = 1000000000 then
    some ((-2), σ)
  else
    lp 2000 (f_X3_smoothest_b25 v0 (fun (a3 : Unit) σ =>
        lp 2000 (f_X3_smoothest_b46 v0 (fun (a5 : Int32) σ =>
            ob 2 σ v0 fun _ => bnd (f_X3_tellLine v0 σ) fun _ σ =>
            some (a5, σ))) 0 σ)) 0 σ
theorem ok_X3_smoothest_b25 (X : Mx) (v0 : Option Nat) {k0 : Unit → Hp → Option (Int32 × Hp)} (hk0 : ∀ (a : Unit) (σ : Hp), GG X mi_X3_smoothest (QM X rI) 44 [(0, vA v0)] [] σ (k0 a σ)) : ∀ (m : Nat) (a : Int32) (σ : Hp), GG X mi_X3_smoothest (QM X rI) 25 [(0, vA v0), (1, vI a)] [] σ (lp m (f_X3_smoothest_b25 v0 k0) a σ) := by
  refine g_lp (fun (a : Int32) => [(0, vA v0), (1, vI a)]) ?_
  intro ag hag a σ
  unfold f_X3_smoothest_b25
  refine g_iload_n 1 dX3_smoothest_25 rfl rfl ?_
  refine g_bipush 8 dX3_smoothest_26 (by decide) ?_
  refine g_icmp_ge 44 dX3_smoothest_28 (by decide) ?_ ?_
  · exact g_jmp (hk0 _ _) rfl
  · refine g_aload_n 0 dX3_smoothest_31 rfl rfl ?_
    refine g_getR fo_2_29 q1085 dX3_smoothest_32 fun y2 => ?_
    refine g_iload_n 1 dX3_smoothest_35 rfl rfl ?_
    refine g_iconst 0 dX3_smoothest_36 (by decide) ?_
    refine g_iastore dX3_smoothest_37 fun σ => ?_
    refine g_iinc 1 dX3_smoothest_38 (by decide) rfl (lt_b rfl) ?_
    refine g_goto 25 dX3_smoothest_41 (by decide) ?_
    exact g_jmp (hag _ _) rfl
theorem ok_X3_smoothest_b46 (X : Mx) (v0 : Option Nat) {k0 : Int32 → Hp → Option (Int32 × Hp)} (hk0 : ∀ (a : Int32) (σ : Hp), GG X mi_X3_smoothest (QM X rI) 61 [(0, vA v0), (1, vI a)] [] σ (k0 a σ)) : ∀ (m : Nat) (a : Int32) (σ : Hp), GG X mi_X3_smoothest (QM X rI) 46 [(0, vA v0), (1, vI a)] [] σ (lp m (f_X3_smoothest_b46 v0 k0) a σ) := by
  refine g_lp (fun (a : Int32) => [(0, vA v0), (1, vI a)]) ?_
  intro ag hag a σ
  unfold f_X3_smoothest_b46
  refine g_aload_n 0 dX3_smoothest_46 rfl rfl ?_
  refine g_iconst 0 dX3_smoothest_47 (by decide) ?_
  refine g_iload_n 1 dX3_smoothest_48 rfl rfl ?_
  refine g_callV_I (mm_X3_goSmooth 20 _ _ _ _) rfl zc_2 q1567 q1569 qs98 q109 q1570 dv_X3_goSmooth rfl (Nat.le_of_ble_eq_true rfl) (Nat.le_of_ble_eq_true rfl) (Nat.le_of_ble_eq_true rfl) dX3_smoothest_49 fun x4 σ => ?_
  refine g_if_ne 61 dX3_smoothest_52 (by decide) ?_ ?_
  · exact g_jmp (hk0 _ _) rfl
  · refine g_iinc 1 dX3_smoothest_55 (by decide) rfl (lt_b rfl) ?_
    refine g_goto 46 dX3_smoothest_58 (by decide) ?_
    exact g_jmp (hag _ _) rfl
theorem mm_X3_smoothest (v0 : Option Nat) (σ : Hp) : MM yX3_smoothest mi_X3_smoothest rI [vA v0] σ (f_X3_smoothest v0 σ) := by
  refine mm_of (by decide +kernel) rfl rfl (Nat.le_of_ble_eq_true rfl) ?_
  intro X
  unfold f_X3_smoothest
  refine g_aload_n 0 dX3_smoothest_0 rfl rfl ?_
  refine g_iconst 0 dX3_smoothest_1 (by decide) ?_
  refine g_putI fo_2_11 (by decide) rfl q1067 dX3_smoothest_2 fun σ => ?_
  refine g_aload_n 0 dX3_smoothest_5 rfl rfl ?_
  refine g_iconst (-1) dX3_smoothest_6 (by decide) ?_
  refine g_callV_V (mm_X3_layMay _ _ _) rfl zc_2 q1443 q1445 qs82 q109 q1446 dv_X3_layMay rfl (Nat.le_of_ble_eq_true rfl) (Nat.le_of_ble_eq_true rfl) (Nat.le_of_ble_eq_true rfl) dX3_smoothest_7 fun _ σ => ?_
  refine g_aload_n 0 dX3_smoothest_10 rfl rfl ?_
  refine g_iconst 2 dX3_smoothest_11 (by decide) ?_
  refine g_callV_I (mm_X3_solve _ _ _) rfl zc_2 q1451 q1453 qs84 q109 q1454 dv_X3_solve rfl (Nat.le_of_ble_eq_true rfl) (Nat.le_of_ble_eq_true rfl) (Nat.le_of_ble_eq_true rfl) dX3_smoothest_12 fun x1 σ => ?_
  refine g_ldc dX3_smoothest_15 q1055 ?_
  refine g_icmp_ne 23 dX3_smoothest_17 (by decide) ?_ ?_
  · refine g_iconst 0 dX3_smoothest_23 (by decide) ?_
    refine g_istore_n 1 dX3_smoothest_24 rfl (lt_b rfl) ?_
    refine g_jmp (ok_X3_smoothest_b25 X v0 ?_ _ _ _) rfl
    · intro a3 σ
      refine g_iconst 0 dX3_smoothest_44 (by decide) ?_
      refine g_istore_n 1 dX3_smoothest_45 rfl (lt_b rfl) ?_
      refine g_jmp (ok_X3_smoothest_b46 X v0 ?_ _ _ _) rfl
      · intro a5 σ
        refine g_aload_n 0 dX3_smoothest_61 rfl rfl ?_
        refine g_callV_V (mm_X3_tellLine _ _) rfl zc_2 q1487 q1489 qs93 q109 q1490 dv_X3_tellLine rfl (Nat.le_of_ble_eq_true rfl) (Nat.le_of_ble_eq_true rfl) (Nat.le_of_ble_eq_true rfl) dX3_smoothest_62 fun _ σ => ?_
        refine g_iload_n 1 dX3_smoothest_65 rfl rfl ?_
        exact g_iret rfl dX3_smoothest_66
  · refine g_bipush (-2) dX3_smoothest_20 (by decide) ?_
    exact g_iret rfl dX3_smoothest_22
theorem dd_X3_smoothest : yX3_smoothest.cls ≠ "java/lang/invoke/MethodHandle" ∧ yX3_smoothest.cls ≠ "java/lang/invoke/VarHandle" ∧ (parseMethodDescriptor yX3_smoothest.desc).map (fun d => d.parameters.length) = some 0 := by decide +kernel
theorem dv_X3_smoothest : yX3_smoothest.cls = RX3 ∧ yX3_smoothest.cls ≠ "java/lang/invoke/MethodHandle" ∧ yX3_smoothest.cls ≠ "java/lang/invoke/VarHandle" ∧ (parseMethodDescriptor yX3_smoothest.desc).map (fun d => d.parameters.length) = some 0 := ⟨rfl, dd_X3_smoothest⟩
/-! RockingHorseModel.layFound()V -/
abbrev mi_X3_layFound : Mi := (cX3_layFound, 2, "RockingHorseModel", 206, none, "layFound")
def f_X3_layFound_b7 (v0 : Option Nat) (k0 : Unit → Hp → Option (Unit × Hp)) (ag : Int32 → Hp → Option (Unit × Hp)) (a : Int32) (σ : Hp) : Option (Unit × Hp) :=
  gI 2 45 σ v0 fun x1 =>
  if x1 ≤ a then
    k0 () σ
  else
    gR 2 42 σ v0 fun y2 =>
    lI 100 σ y2 a fun x3 =>
    gI 2 1 σ v0 fun x4 =>
    jn (fun (a5 : Unit) σ =>
        ag (a + 1) σ) fun j6 =>
    if x3 < x4 then
      gI 2 44 σ v0 fun x7 =>
      bnd (f_X3_has x7 a σ) fun x8 σ =>
      if x8 = 0 then
        gR 2 32 σ v0 fun y9 =>
        gR 2 43 σ v0 fun y10 =>
        lI 100 σ y10 a fun x11 =>
        lI 100 σ y9 x11 fun x12 =>
        gR 2 42 σ v0 fun y13 =>
        lI 100 σ y13 a fun x14 =>
        sI σ y9 x11 (x12 &&& ((shl 1 x14) ^^^ (-1))) fun σ =>
        j6 () σ
      else
        gR 2 42 σ v0 fun y15 =>
        lI 100 σ y15 a fun x16 =>
        gR 2 43 σ v0 fun y17 =>
        lI 100 σ y17 a fun x18 =>
        ob 2 σ v0 fun _ => bnd (f_X3_fix v0 x16 x18 σ) fun _ σ =>
        j6 () σ
    else
      j6 () σ
def f_X3_layFound (v0 : Option Nat) (σ : Hp) : Option (Unit × Hp) :=
  ob 2 σ v0 fun _ => bnd (f_X3_layMay v0 (-1) σ) fun _ σ =>
  lp 2000 (f_X3_layFound_b7 v0 (fun (a19 : Unit) σ =>
      some ((), σ))) 0 σ
theorem ok_X3_layFound_b7 (X : Mx) (v0 : Option Nat) {k0 : Unit → Hp → Option (Unit × Hp)} (hk0 : ∀ (a : Unit) (σ : Hp), GG X mi_X3_layFound (QM X rV) 91 [] [] σ (k0 a σ)) : ∀ (m : Nat) (a : Int32) (σ : Hp), GG X mi_X3_layFound (QM X rV) 7 [(0, vA v0), (1, vI a)] [] σ (lp m (f_X3_layFound_b7 v0 k0) a σ) := by
  refine g_lp (fun (a : Int32) => [(0, vA v0), (1, vI a)]) ?_
  intro ag hag a σ
  unfold f_X3_layFound_b7
  refine g_iload_n 1 dX3_layFound_7 rfl rfl ?_
  refine g_aload_n 0 dX3_layFound_8 rfl rfl ?_
  refine g_getI fo_2_45 (by decide) q1101 dX3_layFound_9 fun x1 => ?_
  refine g_icmp_ge 91 dX3_layFound_12 (by decide) ?_ ?_
  · exact g_jmp (hk0 _ _) rfl
  · refine g_aload_n 0 dX3_layFound_15 rfl rfl ?_
    refine g_getR fo_2_42 q1098 dX3_layFound_16 fun y2 => ?_
    refine g_iload_n 1 dX3_layFound_19 rfl rfl ?_
    refine g_iaload dX3_layFound_20 fun x3 => ?_
    refine g_aload_n 0 dX3_layFound_21 rfl rfl ?_
    refine g_getI fo_2_1 (by decide) q1057 dX3_layFound_22 fun x4 => ?_
    refine g_jn (fun j6 => ∀ (a5 : Unit) (σ : Hp), GG X mi_X3_layFound (QM X rV) 85 [(0, vA v0), (1, vI a)] [] σ (j6 a5 σ)) ?_ ?_
    · intro a5 σ
      refine g_iinc 1 dX3_layFound_85 (by decide) rfl (lt_b rfl) ?_
      refine g_goto 7 dX3_layFound_88 (by decide) ?_
      exact g_jmp (hag _ _) rfl
    · intro j6 hj6
      refine g_icmp_lt 31 dX3_layFound_25 (by decide) ?_ ?_
      · refine g_aload_n 0 dX3_layFound_31 rfl rfl ?_
        refine g_getI fo_2_44 (by decide) q1100 dX3_layFound_32 fun x7 => ?_
        refine g_iload_n 1 dX3_layFound_35 rfl rfl ?_
        refine g_callS_I (mm_X3_has _ _ _) rfl q1378 q1379 q109 q1380 dd_X3_has rfl (Nat.le_of_ble_eq_true rfl) (Nat.le_of_ble_eq_true rfl) (Nat.le_of_ble_eq_true rfl) dX3_layFound_36 fun x8 σ => ?_
        refine g_if_eq 61 dX3_layFound_39 (by decide) ?_ ?_
        · refine g_aload_n 0 dX3_layFound_61 rfl rfl ?_
          refine g_getR fo_2_32 q1088 dX3_layFound_62 fun y9 => ?_
          refine g_aload_n 0 dX3_layFound_65 rfl rfl ?_
          refine g_getR fo_2_43 q1099 dX3_layFound_66 fun y10 => ?_
          refine g_iload_n 1 dX3_layFound_69 rfl rfl ?_
          refine g_iaload dX3_layFound_70 fun x11 => ?_
          refine g_dup2 dX3_layFound_71 rfl rfl ?_
          refine g_iaload dX3_layFound_72 fun x12 => ?_
          refine g_iconst 1 dX3_layFound_73 (by decide) ?_
          refine g_aload_n 0 dX3_layFound_74 rfl rfl ?_
          refine g_getR fo_2_42 q1098 dX3_layFound_75 fun y13 => ?_
          refine g_iload_n 1 dX3_layFound_78 rfl rfl ?_
          refine g_iaload dX3_layFound_79 fun x14 => ?_
          refine g_ishl dX3_layFound_80 ?_
          refine g_iconst (-1) dX3_layFound_81 (by decide) ?_
          refine g_ixor dX3_layFound_82 ?_
          refine g_iand dX3_layFound_83 ?_
          refine g_iastore dX3_layFound_84 fun σ => ?_
          exact g_jmp (hj6 _ _) rfl
        · refine g_aload_n 0 dX3_layFound_42 rfl rfl ?_
          refine g_aload_n 0 dX3_layFound_43 rfl rfl ?_
          refine g_getR fo_2_42 q1098 dX3_layFound_44 fun y15 => ?_
          refine g_iload_n 1 dX3_layFound_47 rfl rfl ?_
          refine g_iaload dX3_layFound_48 fun x16 => ?_
          refine g_aload_n 0 dX3_layFound_49 rfl rfl ?_
          refine g_getR fo_2_43 q1099 dX3_layFound_50 fun y17 => ?_
          refine g_iload_n 1 dX3_layFound_53 rfl rfl ?_
          refine g_iaload dX3_layFound_54 fun x18 => ?_
          refine g_callV_V (mm_X3_fix _ _ _ _) rfl zc_2 q1475 q1477 qs90 q109 q1478 dv_X3_fix rfl (Nat.le_of_ble_eq_true rfl) (Nat.le_of_ble_eq_true rfl) (Nat.le_of_ble_eq_true rfl) dX3_layFound_55 fun _ σ => ?_
          refine g_goto 85 dX3_layFound_58 (by decide) ?_
          exact g_jmp (hj6 _ _) rfl
      · refine g_goto 85 dX3_layFound_28 (by decide) ?_
        exact g_jmp (hj6 _ _) rfl
theorem mm_X3_layFound (v0 : Option Nat) (σ : Hp) : MM yX3_layFound mi_X3_layFound rV [vA v0] σ (f_X3_layFound v0 σ) := by
  refine mm_of (by decide +kernel) rfl rfl (Nat.le_of_ble_eq_true rfl) ?_
  intro X
  unfold f_X3_layFound
  refine g_aload_n 0 dX3_layFound_0 rfl rfl ?_
  refine g_iconst (-1) dX3_layFound_1 (by decide) ?_
  refine g_callV_V (mm_X3_layMay _ _ _) rfl zc_2 q1443 q1445 qs82 q109 q1446 dv_X3_layMay rfl (Nat.le_of_ble_eq_true rfl) (Nat.le_of_ble_eq_true rfl) (Nat.le_of_ble_eq_true rfl) dX3_layFound_2 fun _ σ => ?_
  refine g_iconst 0 dX3_layFound_5 (by decide) ?_
  refine g_istore_n 1 dX3_layFound_6 rfl (lt_b rfl) ?_
  refine g_jmp (ok_X3_layFound_b7 X v0 ?_ _ _ _) rfl
  · intro a19 σ
    exact g_vret rfl dX3_layFound_91
theorem dd_X3_layFound : yX3_layFound.cls ≠ "java/lang/invoke/MethodHandle" ∧ yX3_layFound.cls ≠ "java/lang/invoke/VarHandle" ∧ (parseMethodDescriptor yX3_layFound.desc).map (fun d => d.parameters.length) = some 0 := by decide +kernel
theorem dv_X3_layFound : yX3_layFound.cls = RX3 ∧ yX3_layFound.cls ≠ "java/lang/invoke/MethodHandle" ∧ yX3_layFound.cls ≠ "java/lang/invoke/VarHandle" ∧ (parseMethodDescriptor yX3_layFound.desc).map (fun d => d.parameters.length) = some 0 := ⟨rfl, dd_X3_layFound⟩
/-! RockingHorseModel.held(I)I -/
abbrev mi_X3_held : Mi := (cX3_held, 2, "RockingHorseModel", 207, some .int, "held")
def f_X3_held (v0 : Option Nat) (v1 : Int32) (σ : Hp) : Option (Int32 × Hp) :=
  pI 0 2 11 σ v0 0 fun σ =>
  bnd (f_X3_in v1 0 10 σ) fun x1 σ =>
  if x1 = 0 then
    some ((-1), σ)
  else
    ob 2 σ v0 fun _ => bnd (f_X3_layCanBe v0 σ) fun _ σ =>
    ob 2 σ v0 fun _ => bnd (f_X3_well v0 σ) fun x2 σ =>
    ob 2 σ v0 fun _ => bnd (f_X3_heldParts v0 x2 v1 σ) fun x3 σ =>
    ob 2 σ v0 fun _ => bnd (f_X3_well v0 σ) fun x4 σ =>
    bnd (f_J10_bitCount x4 σ) fun x5 σ =>
    bnd (f_X3_power 10 x5 σ) fun x6 σ =>
    ob 2 σ v0 fun _ => bnd (f_X3_tellPart v0 x3 x6 σ) fun _ σ =>
    some (0, σ)
theorem mm_X3_held (v0 : Option Nat) (v1 : Int32) (σ : Hp) : MM yX3_held mi_X3_held rI [vA v0, vI v1] σ (f_X3_held v0 v1 σ) := by
  refine mm_of (by decide +kernel) rfl rfl (Nat.le_of_ble_eq_true rfl) ?_
  intro X
  unfold f_X3_held
  refine g_aload_n 0 dX3_held_0 rfl rfl ?_
  refine g_iconst 0 dX3_held_1 (by decide) ?_
  refine g_putI fo_2_11 (by decide) rfl q1067 dX3_held_2 fun σ => ?_
  refine g_iload_n 1 dX3_held_5 rfl rfl ?_
  refine g_iconst 0 dX3_held_6 (by decide) ?_
  refine g_bipush 10 dX3_held_7 (by decide) ?_
  refine g_callS_I (mm_X3_in _ _ _ _) rfl q1223 q1224 q109 q1225 dd_X3_in rfl (Nat.le_of_ble_eq_true rfl) (Nat.le_of_ble_eq_true rfl) (Nat.le_of_ble_eq_true rfl) dX3_held_9 fun x1 σ => ?_
  refine g_if_ne 17 dX3_held_12 (by decide) ?_ ?_
  · refine g_aload_n 0 dX3_held_17 rfl rfl ?_
    refine g_callV_V (mm_X3_layCanBe _ _) rfl zc_2 q1495 q1497 qs94 q109 q1498 dv_X3_layCanBe rfl (Nat.le_of_ble_eq_true rfl) (Nat.le_of_ble_eq_true rfl) (Nat.le_of_ble_eq_true rfl) dX3_held_18 fun _ σ => ?_
    refine g_aload_n 0 dX3_held_21 rfl rfl ?_
    refine g_aload_n 0 dX3_held_22 rfl rfl ?_
    refine g_aload_n 0 dX3_held_23 rfl rfl ?_
    refine g_callV_I (mm_X3_well _ _) rfl zc_2 q1614 q1616 qs102 q109 q1617 dv_X3_well rfl (Nat.le_of_ble_eq_true rfl) (Nat.le_of_ble_eq_true rfl) (Nat.le_of_ble_eq_true rfl) dX3_held_24 fun x2 σ => ?_
    refine g_iload_n 1 dX3_held_27 rfl rfl ?_
    refine g_callV_L (mm_X3_heldParts _ _ _ _) rfl zc_2 q1618 q1620 qs103 q109 q1621 dv_X3_heldParts rfl (Nat.le_of_ble_eq_true rfl) (Nat.le_of_ble_eq_true rfl) (Nat.le_of_ble_eq_true rfl) dX3_held_28 fun x3 σ => ?_
    refine g_ldc2_w dX3_held_31 q1625 ?_
    refine g_aload_n 0 dX3_held_34 rfl rfl ?_
    refine g_callV_I (mm_X3_well _ _) rfl zc_2 q1614 q1616 qs102 q109 q1617 dv_X3_well rfl (Nat.le_of_ble_eq_true rfl) (Nat.le_of_ble_eq_true rfl) (Nat.le_of_ble_eq_true rfl) dX3_held_35 fun x4 σ => ?_
    refine g_callS_I (mm_J10_bitCount _ _) rfl q1328 q600 q125 q601 dd_J10_bitCount rfl (Nat.le_of_ble_eq_true rfl) (Nat.le_of_ble_eq_true rfl) (Nat.le_of_ble_eq_true rfl) dX3_held_38 fun x5 σ => ?_
    refine g_callS_L (mm_X3_power _ _ _) rfl q1622 q1623 q109 q1624 dd_X3_power rfl (Nat.le_of_ble_eq_true rfl) (Nat.le_of_ble_eq_true rfl) (Nat.le_of_ble_eq_true rfl) dX3_held_41 fun x6 σ => ?_
    refine g_callV_V (mm_X3_tellPart _ _ _ _) rfl zc_2 q1599 q1601 qs101 q109 q1602 dv_X3_tellPart rfl (Nat.le_of_ble_eq_true rfl) (Nat.le_of_ble_eq_true rfl) (Nat.le_of_ble_eq_true rfl) dX3_held_44 fun _ σ => ?_
    refine g_iconst 0 dX3_held_47 (by decide) ?_
    exact g_iret rfl dX3_held_48
  · refine g_iconst (-1) dX3_held_15 (by decide) ?_
    exact g_iret rfl dX3_held_16
theorem dd_X3_held : yX3_held.cls ≠ "java/lang/invoke/MethodHandle" ∧ yX3_held.cls ≠ "java/lang/invoke/VarHandle" ∧ (parseMethodDescriptor yX3_held.desc).map (fun d => d.parameters.length) = some 1 := by decide +kernel
theorem dv_X3_held : yX3_held.cls = RX3 ∧ yX3_held.cls ≠ "java/lang/invoke/MethodHandle" ∧ yX3_held.cls ≠ "java/lang/invoke/VarHandle" ∧ (parseMethodDescriptor yX3_held.desc).map (fun d => d.parameters.length) = some 1 := ⟨rfl, dd_X3_held⟩
/-! RockingHorseModel.keystone(I)I -/
abbrev mi_X3_keystone : Mi := (cX3_keystone, 9, "RockingHorseModel", 207, some .int, "keystone")
def f_X3_keystone_b41 (v0 : Option Nat) (v1 : Int32) (v2 : Int32) (k0 : (Int32 × Int64) → Hp → Option (Int32 × Hp)) (ag : (Int32 × Int64 × Int32) → Hp → Option (Int32 × Hp)) (a : Int32 × Int64 × Int32) (σ : Hp) : Option (Int32 × Hp) :=
  gI 2 3 σ v0 fun x3 =>
  if x3 ≤ a.2.2 then
    k0 (a.1, a.2.1) σ
  else
    bnd (f_X3_has v2 a.2.2 σ) fun x4 σ =>
    jn (fun (a5 : Int32 × Int64) σ =>
        ag (a5.1, a5.2, (a.2.2 + 1)) σ) fun j6 =>
    if x4 = 0 then
      j6 (a.1, a.2.1) σ
    else
      ob 2 σ v0 fun _ => bnd (f_X3_heldParts v0 (v2 &&& ((shl 1 a.2.2) ^^^ (-1))) v1 σ) fun x7 σ =>
      jn (fun (a8 : Unit) σ =>
          j6 (a.2.2, x7) σ) fun j9 =>
      if a.1 = (-1) then
        j9 () σ
      else
        if (lg_cmp x7 a.2.1) < 0 then
          j9 () σ
        else
          j6 (a.1, a.2.1) σ
def f_X3_keystone (v0 : Option Nat) (v1 : Int32) (σ : Hp) : Option (Int32 × Hp) :=
  pI 0 2 11 σ v0 0 fun σ =>
  bnd (f_X3_in v1 0 10 σ) fun x1 σ =>
  if x1 = 0 then
    some ((-1), σ)
  else
    ob 2 σ v0 fun _ => bnd (f_X3_well v0 σ) fun x2 σ =>
    if x2 = 0 then
      some ((-2), σ)
    else
      ob 2 σ v0 fun _ => bnd (f_X3_layCanBe v0 σ) fun _ σ =>
      lp 2000 (f_X3_keystone_b41 v0 v1 x2 (fun (a10 : Int32 × Int64) σ =>
          bnd (f_J10_bitCount x2 σ) fun x11 σ =>
          bnd (f_X3_power 10 (x11 - 1) σ) fun x12 σ =>
          ob 2 σ v0 fun _ => bnd (f_X3_tellPart v0 a10.2 x12 σ) fun _ σ =>
          some (a10.1, σ))) ((-1), 0, 0) σ
theorem ok_X3_keystone_b41 (X : Mx) (v0 : Option Nat) (v1 : Int32) (v2 : Int32) {k0 : (Int32 × Int64) → Hp → Option (Int32 × Hp)} (hk0 : ∀ (a : Int32 × Int64) (σ : Hp), GG X mi_X3_keystone (QM X rI) 106 [(0, vA v0), (2, vI v2), (3, vI a.1), (4, vL a.2)] [] σ (k0 a σ)) : ∀ (m : Nat) (a : Int32 × Int64 × Int32) (σ : Hp), GG X mi_X3_keystone (QM X rI) 41 [(0, vA v0), (1, vI v1), (2, vI v2), (3, vI a.1), (4, vL a.2.1), (6, vI a.2.2)] [] σ (lp m (f_X3_keystone_b41 v0 v1 v2 k0) a σ) := by
  refine g_lp (fun (a : Int32 × Int64 × Int32) => [(0, vA v0), (1, vI v1), (2, vI v2), (3, vI a.1), (4, vL a.2.1), (6, vI a.2.2)]) ?_
  intro ag hag a σ
  unfold f_X3_keystone_b41
  refine g_iload dX3_keystone_41 rfl ?_
  refine g_aload_n 0 dX3_keystone_43 rfl rfl ?_
  refine g_getI fo_2_3 (by decide) q1059 dX3_keystone_44 fun x3 => ?_
  refine g_icmp_ge 106 dX3_keystone_47 (by decide) ?_ ?_
  · exact g_jmp (hk0 _ _) rfl
  · refine g_iload_n 2 dX3_keystone_50 rfl rfl ?_
    refine g_iload dX3_keystone_51 rfl ?_
    refine g_callS_I (mm_X3_has _ _ _) rfl q1378 q1379 q109 q1380 dd_X3_has rfl (Nat.le_of_ble_eq_true rfl) (Nat.le_of_ble_eq_true rfl) (Nat.le_of_ble_eq_true rfl) dX3_keystone_53 fun x4 σ => ?_
    refine g_jn (fun j6 => ∀ (a5 : Int32 × Int64) (σ : Hp), GG X mi_X3_keystone (QM X rI) 100 [(0, vA v0), (1, vI v1), (2, vI v2), (3, vI a5.1), (4, vL a5.2), (6, vI a.2.2)] [] σ (j6 a5 σ)) ?_ ?_
    · intro a5 σ
      refine g_iinc 1 dX3_keystone_100 (by decide) rfl (lt_b rfl) ?_
      refine g_goto 41 dX3_keystone_103 (by decide) ?_
      exact g_jmp (hag _ _) rfl
    · intro j6 hj6
      refine g_if_ne 62 dX3_keystone_56 (by decide) ?_ ?_
      · refine g_aload_n 0 dX3_keystone_62 rfl rfl ?_
        refine g_iload_n 2 dX3_keystone_63 rfl rfl ?_
        refine g_iconst 1 dX3_keystone_64 (by decide) ?_
        refine g_iload dX3_keystone_65 rfl ?_
        refine g_ishl dX3_keystone_67 ?_
        refine g_iconst (-1) dX3_keystone_68 (by decide) ?_
        refine g_ixor dX3_keystone_69 ?_
        refine g_iand dX3_keystone_70 ?_
        refine g_iload_n 1 dX3_keystone_71 rfl rfl ?_
        refine g_callV_L (mm_X3_heldParts _ _ _ _) rfl zc_2 q1618 q1620 qs103 q109 q1621 dv_X3_heldParts rfl (Nat.le_of_ble_eq_true rfl) (Nat.le_of_ble_eq_true rfl) (Nat.le_of_ble_eq_true rfl) dX3_keystone_72 fun x7 σ => ?_
        refine g_lstore dX3_keystone_75 (lt_b rfl) ?_
        refine g_iload_n 3 dX3_keystone_77 rfl rfl ?_
        refine g_iconst (-1) dX3_keystone_78 (by decide) ?_
        refine g_jn (fun j9 => ∀ (a8 : Unit) (σ : Hp), GG X mi_X3_keystone (QM X rI) 93 [(0, vA v0), (1, vI v1), (2, vI v2), (6, vI a.2.2), (7, vL x7)] [] σ (j9 a8 σ)) ?_ ?_
        · intro a8 σ
          refine g_iload dX3_keystone_93 rfl ?_
          refine g_istore_n 3 dX3_keystone_95 rfl (lt_b rfl) ?_
          refine g_lload dX3_keystone_96 rfl ?_
          refine g_lstore dX3_keystone_98 (lt_b rfl) ?_
          exact g_jmp (hj6 _ _) rfl
        · intro j9 hj9
          refine g_icmp_eq 93 dX3_keystone_79 (by decide) ?_ ?_
          · exact g_jmp (hj9 _ _) rfl
          · refine g_lload dX3_keystone_82 rfl ?_
            refine g_lload dX3_keystone_84 rfl ?_
            refine g_lcmp dX3_keystone_86 ?_
            refine g_if_lt 93 dX3_keystone_87 (by decide) ?_ ?_
            · exact g_jmp (hj9 _ _) rfl
            · refine g_goto 100 dX3_keystone_90 (by decide) ?_
              exact g_jmp (hj6 _ _) rfl
      · refine g_goto 100 dX3_keystone_59 (by decide) ?_
        exact g_jmp (hj6 _ _) rfl
theorem mm_X3_keystone (v0 : Option Nat) (v1 : Int32) (σ : Hp) : MM yX3_keystone mi_X3_keystone rI [vA v0, vI v1] σ (f_X3_keystone v0 v1 σ) := by
  refine mm_of (by decide +kernel) rfl rfl (Nat.le_of_ble_eq_true rfl) ?_
  intro X
  unfold f_X3_keystone
  refine g_aload_n 0 dX3_keystone_0 rfl rfl ?_
  refine g_iconst 0 dX3_keystone_1 (by decide) ?_
  refine g_putI fo_2_11 (by decide) rfl q1067 dX3_keystone_2 fun σ => ?_
  refine g_iload_n 1 dX3_keystone_5 rfl rfl ?_
  refine g_iconst 0 dX3_keystone_6 (by decide) ?_
  refine g_bipush 10 dX3_keystone_7 (by decide) ?_
  refine g_callS_I (mm_X3_in _ _ _ _) rfl q1223 q1224 q109 q1225 dd_X3_in rfl (Nat.le_of_ble_eq_true rfl) (Nat.le_of_ble_eq_true rfl) (Nat.le_of_ble_eq_true rfl) dX3_keystone_9 fun x1 σ => ?_
  refine g_if_ne 17 dX3_keystone_12 (by decide) ?_ ?_
  · refine g_aload_n 0 dX3_keystone_17 rfl rfl ?_
    refine g_callV_I (mm_X3_well _ _) rfl zc_2 q1614 q1616 qs102 q109 q1617 dv_X3_well rfl (Nat.le_of_ble_eq_true rfl) (Nat.le_of_ble_eq_true rfl) (Nat.le_of_ble_eq_true rfl) dX3_keystone_18 fun x2 σ => ?_
    refine g_istore_n 2 dX3_keystone_21 rfl (lt_b rfl) ?_
    refine g_iload_n 2 dX3_keystone_22 rfl rfl ?_
    refine g_if_ne 29 dX3_keystone_23 (by decide) ?_ ?_
    · refine g_aload_n 0 dX3_keystone_29 rfl rfl ?_
      refine g_callV_V (mm_X3_layCanBe _ _) rfl zc_2 q1495 q1497 qs94 q109 q1498 dv_X3_layCanBe rfl (Nat.le_of_ble_eq_true rfl) (Nat.le_of_ble_eq_true rfl) (Nat.le_of_ble_eq_true rfl) dX3_keystone_30 fun _ σ => ?_
      refine g_iconst (-1) dX3_keystone_33 (by decide) ?_
      refine g_istore_n 3 dX3_keystone_34 rfl (lt_b rfl) ?_
      refine g_lconst 0 dX3_keystone_35 (by decide) ?_
      refine g_lstore dX3_keystone_36 (lt_b rfl) ?_
      refine g_iconst 0 dX3_keystone_38 (by decide) ?_
      refine g_istore dX3_keystone_39 (lt_b rfl) ?_
      refine g_jmp (ok_X3_keystone_b41 X v0 v1 x2 ?_ _ _ _) rfl
      · intro a10 σ
        refine g_aload_n 0 dX3_keystone_106 rfl rfl ?_
        refine g_lload dX3_keystone_107 rfl ?_
        refine g_ldc2_w dX3_keystone_109 q1625 ?_
        refine g_iload_n 2 dX3_keystone_112 rfl rfl ?_
        refine g_callS_I (mm_J10_bitCount _ _) rfl q1328 q600 q125 q601 dd_J10_bitCount rfl (Nat.le_of_ble_eq_true rfl) (Nat.le_of_ble_eq_true rfl) (Nat.le_of_ble_eq_true rfl) dX3_keystone_113 fun x11 σ => ?_
        refine g_iconst 1 dX3_keystone_116 (by decide) ?_
        refine g_isub dX3_keystone_117 ?_
        refine g_callS_L (mm_X3_power _ _ _) rfl q1622 q1623 q109 q1624 dd_X3_power rfl (Nat.le_of_ble_eq_true rfl) (Nat.le_of_ble_eq_true rfl) (Nat.le_of_ble_eq_true rfl) dX3_keystone_118 fun x12 σ => ?_
        refine g_callV_V (mm_X3_tellPart _ _ _ _) rfl zc_2 q1599 q1601 qs101 q109 q1602 dv_X3_tellPart rfl (Nat.le_of_ble_eq_true rfl) (Nat.le_of_ble_eq_true rfl) (Nat.le_of_ble_eq_true rfl) dX3_keystone_121 fun _ σ => ?_
        refine g_iload_n 3 dX3_keystone_124 rfl rfl ?_
        exact g_iret rfl dX3_keystone_125
    · refine g_bipush (-2) dX3_keystone_26 (by decide) ?_
      exact g_iret rfl dX3_keystone_28
  · refine g_iconst (-1) dX3_keystone_15 (by decide) ?_
    exact g_iret rfl dX3_keystone_16
theorem dd_X3_keystone : yX3_keystone.cls ≠ "java/lang/invoke/MethodHandle" ∧ yX3_keystone.cls ≠ "java/lang/invoke/VarHandle" ∧ (parseMethodDescriptor yX3_keystone.desc).map (fun d => d.parameters.length) = some 1 := by decide +kernel
theorem dv_X3_keystone : yX3_keystone.cls = RX3 ∧ yX3_keystone.cls ≠ "java/lang/invoke/MethodHandle" ∧ yX3_keystone.cls ≠ "java/lang/invoke/VarHandle" ∧ (parseMethodDescriptor yX3_keystone.desc).map (fun d => d.parameters.length) = some 1 := ⟨rfl, dd_X3_keystone⟩
/-! RockingHorseModel.rests(II)I -/
abbrev mi_X3_rests : Mi := (cX3_rests, 7, "RockingHorseModel", 2, some .int, "rests")
def f_X3_rests_b50 (v0 : Option Nat) (v1 : Int32) (v2 : Int32) (v5 : Int32) (k0 : (Int32 × Int32) → Hp → Option (Int32 × Hp)) (ag : (Int32 × Int32 × Int32) → Hp → Option (Int32 × Hp)) (a : Int32 × Int32 × Int32) (σ : Hp) : Option (Int32 × Hp) :=
  if 9 < a.2.2 then
    k0 (a.1, a.2.1) σ
  else
    bnd (f_X3_isRest v5 a.2.2 v1 v2 σ) fun x3 σ =>
    jn (fun (a4 : Int32 × Int32) σ =>
        ag (a4.1, a4.2, (a.2.2 + 1)) σ) fun j5 =>
    if x3 = 0 then
      j5 (a.1, a.2.1) σ
    else
      jn (fun (a6 : Unit) σ =>
          jn (fun (a8 : Int32) σ =>
              j5 ((a.1 + 1), (a.2.1 + a8)) σ) fun j9 =>
          if v5 < a.2.2 then
            j9 0 σ
          else
            j9 1 σ) fun j7 =>
      if a.1 = 0 then
        ob 2 σ v0 fun _ => bnd (f_X3_tell v0 (Int32.toInt64 v5) σ) fun _ σ =>
        ob 2 σ v0 fun _ => bnd (f_X3_tell v0 (Int32.toInt64 a.2.2) σ) fun _ σ =>
        j7 () σ
      else
        j7 () σ
def f_X3_rests_b40 (v0 : Option Nat) (v1 : Int32) (v2 : Int32) (k0 : (Int32 × Int32) → Hp → Option (Int32 × Hp)) (ag : (Int32 × Int32 × Int32) → Hp → Option (Int32 × Hp)) (a : Int32 × Int32 × Int32) (σ : Hp) : Option (Int32 × Hp) :=
  if 9 < a.2.2 then
    k0 (a.1, a.2.1) σ
  else
    lp 2000 (f_X3_rests_b50 v0 v1 v2 a.2.2 (fun (a10 : Int32 × Int32) σ =>
        ag (a10.1, a10.2, (a.2.2 + 1)) σ)) (a.1, a.2.1, 0) σ
def f_X3_rests (v0 : Option Nat) (v1 : Int32) (v2 : Int32) (σ : Hp) : Option (Int32 × Hp) :=
  pI 0 2 11 σ v0 0 fun σ =>
  bnd (f_X3_in v1 0 9 σ) fun x1 σ =>
  if x1 = 0 then
    some ((-1), σ)
  else
    bnd (f_X3_in v2 0 9 σ) fun x2 σ =>
    if x2 = 0 then
      some ((-1), σ)
    else
      pI 0 2 10 σ v0 0 fun σ =>
      lp 2000 (f_X3_rests_b40 v0 v1 v2 (fun (a11 : Int32 × Int32) σ =>
          jn (fun (a12 : Unit) σ =>
              some (a11.1, σ)) fun j13 =>
          if a11.1 ≤ 0 then
            j13 () σ
          else
            ob 2 σ v0 fun _ => bnd (f_X3_tell v0 (Int32.toInt64 a11.2) σ) fun _ σ =>
            j13 () σ)) (0, 0, 0) σ
theorem ok_X3_rests_b50 (X : Mx) (v0 : Option Nat) (v1 : Int32) (v2 : Int32) (v5 : Int32) {k0 : (Int32 × Int32) → Hp → Option (Int32 × Hp)} (hk0 : ∀ (a : Int32 × Int32) (σ : Hp), GG X mi_X3_rests (QM X rI) 116 [(0, vA v0), (1, vI v1), (2, vI v2), (3, vI a.1), (4, vI a.2), (5, vI v5)] [] σ (k0 a σ)) : ∀ (m : Nat) (a : Int32 × Int32 × Int32) (σ : Hp), GG X mi_X3_rests (QM X rI) 50 [(0, vA v0), (1, vI v1), (2, vI v2), (3, vI a.1), (4, vI a.2.1), (5, vI v5), (6, vI a.2.2)] [] σ (lp m (f_X3_rests_b50 v0 v1 v2 v5 k0) a σ) := by
  refine g_lp (fun (a : Int32 × Int32 × Int32) => [(0, vA v0), (1, vI v1), (2, vI v2), (3, vI a.1), (4, vI a.2.1), (5, vI v5), (6, vI a.2.2)]) ?_
  intro ag hag a σ
  unfold f_X3_rests_b50
  refine g_iload dX3_rests_50 rfl ?_
  refine g_bipush 9 dX3_rests_52 (by decide) ?_
  refine g_icmp_gt 116 dX3_rests_54 (by decide) ?_ ?_
  · exact g_jmp (hk0 _ _) rfl
  · refine g_iload dX3_rests_57 rfl ?_
    refine g_iload dX3_rests_59 rfl ?_
    refine g_iload_n 1 dX3_rests_61 rfl rfl ?_
    refine g_iload_n 2 dX3_rests_62 rfl rfl ?_
    refine g_callS_I (mm_X3_isRest _ _ _ _ _) rfl q1634 q1635 q109 q1636 dd_X3_isRest rfl (Nat.le_of_ble_eq_true rfl) (Nat.le_of_ble_eq_true rfl) (Nat.le_of_ble_eq_true rfl) dX3_rests_63 fun x3 σ => ?_
    refine g_jn (fun j5 => ∀ (a4 : Int32 × Int32) (σ : Hp), GG X mi_X3_rests (QM X rI) 110 [(0, vA v0), (1, vI v1), (2, vI v2), (3, vI a4.1), (4, vI a4.2), (5, vI v5), (6, vI a.2.2)] [] σ (j5 a4 σ)) ?_ ?_
    · intro a4 σ
      refine g_iinc 1 dX3_rests_110 (by decide) rfl (lt_b rfl) ?_
      refine g_goto 50 dX3_rests_113 (by decide) ?_
      exact g_jmp (hag _ _) rfl
    · intro j5 hj5
      refine g_if_ne 72 dX3_rests_66 (by decide) ?_ ?_
      · refine g_iload_n 3 dX3_rests_72 rfl rfl ?_
        refine g_jn (fun j7 => ∀ (a6 : Unit) (σ : Hp), GG X mi_X3_rests (QM X rI) 90 [(0, vA v0), (1, vI v1), (2, vI v2), (3, vI a.1), (4, vI a.2.1), (5, vI v5), (6, vI a.2.2)] [] σ (j7 a6 σ)) ?_ ?_
        · intro a6 σ
          refine g_iinc 1 dX3_rests_90 (by decide) rfl (lt_b rfl) ?_
          refine g_iload dX3_rests_93 rfl ?_
          refine g_iload dX3_rests_95 rfl ?_
          refine g_iload dX3_rests_97 rfl ?_
          refine g_jn (fun j9 => ∀ (a8 : Int32) (σ : Hp), GG X mi_X3_rests (QM X rI) 107 [(0, vA v0), (1, vI v1), (2, vI v2), (3, vI (a.1 + 1)), (5, vI v5), (6, vI a.2.2)] [vI a8, vI a.2.1] σ (j9 a8 σ)) ?_ ?_
          · intro a8 σ
            refine g_iadd dX3_rests_107 ?_
            refine g_istore dX3_rests_108 (lt_b rfl) ?_
            exact g_jmp (hj5 _ _) rfl
          · intro j9 hj9
            refine g_icmp_lt 106 dX3_rests_99 (by decide) ?_ ?_
            · refine g_iconst 0 dX3_rests_106 (by decide) ?_
              exact g_jmp (hj9 _ _) rfl
            · refine g_iconst 1 dX3_rests_102 (by decide) ?_
              refine g_goto 107 dX3_rests_103 (by decide) ?_
              exact g_jmp (hj9 _ _) rfl
        · intro j7 hj7
          refine g_if_ne 90 dX3_rests_73 (by decide) ?_ ?_
          · exact g_jmp (hj7 _ _) rfl
          · refine g_aload_n 0 dX3_rests_76 rfl rfl ?_
            refine g_iload dX3_rests_77 rfl ?_
            refine g_i2l dX3_rests_79 ?_
            refine g_callV_V (mm_X3_tell _ _ _) rfl zc_2 q1382 q1384 qs75 q109 q1385 dv_X3_tell rfl (Nat.le_of_ble_eq_true rfl) (Nat.le_of_ble_eq_true rfl) (Nat.le_of_ble_eq_true rfl) dX3_rests_80 fun _ σ => ?_
            refine g_aload_n 0 dX3_rests_83 rfl rfl ?_
            refine g_iload dX3_rests_84 rfl ?_
            refine g_i2l dX3_rests_86 ?_
            refine g_callV_V (mm_X3_tell _ _ _) rfl zc_2 q1382 q1384 qs75 q109 q1385 dv_X3_tell rfl (Nat.le_of_ble_eq_true rfl) (Nat.le_of_ble_eq_true rfl) (Nat.le_of_ble_eq_true rfl) dX3_rests_87 fun _ σ => ?_
            exact g_jmp (hj7 _ _) rfl
      · refine g_goto 110 dX3_rests_69 (by decide) ?_
        exact g_jmp (hj5 _ _) rfl
theorem ok_X3_rests_b40 (X : Mx) (v0 : Option Nat) (v1 : Int32) (v2 : Int32) {k0 : (Int32 × Int32) → Hp → Option (Int32 × Hp)} (hk0 : ∀ (a : Int32 × Int32) (σ : Hp), GG X mi_X3_rests (QM X rI) 122 [(0, vA v0), (3, vI a.1), (4, vI a.2)] [] σ (k0 a σ)) : ∀ (m : Nat) (a : Int32 × Int32 × Int32) (σ : Hp), GG X mi_X3_rests (QM X rI) 40 [(0, vA v0), (1, vI v1), (2, vI v2), (3, vI a.1), (4, vI a.2.1), (5, vI a.2.2)] [] σ (lp m (f_X3_rests_b40 v0 v1 v2 k0) a σ) := by
  refine g_lp (fun (a : Int32 × Int32 × Int32) => [(0, vA v0), (1, vI v1), (2, vI v2), (3, vI a.1), (4, vI a.2.1), (5, vI a.2.2)]) ?_
  intro ag hag a σ
  unfold f_X3_rests_b40
  refine g_iload dX3_rests_40 rfl ?_
  refine g_bipush 9 dX3_rests_42 (by decide) ?_
  refine g_icmp_gt 122 dX3_rests_44 (by decide) ?_ ?_
  · exact g_jmp (hk0 _ _) rfl
  · refine g_iconst 0 dX3_rests_47 (by decide) ?_
    refine g_istore dX3_rests_48 (lt_b rfl) ?_
    refine g_jmp (ok_X3_rests_b50 X v0 v1 v2 a.2.2 ?_ _ _ _) rfl
    · intro a10 σ
      refine g_iinc 1 dX3_rests_116 (by decide) rfl (lt_b rfl) ?_
      refine g_goto 40 dX3_rests_119 (by decide) ?_
      exact g_jmp (hag _ _) rfl
theorem mm_X3_rests (v0 : Option Nat) (v1 : Int32) (v2 : Int32) (σ : Hp) : MM yX3_rests mi_X3_rests rI [vA v0, vI v1, vI v2] σ (f_X3_rests v0 v1 v2 σ) := by
  refine mm_of (by decide +kernel) rfl rfl (Nat.le_of_ble_eq_true rfl) ?_
  intro X
  unfold f_X3_rests
  refine g_aload_n 0 dX3_rests_0 rfl rfl ?_
  refine g_iconst 0 dX3_rests_1 (by decide) ?_
  refine g_putI fo_2_11 (by decide) rfl q1067 dX3_rests_2 fun σ => ?_
  refine g_iload_n 1 dX3_rests_5 rfl rfl ?_
  refine g_iconst 0 dX3_rests_6 (by decide) ?_
  refine g_bipush 9 dX3_rests_7 (by decide) ?_
  refine g_callS_I (mm_X3_in _ _ _ _) rfl q1223 q1224 q109 q1225 dd_X3_in rfl (Nat.le_of_ble_eq_true rfl) (Nat.le_of_ble_eq_true rfl) (Nat.le_of_ble_eq_true rfl) dX3_rests_9 fun x1 σ => ?_
  refine g_if_eq 25 dX3_rests_12 (by decide) ?_ ?_
  · refine g_iconst (-1) dX3_rests_25 (by decide) ?_
    exact g_iret rfl dX3_rests_26
  · refine g_iload_n 2 dX3_rests_15 rfl rfl ?_
    refine g_iconst 0 dX3_rests_16 (by decide) ?_
    refine g_bipush 9 dX3_rests_17 (by decide) ?_
    refine g_callS_I (mm_X3_in _ _ _ _) rfl q1223 q1224 q109 q1225 dd_X3_in rfl (Nat.le_of_ble_eq_true rfl) (Nat.le_of_ble_eq_true rfl) (Nat.le_of_ble_eq_true rfl) dX3_rests_19 fun x2 σ => ?_
    refine g_if_ne 27 dX3_rests_22 (by decide) ?_ ?_
    · refine g_iconst 0 dX3_rests_27 (by decide) ?_
      refine g_istore_n 3 dX3_rests_28 rfl (lt_b rfl) ?_
      refine g_iconst 0 dX3_rests_29 (by decide) ?_
      refine g_istore dX3_rests_30 (lt_b rfl) ?_
      refine g_aload_n 0 dX3_rests_32 rfl rfl ?_
      refine g_iconst 0 dX3_rests_33 (by decide) ?_
      refine g_putI fo_2_10 (by decide) rfl q1066 dX3_rests_34 fun σ => ?_
      refine g_iconst 0 dX3_rests_37 (by decide) ?_
      refine g_istore dX3_rests_38 (lt_b rfl) ?_
      refine g_jmp (ok_X3_rests_b40 X v0 v1 v2 ?_ _ _ _) rfl
      · intro a11 σ
        refine g_iload_n 3 dX3_rests_122 rfl rfl ?_
        refine g_jn (fun j13 => ∀ (a12 : Unit) (σ : Hp), GG X mi_X3_rests (QM X rI) 133 [(3, vI a11.1)] [] σ (j13 a12 σ)) ?_ ?_
        · intro a12 σ
          refine g_iload_n 3 dX3_rests_133 rfl rfl ?_
          exact g_iret rfl dX3_rests_134
        · intro j13 hj13
          refine g_if_le 133 dX3_rests_123 (by decide) ?_ ?_
          · exact g_jmp (hj13 _ _) rfl
          · refine g_aload_n 0 dX3_rests_126 rfl rfl ?_
            refine g_iload dX3_rests_127 rfl ?_
            refine g_i2l dX3_rests_129 ?_
            refine g_callV_V (mm_X3_tell _ _ _) rfl zc_2 q1382 q1384 qs75 q109 q1385 dv_X3_tell rfl (Nat.le_of_ble_eq_true rfl) (Nat.le_of_ble_eq_true rfl) (Nat.le_of_ble_eq_true rfl) dX3_rests_130 fun _ σ => ?_
            exact g_jmp (hj13 _ _) rfl
    · refine g_iconst (-1) dX3_rests_25 (by decide) ?_
      exact g_iret rfl dX3_rests_26
theorem dd_X3_rests : yX3_rests.cls ≠ "java/lang/invoke/MethodHandle" ∧ yX3_rests.cls ≠ "java/lang/invoke/VarHandle" ∧ (parseMethodDescriptor yX3_rests.desc).map (fun d => d.parameters.length) = some 2 := by decide +kernel
theorem dv_X3_rests : yX3_rests.cls = RX3 ∧ yX3_rests.cls ≠ "java/lang/invoke/MethodHandle" ∧ yX3_rests.cls ≠ "java/lang/invoke/VarHandle" ∧ (parseMethodDescriptor yX3_rests.desc).map (fun d => d.parameters.length) = some 2 := ⟨rfl, dd_X3_rests⟩
/-! RockingHorseModel.hardOfRota()I -/
abbrev mi_X3_hardOfRota : Mi := (cX3_hardOfRota, 3, "RockingHorseModel", 205, some .int, "hardOfRota")
def f_X3_hardOfRota_b4 (v0 : Option Nat) (k0 : Int32 → Hp → Option (Int32 × Hp)) (ag : (Int32 × Int32) → Hp → Option (Int32 × Hp)) (a : Int32 × Int32) (σ : Hp) : Option (Int32 × Hp) :=
  gI 2 1 σ v0 fun x1 =>
  if x1 ≤ a.2 then
    k0 a.1 σ
  else
    gR 2 0 σ v0 fun y2 =>
    lI 100 σ y2 a.2 fun x3 =>
    jn (fun (a4 : Int32) σ =>
        ag ((a.1 + a4), (a.2 + 1)) σ) fun j5 =>
    if x3 = (-1) then
      j5 0 σ
    else
      gR 2 0 σ v0 fun y6 =>
      gR 2 0 σ v0 fun y7 =>
      lI 100 σ y7 a.2 fun x8 =>
      ob 2 σ v0 fun _ => bnd (f_X3_hardOf v0 y6 x8 a.2 σ) fun x9 σ =>
      j5 x9 σ
def f_X3_hardOfRota (v0 : Option Nat) (σ : Hp) : Option (Int32 × Hp) :=
  lp 2000 (f_X3_hardOfRota_b4 v0 (fun (a10 : Int32) σ =>
      some (a10, σ))) (0, 0) σ
theorem ok_X3_hardOfRota_b4 (X : Mx) (v0 : Option Nat) {k0 : Int32 → Hp → Option (Int32 × Hp)} (hk0 : ∀ (a : Int32) (σ : Hp), GG X mi_X3_hardOfRota (QM X rI) 50 [(1, vI a)] [] σ (k0 a σ)) : ∀ (m : Nat) (a : Int32 × Int32) (σ : Hp), GG X mi_X3_hardOfRota (QM X rI) 4 [(0, vA v0), (1, vI a.1), (2, vI a.2)] [] σ (lp m (f_X3_hardOfRota_b4 v0 k0) a σ) := by
  refine g_lp (fun (a : Int32 × Int32) => [(0, vA v0), (1, vI a.1), (2, vI a.2)]) ?_
  intro ag hag a σ
  unfold f_X3_hardOfRota_b4
  refine g_iload_n 2 dX3_hardOfRota_4 rfl rfl ?_
  refine g_aload_n 0 dX3_hardOfRota_5 rfl rfl ?_
  refine g_getI fo_2_1 (by decide) q1057 dX3_hardOfRota_6 fun x1 => ?_
  refine g_icmp_ge 50 dX3_hardOfRota_9 (by decide) ?_ ?_
  · exact g_jmp (hk0 _ _) rfl
  · refine g_iload_n 1 dX3_hardOfRota_12 rfl rfl ?_
    refine g_aload_n 0 dX3_hardOfRota_13 rfl rfl ?_
    refine g_getR fo_2_0 q1056 dX3_hardOfRota_14 fun y2 => ?_
    refine g_iload_n 2 dX3_hardOfRota_17 rfl rfl ?_
    refine g_iaload dX3_hardOfRota_18 fun x3 => ?_
    refine g_iconst (-1) dX3_hardOfRota_19 (by decide) ?_
    refine g_jn (fun j5 => ∀ (a4 : Int32) (σ : Hp), GG X mi_X3_hardOfRota (QM X rI) 42 [(0, vA v0), (2, vI a.2)] [vI a4, vI a.1] σ (j5 a4 σ)) ?_ ?_
    · intro a4 σ
      refine g_iadd dX3_hardOfRota_42 ?_
      refine g_istore_n 1 dX3_hardOfRota_43 rfl (lt_b rfl) ?_
      refine g_iinc 1 dX3_hardOfRota_44 (by decide) rfl (lt_b rfl) ?_
      refine g_goto 4 dX3_hardOfRota_47 (by decide) ?_
      exact g_jmp (hag _ _) rfl
    · intro j5 hj5
      refine g_icmp_ne 27 dX3_hardOfRota_20 (by decide) ?_ ?_
      · refine g_aload_n 0 dX3_hardOfRota_27 rfl rfl ?_
        refine g_aload_n 0 dX3_hardOfRota_28 rfl rfl ?_
        refine g_getR fo_2_0 q1056 dX3_hardOfRota_29 fun y6 => ?_
        refine g_aload_n 0 dX3_hardOfRota_32 rfl rfl ?_
        refine g_getR fo_2_0 q1056 dX3_hardOfRota_33 fun y7 => ?_
        refine g_iload_n 2 dX3_hardOfRota_36 rfl rfl ?_
        refine g_iaload dX3_hardOfRota_37 fun x8 => ?_
        refine g_iload_n 2 dX3_hardOfRota_38 rfl rfl ?_
        refine g_callV_I (mm_X3_hardOf _ _ _ _ _) rfl zc_2 q1324 q1326 qs69 q109 q1327 dv_X3_hardOf rfl (Nat.le_of_ble_eq_true rfl) (Nat.le_of_ble_eq_true rfl) (Nat.le_of_ble_eq_true rfl) dX3_hardOfRota_39 fun x9 σ => ?_
        exact g_jmp (hj5 _ _) rfl
      · refine g_iconst 0 dX3_hardOfRota_23 (by decide) ?_
        refine g_goto 42 dX3_hardOfRota_24 (by decide) ?_
        exact g_jmp (hj5 _ _) rfl
theorem mm_X3_hardOfRota (v0 : Option Nat) (σ : Hp) : MM yX3_hardOfRota mi_X3_hardOfRota rI [vA v0] σ (f_X3_hardOfRota v0 σ) := by
  refine mm_of (by decide +kernel) rfl rfl (Nat.le_of_ble_eq_true rfl) ?_
  intro X
  unfold f_X3_hardOfRota
  refine g_iconst 0 dX3_hardOfRota_0 (by decide) ?_
  refine g_istore_n 1 dX3_hardOfRota_1 rfl (lt_b rfl) ?_
  refine g_iconst 0 dX3_hardOfRota_2 (by decide) ?_
  refine g_istore_n 2 dX3_hardOfRota_3 rfl (lt_b rfl) ?_
  refine g_jmp (ok_X3_hardOfRota_b4 X v0 ?_ _ _ _) rfl
  · intro a10 σ
    refine g_iload_n 1 dX3_hardOfRota_50 rfl rfl ?_
    exact g_iret rfl dX3_hardOfRota_51
theorem dd_X3_hardOfRota : yX3_hardOfRota.cls ≠ "java/lang/invoke/MethodHandle" ∧ yX3_hardOfRota.cls ≠ "java/lang/invoke/VarHandle" ∧ (parseMethodDescriptor yX3_hardOfRota.desc).map (fun d => d.parameters.length) = some 0 := by decide +kernel
theorem dv_X3_hardOfRota : yX3_hardOfRota.cls = RX3 ∧ yX3_hardOfRota.cls ≠ "java/lang/invoke/MethodHandle" ∧ yX3_hardOfRota.cls ≠ "java/lang/invoke/VarHandle" ∧ (parseMethodDescriptor yX3_hardOfRota.desc).map (fun d => d.parameters.length) = some 0 := ⟨rfl, dd_X3_hardOfRota⟩
/-! RockingHorseModel.years(II)I -/
abbrev mi_X3_years : Mi := (cX3_years, 6, "RockingHorseModel", 206, some .int, "years")
def f_X3_years_b36 (v0 : Option Nat) (v2 : Int32) (k0 : Unit → Hp → Option (Int32 × Hp)) (ag : Int32 → Hp → Option (Int32 × Hp)) (a : Int32) (σ : Hp) : Option (Int32 × Hp) :=
  if v2 ≤ a then
    k0 () σ
  else
    ob 2 σ v0 fun _ => bnd (f_X3_draw v0 4 σ) fun x4 σ =>
    jn (fun (a5 : Unit) σ =>
        jn (fun (a7 : Unit) σ =>
            ag (a + 1) σ) fun j8 =>
        if x4 < 2 then
          j8 () σ
        else
          gI 2 3 σ v0 fun x9 =>
          if x9 = 0 then
            j8 () σ
          else
            if x4 = 2 then
              gI 2 3 σ v0 fun x14 =>
              ob 2 σ v0 fun _ => bnd (f_X3_draw v0 x14 σ) fun x15 σ =>
              gR 2 26 σ v0 fun y16 =>
              gR 2 26 σ v0 fun y17 =>
              lI 100 σ y17 (16 + x15) fun x18 =>
              sI σ y16 (16 + x15) (1 - x18) fun σ =>
              j8 () σ
            else
              ob 2 σ v0 fun _ => bnd (f_X3_draw v0 8 σ) fun x10 σ =>
              gR 2 26 σ v0 fun y11 =>
              gI 2 3 σ v0 fun x12 =>
              ob 2 σ v0 fun _ => bnd (f_X3_draw v0 x12 σ) fun x13 σ =>
              sI σ y11 x10 x13 fun σ =>
              j8 () σ) fun j6 =>
    if 2 ≤ x4 then
      j6 () σ
    else
      gR 2 26 σ v0 fun y19 =>
      ob 2 σ v0 fun _ => bnd (f_X3_goNight v0 y19 σ) fun _ σ =>
      j6 () σ
def f_X3_years (v0 : Option Nat) (v1 : Int32) (v2 : Int32) (σ : Hp) : Option (Int32 × Hp) :=
  pI 0 2 11 σ v0 0 fun σ =>
  bnd (f_X3_in v2 1 60 σ) fun x1 σ =>
  if x1 = 0 then
    some ((-1), σ)
  else
    pI 0 2 46 σ v0 v1 fun σ =>
    gR 2 0 σ v0 fun y2 =>
    gR 2 26 σ v0 fun y3 =>
    bnd (f_X3_lay y2 y3 0 σ) fun _ σ =>
    lp 2000 (f_X3_years_b36 v0 v2 (fun (a20 : Unit) σ =>
        pI 0 2 10 σ v0 0 fun σ =>
        gR 2 26 σ v0 fun y21 =>
        lI 100 σ y21 26 fun x22 =>
        gR 2 0 σ v0 fun y23 =>
        lI 100 σ y23 26 fun x24 =>
        ob 2 σ v0 fun _ => bnd (f_X3_tell v0 (Int32.toInt64 (x22 - x24)) σ) fun _ σ =>
        gR 2 26 σ v0 fun y25 =>
        ob 2 σ v0 fun _ => bnd (f_X3_tired v0 y25 σ) fun x26 σ =>
        ob 2 σ v0 fun _ => bnd (f_X3_tell v0 (Int32.toInt64 x26) σ) fun _ σ =>
        gR 2 26 σ v0 fun y27 =>
        lI 100 σ y27 25 fun x28 =>
        gR 2 0 σ v0 fun y29 =>
        lI 100 σ y29 25 fun x30 =>
        some ((x28 - x30), σ))) 0 σ
theorem ok_X3_years_b36 (X : Mx) (v0 : Option Nat) (v2 : Int32) {k0 : Unit → Hp → Option (Int32 × Hp)} (hk0 : ∀ (a : Unit) (σ : Hp), GG X mi_X3_years (QM X rI) 148 [(0, vA v0)] [] σ (k0 a σ)) : ∀ (m : Nat) (a : Int32) (σ : Hp), GG X mi_X3_years (QM X rI) 36 [(0, vA v0), (2, vI v2), (3, vI a)] [] σ (lp m (f_X3_years_b36 v0 v2 k0) a σ) := by
  refine g_lp (fun (a : Int32) => [(0, vA v0), (2, vI v2), (3, vI a)]) ?_
  intro ag hag a σ
  unfold f_X3_years_b36
  refine g_iload_n 3 dX3_years_36 rfl rfl ?_
  refine g_iload_n 2 dX3_years_37 rfl rfl ?_
  refine g_icmp_ge 148 dX3_years_38 (by decide) ?_ ?_
  · exact g_jmp (hk0 _ _) rfl
  · refine g_aload_n 0 dX3_years_41 rfl rfl ?_
    refine g_iconst 4 dX3_years_42 (by decide) ?_
    refine g_callV_I (mm_X3_draw _ _ _) rfl zc_2 q1655 q1657 qs105 q109 q1658 dv_X3_draw rfl (Nat.le_of_ble_eq_true rfl) (Nat.le_of_ble_eq_true rfl) (Nat.le_of_ble_eq_true rfl) dX3_years_43 fun x4 σ => ?_
    refine g_istore dX3_years_46 (lt_b rfl) ?_
    refine g_iload dX3_years_48 rfl ?_
    refine g_iconst 2 dX3_years_50 (by decide) ?_
    refine g_jn (fun j6 => ∀ (a5 : Unit) (σ : Hp), GG X mi_X3_years (QM X rI) 62 [(0, vA v0), (2, vI v2), (3, vI a), (4, vI x4)] [] σ (j6 a5 σ)) ?_ ?_
    · intro a5 σ
      refine g_iload dX3_years_62 rfl ?_
      refine g_iconst 2 dX3_years_64 (by decide) ?_
      refine g_jn (fun j8 => ∀ (a7 : Unit) (σ : Hp), GG X mi_X3_years (QM X rI) 142 [(0, vA v0), (2, vI v2), (3, vI a)] [] σ (j8 a7 σ)) ?_ ?_
      · intro a7 σ
        refine g_iinc 1 dX3_years_142 (by decide) rfl (lt_b rfl) ?_
        refine g_goto 36 dX3_years_145 (by decide) ?_
        exact g_jmp (hag _ _) rfl
      · intro j8 hj8
        refine g_icmp_lt 142 dX3_years_65 (by decide) ?_ ?_
        · exact g_jmp (hj8 _ _) rfl
        · refine g_aload_n 0 dX3_years_68 rfl rfl ?_
          refine g_getI fo_2_3 (by decide) q1059 dX3_years_69 fun x9 => ?_
          refine g_if_ne 78 dX3_years_72 (by decide) ?_ ?_
          · refine g_iload dX3_years_78 rfl ?_
            refine g_iconst 2 dX3_years_80 (by decide) ?_
            refine g_icmp_ne 119 dX3_years_81 (by decide) ?_ ?_
            · refine g_aload_n 0 dX3_years_119 rfl rfl ?_
              refine g_bipush 8 dX3_years_120 (by decide) ?_
              refine g_callV_I (mm_X3_draw _ _ _) rfl zc_2 q1655 q1657 qs105 q109 q1658 dv_X3_draw rfl (Nat.le_of_ble_eq_true rfl) (Nat.le_of_ble_eq_true rfl) (Nat.le_of_ble_eq_true rfl) dX3_years_122 fun x10 σ => ?_
              refine g_istore dX3_years_125 (lt_b rfl) ?_
              refine g_aload_n 0 dX3_years_127 rfl rfl ?_
              refine g_getR fo_2_26 q1082 dX3_years_128 fun y11 => ?_
              refine g_iload dX3_years_131 rfl ?_
              refine g_aload_n 0 dX3_years_133 rfl rfl ?_
              refine g_aload_n 0 dX3_years_134 rfl rfl ?_
              refine g_getI fo_2_3 (by decide) q1059 dX3_years_135 fun x12 => ?_
              refine g_callV_I (mm_X3_draw _ _ _) rfl zc_2 q1655 q1657 qs105 q109 q1658 dv_X3_draw rfl (Nat.le_of_ble_eq_true rfl) (Nat.le_of_ble_eq_true rfl) (Nat.le_of_ble_eq_true rfl) dX3_years_138 fun x13 σ => ?_
              refine g_iastore dX3_years_141 fun σ => ?_
              exact g_jmp (hj8 _ _) rfl
            · refine g_aload_n 0 dX3_years_84 rfl rfl ?_
              refine g_aload_n 0 dX3_years_85 rfl rfl ?_
              refine g_getI fo_2_3 (by decide) q1059 dX3_years_86 fun x14 => ?_
              refine g_callV_I (mm_X3_draw _ _ _) rfl zc_2 q1655 q1657 qs105 q109 q1658 dv_X3_draw rfl (Nat.le_of_ble_eq_true rfl) (Nat.le_of_ble_eq_true rfl) (Nat.le_of_ble_eq_true rfl) dX3_years_89 fun x15 σ => ?_
              refine g_istore dX3_years_92 (lt_b rfl) ?_
              refine g_aload_n 0 dX3_years_94 rfl rfl ?_
              refine g_getR fo_2_26 q1082 dX3_years_95 fun y16 => ?_
              refine g_bipush 16 dX3_years_98 (by decide) ?_
              refine g_iload dX3_years_100 rfl ?_
              refine g_iadd dX3_years_102 ?_
              refine g_iconst 1 dX3_years_103 (by decide) ?_
              refine g_aload_n 0 dX3_years_104 rfl rfl ?_
              refine g_getR fo_2_26 q1082 dX3_years_105 fun y17 => ?_
              refine g_bipush 16 dX3_years_108 (by decide) ?_
              refine g_iload dX3_years_110 rfl ?_
              refine g_iadd dX3_years_112 ?_
              refine g_iaload dX3_years_113 fun x18 => ?_
              refine g_isub dX3_years_114 ?_
              refine g_iastore dX3_years_115 fun σ => ?_
              refine g_goto 142 dX3_years_116 (by decide) ?_
              exact g_jmp (hj8 _ _) rfl
          · refine g_goto 142 dX3_years_75 (by decide) ?_
            exact g_jmp (hj8 _ _) rfl
    · intro j6 hj6
      refine g_icmp_ge 62 dX3_years_51 (by decide) ?_ ?_
      · exact g_jmp (hj6 _ _) rfl
      · refine g_aload_n 0 dX3_years_54 rfl rfl ?_
        refine g_aload_n 0 dX3_years_55 rfl rfl ?_
        refine g_getR fo_2_26 q1082 dX3_years_56 fun y19 => ?_
        refine g_callV_V (mm_X3_goNight _ _ _) rfl zc_2 q1374 q1376 qs74 q109 q1377 dv_X3_goNight rfl (Nat.le_of_ble_eq_true rfl) (Nat.le_of_ble_eq_true rfl) (Nat.le_of_ble_eq_true rfl) dX3_years_59 fun _ σ => ?_
        exact g_jmp (hj6 _ _) rfl
theorem mm_X3_years (v0 : Option Nat) (v1 : Int32) (v2 : Int32) (σ : Hp) : MM yX3_years mi_X3_years rI [vA v0, vI v1, vI v2] σ (f_X3_years v0 v1 v2 σ) := by
  refine mm_of (by decide +kernel) rfl rfl (Nat.le_of_ble_eq_true rfl) ?_
  intro X
  unfold f_X3_years
  refine g_aload_n 0 dX3_years_0 rfl rfl ?_
  refine g_iconst 0 dX3_years_1 (by decide) ?_
  refine g_putI fo_2_11 (by decide) rfl q1067 dX3_years_2 fun σ => ?_
  refine g_iload_n 2 dX3_years_5 rfl rfl ?_
  refine g_iconst 1 dX3_years_6 (by decide) ?_
  refine g_bipush 60 dX3_years_7 (by decide) ?_
  refine g_callS_I (mm_X3_in _ _ _ _) rfl q1223 q1224 q109 q1225 dd_X3_in rfl (Nat.le_of_ble_eq_true rfl) (Nat.le_of_ble_eq_true rfl) (Nat.le_of_ble_eq_true rfl) dX3_years_9 fun x1 σ => ?_
  refine g_if_ne 17 dX3_years_12 (by decide) ?_ ?_
  · refine g_aload_n 0 dX3_years_17 rfl rfl ?_
    refine g_iload_n 1 dX3_years_18 rfl rfl ?_
    refine g_putI fo_2_46 (by decide) rfl q1102 dX3_years_19 fun σ => ?_
    refine g_aload_n 0 dX3_years_22 rfl rfl ?_
    refine g_getR fo_2_0 q1056 dX3_years_23 fun y2 => ?_
    refine g_aload_n 0 dX3_years_26 rfl rfl ?_
    refine g_getR fo_2_26 q1082 dX3_years_27 fun y3 => ?_
    refine g_iconst 0 dX3_years_30 (by decide) ?_
    refine g_callS_V (mm_X3_lay _ _ _ _) rfl q1347 q1348 q109 q1349 dd_X3_lay rfl (Nat.le_of_ble_eq_true rfl) (Nat.le_of_ble_eq_true rfl) (Nat.le_of_ble_eq_true rfl) dX3_years_31 fun _ σ => ?_
    refine g_iconst 0 dX3_years_34 (by decide) ?_
    refine g_istore_n 3 dX3_years_35 rfl (lt_b rfl) ?_
    refine g_jmp (ok_X3_years_b36 X v0 v2 ?_ _ _ _) rfl
    · intro a20 σ
      refine g_aload_n 0 dX3_years_148 rfl rfl ?_
      refine g_iconst 0 dX3_years_149 (by decide) ?_
      refine g_putI fo_2_10 (by decide) rfl q1066 dX3_years_150 fun σ => ?_
      refine g_aload_n 0 dX3_years_153 rfl rfl ?_
      refine g_aload_n 0 dX3_years_154 rfl rfl ?_
      refine g_getR fo_2_26 q1082 dX3_years_155 fun y21 => ?_
      refine g_bipush 26 dX3_years_158 (by decide) ?_
      refine g_iaload dX3_years_160 fun x22 => ?_
      refine g_aload_n 0 dX3_years_161 rfl rfl ?_
      refine g_getR fo_2_0 q1056 dX3_years_162 fun y23 => ?_
      refine g_bipush 26 dX3_years_165 (by decide) ?_
      refine g_iaload dX3_years_167 fun x24 => ?_
      refine g_isub dX3_years_168 ?_
      refine g_i2l dX3_years_169 ?_
      refine g_callV_V (mm_X3_tell _ _ _) rfl zc_2 q1382 q1384 qs75 q109 q1385 dv_X3_tell rfl (Nat.le_of_ble_eq_true rfl) (Nat.le_of_ble_eq_true rfl) (Nat.le_of_ble_eq_true rfl) dX3_years_170 fun _ σ => ?_
      refine g_aload_n 0 dX3_years_173 rfl rfl ?_
      refine g_aload_n 0 dX3_years_174 rfl rfl ?_
      refine g_aload_n 0 dX3_years_175 rfl rfl ?_
      refine g_getR fo_2_26 q1082 dX3_years_176 fun y25 => ?_
      refine g_callV_I (mm_X3_tired _ _ _) rfl zc_2 q1386 q1388 qs76 q109 q1389 dv_X3_tired rfl (Nat.le_of_ble_eq_true rfl) (Nat.le_of_ble_eq_true rfl) (Nat.le_of_ble_eq_true rfl) dX3_years_179 fun x26 σ => ?_
      refine g_i2l dX3_years_182 ?_
      refine g_callV_V (mm_X3_tell _ _ _) rfl zc_2 q1382 q1384 qs75 q109 q1385 dv_X3_tell rfl (Nat.le_of_ble_eq_true rfl) (Nat.le_of_ble_eq_true rfl) (Nat.le_of_ble_eq_true rfl) dX3_years_183 fun _ σ => ?_
      refine g_aload_n 0 dX3_years_186 rfl rfl ?_
      refine g_getR fo_2_26 q1082 dX3_years_187 fun y27 => ?_
      refine g_bipush 25 dX3_years_190 (by decide) ?_
      refine g_iaload dX3_years_192 fun x28 => ?_
      refine g_aload_n 0 dX3_years_193 rfl rfl ?_
      refine g_getR fo_2_0 q1056 dX3_years_194 fun y29 => ?_
      refine g_bipush 25 dX3_years_197 (by decide) ?_
      refine g_iaload dX3_years_199 fun x30 => ?_
      refine g_isub dX3_years_200 ?_
      exact g_iret rfl dX3_years_201
  · refine g_iconst (-1) dX3_years_15 (by decide) ?_
    exact g_iret rfl dX3_years_16
theorem dd_X3_years : yX3_years.cls ≠ "java/lang/invoke/MethodHandle" ∧ yX3_years.cls ≠ "java/lang/invoke/VarHandle" ∧ (parseMethodDescriptor yX3_years.desc).map (fun d => d.parameters.length) = some 2 := by decide +kernel
theorem dv_X3_years : yX3_years.cls = RX3 ∧ yX3_years.cls ≠ "java/lang/invoke/MethodHandle" ∧ yX3_years.cls ≠ "java/lang/invoke/VarHandle" ∧ (parseMethodDescriptor yX3_years.desc).map (fun d => d.parameters.length) = some 2 := ⟨rfl, dd_X3_years⟩
/-! java/lang/String.indexOf(II)I -/
abbrev mi_J1_indexOf_2 : Mi := (cJ1_indexOf_2, 3, "java/lang/String", 2, some .int, "indexOf")
def f_J1_indexOf_2 (v0 : Nat) (v1 : Int32) (v2 : Int32) (σ : Hp) : Option (Int32 × Hp) :=
  sV v0 <| bnd (f_J1_isLatin1 v0 σ) fun x1 σ =>
  if x1 = 0 then
    sV v0 <|
    sV v0 <| bnd (f_J1_length v0 σ) fun x2 σ =>
    none
  else
    sV v0 <|
    sV v0 <| bnd (f_J1_length v0 σ) fun x3 σ =>
    bnd (f_J2_indexOf (8 + v0) v1 v2 x3 σ) fun x4 σ =>
    some (x4, σ)
theorem mm_J1_indexOf_2 (v0 : Nat) (v1 : Int32) (v2 : Int32) (σ : Hp) : MM yJ1_indexOf_2 mi_J1_indexOf_2 rI [vS v0, vI v1, vI v2] σ (f_J1_indexOf_2 v0 v1 v2 σ) := by
  refine mm_of (by decide +kernel) rfl rfl (Nat.le_of_ble_eq_true rfl) ?_
  intro X
  unfold f_J1_indexOf_2
  refine g_aload_nS 0 dJ1_indexOf_2_0 rfl rfl ?_
  refine g_callStr_I (mm_J1_isLatin1 _ _) rfl q381 q382 q383 q111 q384 dv_J1_isLatin1 rfl (Nat.le_of_ble_eq_true rfl) (Nat.le_of_ble_eq_true rfl) (Nat.le_of_ble_eq_true rfl) dJ1_indexOf_2_1 fun x1 σ => ?_
  refine g_if_eq 23 dJ1_indexOf_2_4 (by decide) ?_ ?_
  · refine g_aload_nS 0 dJ1_indexOf_2_23 rfl rfl ?_
    refine g_strValue q1688 dJ1_indexOf_2_24 ?_
    refine g_iload_n 1 dJ1_indexOf_2_27 rfl rfl ?_
    refine g_iload_n 2 dJ1_indexOf_2_28 rfl rfl ?_
    refine g_aload_nS 0 dJ1_indexOf_2_29 rfl rfl ?_
    refine g_callStr_I (mm_J1_length _ _) rfl q387 q388 q389 q111 q390 dv_J1_length rfl (Nat.le_of_ble_eq_true rfl) (Nat.le_of_ble_eq_true rfl) (Nat.le_of_ble_eq_true rfl) dJ1_indexOf_2_30 fun x2 σ => ?_
    exact g_none
  · refine g_aload_nS 0 dJ1_indexOf_2_7 rfl rfl ?_
    refine g_strValue q1688 dJ1_indexOf_2_8 ?_
    refine g_iload_n 1 dJ1_indexOf_2_11 rfl rfl ?_
    refine g_iload_n 2 dJ1_indexOf_2_12 rfl rfl ?_
    refine g_aload_nS 0 dJ1_indexOf_2_13 rfl rfl ?_
    refine g_callStr_I (mm_J1_length _ _) rfl q387 q388 q389 q111 q390 dv_J1_length rfl (Nat.le_of_ble_eq_true rfl) (Nat.le_of_ble_eq_true rfl) (Nat.le_of_ble_eq_true rfl) dJ1_indexOf_2_14 fun x3 σ => ?_
    refine g_callS_I (mm_J2_indexOf _ _ _ _ _) rfl q395 q396 q112 q397 dd_J2_indexOf rfl (Nat.le_of_ble_eq_true rfl) (Nat.le_of_ble_eq_true rfl) (Nat.le_of_ble_eq_true rfl) dJ1_indexOf_2_17 fun x4 σ => ?_
    refine g_goto 36 dJ1_indexOf_2_20 (by decide) ?_
    exact g_iret rfl dJ1_indexOf_2_36
theorem dd_J1_indexOf_2 : yJ1_indexOf_2.cls ≠ "java/lang/invoke/MethodHandle" ∧ yJ1_indexOf_2.cls ≠ "java/lang/invoke/VarHandle" ∧ (parseMethodDescriptor yJ1_indexOf_2.desc).map (fun d => d.parameters.length) = some 2 := by decide +kernel
theorem dv_J1_indexOf_2 : yJ1_indexOf_2.cls = RJ1 ∧ yJ1_indexOf_2.cls ≠ "java/lang/invoke/MethodHandle" ∧ yJ1_indexOf_2.cls ≠ "java/lang/invoke/VarHandle" ∧ (parseMethodDescriptor yJ1_indexOf_2.desc).map (fun d => d.parameters.length) = some 2 := ⟨rfl, dd_J1_indexOf_2⟩
/-! RockingHorse.nightsGo(LRockingHorse$Horse;I)V -/
abbrev mi_X1_nightsGo : Mi := (cX1_nightsGo, 4, "RockingHorse", 104, none, "nightsGo")
def f_X1_nightsGo_b2 (v0 : Option Nat) (v1 : Option Nat) (v2 : Int32) (k0 : Unit → Hp → Option (Unit × Hp)) (ag : Int32 → Hp → Option (Unit × Hp)) (a : Int32) (σ : Hp) : Option (Unit × Hp) :=
  if v2 ≤ a then
    k0 () σ
  else
    ob 0 σ v0 fun _ => bnd (f_X1_nightGoes v0 v1 σ) fun _ σ =>
    ag (a + 1) σ
def f_X1_nightsGo (v0 : Option Nat) (v1 : Option Nat) (v2 : Int32) (σ : Hp) : Option (Unit × Hp) :=
  lp 2000 (f_X1_nightsGo_b2 v0 v1 v2 (fun (a1 : Unit) σ =>
      some ((), σ))) 0 σ
theorem ok_X1_nightsGo_b2 (X : Mx) (v0 : Option Nat) (v1 : Option Nat) (v2 : Int32) {k0 : Unit → Hp → Option (Unit × Hp)} (hk0 : ∀ (a : Unit) (σ : Hp), GG X mi_X1_nightsGo (QM X rV) 18 [] [] σ (k0 a σ)) : ∀ (m : Nat) (a : Int32) (σ : Hp), GG X mi_X1_nightsGo (QM X rV) 2 [(0, vA v0), (1, vA v1), (2, vI v2), (3, vI a)] [] σ (lp m (f_X1_nightsGo_b2 v0 v1 v2 k0) a σ) := by
  refine g_lp (fun (a : Int32) => [(0, vA v0), (1, vA v1), (2, vI v2), (3, vI a)]) ?_
  intro ag hag a σ
  unfold f_X1_nightsGo_b2
  refine g_iload_n 3 dX1_nightsGo_2 rfl rfl ?_
  refine g_iload_n 2 dX1_nightsGo_3 rfl rfl ?_
  refine g_icmp_ge 18 dX1_nightsGo_4 (by decide) ?_ ?_
  · exact g_jmp (hk0 _ _) rfl
  · refine g_aload_n 0 dX1_nightsGo_7 rfl rfl ?_
    refine g_aload_n 1 dX1_nightsGo_8 rfl rfl ?_
    refine g_callV_V (mm_X1_nightGoes _ _ _) rfl zc_0 q669 q671 qs19 q107 q672 dv_X1_nightGoes rfl (Nat.le_of_ble_eq_true rfl) (Nat.le_of_ble_eq_true rfl) (Nat.le_of_ble_eq_true rfl) dX1_nightsGo_9 fun _ σ => ?_
    refine g_iinc 1 dX1_nightsGo_12 (by decide) rfl (lt_b rfl) ?_
    refine g_goto 2 dX1_nightsGo_15 (by decide) ?_
    exact g_jmp (hag _ _) rfl
theorem mm_X1_nightsGo (v0 : Option Nat) (v1 : Option Nat) (v2 : Int32) (σ : Hp) : MM yX1_nightsGo mi_X1_nightsGo rV [vA v0, vA v1, vI v2] σ (f_X1_nightsGo v0 v1 v2 σ) := by
  refine mm_of (by decide +kernel) rfl rfl (Nat.le_of_ble_eq_true rfl) ?_
  intro X
  unfold f_X1_nightsGo
  refine g_iconst 0 dX1_nightsGo_0 (by decide) ?_
  refine g_istore_n 3 dX1_nightsGo_1 rfl (lt_b rfl) ?_
  refine g_jmp (ok_X1_nightsGo_b2 X v0 v1 v2 ?_ _ _ _) rfl
  · intro a1 σ
    exact g_vret rfl dX1_nightsGo_18
theorem dd_X1_nightsGo : yX1_nightsGo.cls ≠ "java/lang/invoke/MethodHandle" ∧ yX1_nightsGo.cls ≠ "java/lang/invoke/VarHandle" ∧ (parseMethodDescriptor yX1_nightsGo.desc).map (fun d => d.parameters.length) = some 2 := by decide +kernel
theorem dv_X1_nightsGo : yX1_nightsGo.cls = RX1 ∧ yX1_nightsGo.cls ≠ "java/lang/invoke/MethodHandle" ∧ yX1_nightsGo.cls ≠ "java/lang/invoke/VarHandle" ∧ (parseMethodDescriptor yX1_nightsGo.desc).map (fun d => d.parameters.length) = some 2 := ⟨rfl, dd_X1_nightsGo⟩
