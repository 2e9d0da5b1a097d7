set_option maxRecDepth 100000
/-! RockingHorse.bare()I -/
abbrev mi_X1_bare : Mi := (cX1_bare, 2, "RockingHorse", 2, some .int, "bare")
def f_X1_bare (v0 : Option Nat) (σ : Hp) : Option (Int32 × Hp) :=
  ob 0 σ v0 fun _ => bnd (f_X1_well v0 σ) fun x1 σ =>
  ob 0 σ v0 fun _ => bnd (f_X1_lacking v0 x1 σ) fun x2 σ =>
  if x2 = 0 then
    some ((-2), σ)
  else
    pI 0 0 52 σ v0 0 fun σ =>
    ob 0 σ v0 fun _ => bnd (f_X1_tells v0 (Int32.toInt64 x2) σ) fun _ σ =>
    bnd (f_J10_bitCount x2 σ) fun x3 σ =>
    some (x3, σ)
theorem mm_X1_bare (v0 : Option Nat) (σ : Hp) : MM yX1_bare mi_X1_bare rI [vA v0] σ (f_X1_bare v0 σ) := by
  refine mm_of (by decide +kernel) rfl rfl (Nat.le_of_ble_eq_true rfl) ?_
  intro X
  unfold f_X1_bare
  refine g_aload_n 0 dX1_bare_0 rfl rfl ?_
  refine g_aload_n 0 dX1_bare_1 rfl rfl ?_
  refine g_callV_I (mm_X1_well _ _) rfl zc_0 q794 q796 qs37 q107 q797 dv_X1_well rfl (Nat.le_of_ble_eq_true rfl) (Nat.le_of_ble_eq_true rfl) (Nat.le_of_ble_eq_true rfl) dX1_bare_2 fun x1 σ => ?_
  refine g_callV_I (mm_X1_lacking _ _ _) rfl zc_0 q786 q788 qs36 q107 q789 dv_X1_lacking rfl (Nat.le_of_ble_eq_true rfl) (Nat.le_of_ble_eq_true rfl) (Nat.le_of_ble_eq_true rfl) dX1_bare_5 fun x2 σ => ?_
  refine g_istore_n 1 dX1_bare_8 rfl (lt_b rfl) ?_
  refine g_iload_n 1 dX1_bare_9 rfl rfl ?_
  refine g_if_ne 16 dX1_bare_10 (by decide) ?_ ?_
  · refine g_aload_n 0 dX1_bare_16 rfl rfl ?_
    refine g_iconst 0 dX1_bare_17 (by decide) ?_
    refine g_putI fo_0_52 (by decide) rfl q229 dX1_bare_18 fun σ => ?_
    refine g_aload_n 0 dX1_bare_21 rfl rfl ?_
    refine g_iload_n 1 dX1_bare_22 rfl rfl ?_
    refine g_i2l dX1_bare_23 ?_
    refine g_callV_V (mm_X1_tells _ _ _) rfl zc_0 q683 q685 qs21 q107 q686 dv_X1_tells rfl (Nat.le_of_ble_eq_true rfl) (Nat.le_of_ble_eq_true rfl) (Nat.le_of_ble_eq_true rfl) dX1_bare_24 fun _ σ => ?_
    refine g_iload_n 1 dX1_bare_27 rfl rfl ?_
    refine g_callS_I (mm_J10_bitCount _ _) rfl q659 q600 q125 q601 dd_J10_bitCount rfl (Nat.le_of_ble_eq_true rfl) (Nat.le_of_ble_eq_true rfl) (Nat.le_of_ble_eq_true rfl) dX1_bare_28 fun x3 σ => ?_
    exact g_iret rfl dX1_bare_31
  · refine g_bipush (-2) dX1_bare_13 (by decide) ?_
    exact g_iret rfl dX1_bare_15
theorem dd_X1_bare : yX1_bare.cls ≠ "java/lang/invoke/MethodHandle" ∧ yX1_bare.cls ≠ "java/lang/invoke/VarHandle" ∧ (parseMethodDescriptor yX1_bare.desc).map (fun d => d.parameters.length) = some 0 := by decide +kernel
theorem dv_X1_bare : yX1_bare.cls = RX1 ∧ yX1_bare.cls ≠ "java/lang/invoke/MethodHandle" ∧ yX1_bare.cls ≠ "java/lang/invoke/VarHandle" ∧ (parseMethodDescriptor yX1_bare.desc).map (fun d => d.parameters.length) = some 0 := ⟨rfl, dd_X1_bare⟩
/-! RockingHorse.laysWays()J -/
abbrev mi_X1_laysWays : Mi := (cX1_laysWays, 5, "RockingHorse", 1, some .long, "laysWays")
def f_X1_laysWays_b2 (v0 : Option Nat) (k0 : Unit → Hp → Option (Int64 × Hp)) (ag : Int32 → Hp → Option (Int64 × Hp)) (a : Int32) (σ : Hp) : Option (Int64 × Hp) :=
  if 256 ≤ a then
    k0 () σ
  else
    gR 0 41 σ v0 fun y1 =>
    jn (fun (a2 : Int64) σ =>
        sL σ y1 a a2 fun σ =>
        ag (a + 1) σ) fun j3 =>
    if a = 0 then
      j3 1 σ
    else
      j3 0 σ
def f_X1_laysWays_b61 (v0 : Option Nat) (v1 : Int32) (v2 : Int32) (v3 : Int32) (k0 : Unit → Hp → Option (Int64 × Hp)) (ag : Int32 → Hp → Option (Int64 × Hp)) (a : Int32) (σ : Hp) : Option (Int64 × Hp) :=
  if a ≤ 0 then
    k0 () σ
  else
    bnd (f_J10_bitCount a σ) fun x9 σ =>
    gR 0 2 σ v0 fun y10 =>
    lI 100 σ y10 v1 fun x11 =>
    jn (fun (a12 : Unit) σ =>
        ag ((a - 1) &&& v3) σ) fun j13 =>
    if x11 < x9 then
      j13 () σ
    else
      gR 0 41 σ v0 fun y14 =>
      lL σ y14 v2 fun x15 =>
      gR 0 41 σ v0 fun y16 =>
      lL σ y16 (v2 &&& (a ^^^ (-1))) fun x17 =>
      sL σ y14 v2 (x15 + x17) fun σ =>
      j13 () σ
def f_X1_laysWays_b45 (v0 : Option Nat) (v1 : Int32) (k0 : Unit → Hp → Option (Int64 × Hp)) (ag : Int32 → Hp → Option (Int64 × Hp)) (a : Int32) (σ : Hp) : Option (Int64 × Hp) :=
  if a ≤ 0 then
    k0 () σ
  else
    gR 0 35 σ v0 fun y7 =>
    lI 100 σ y7 v1 fun x8 =>
    lp 2000 (f_X1_laysWays_b61 v0 v1 a (a &&& x8) (fun (a18 : Unit) σ =>
        ag (a + (-1)) σ)) (a &&& x8) σ
def f_X1_laysWays_b32 (v0 : Option Nat) (k0 : Unit → Hp → Option (Int64 × Hp)) (ag : Int32 → Hp → Option (Int64 × Hp)) (a : Int32) (σ : Hp) : Option (Int64 × Hp) :=
  gI 0 5 σ v0 fun x5 =>
  if x5 ≤ a then
    k0 () σ
  else
    ob 0 σ v0 fun _ => bnd (f_X1_wholeNight v0 σ) fun x6 σ =>
    lp 2000 (f_X1_laysWays_b45 v0 a (fun (a19 : Unit) σ =>
        ag (a + 1) σ)) x6 σ
def f_X1_laysWays (v0 : Option Nat) (σ : Hp) : Option (Int64 × Hp) :=
  lp 2000 (f_X1_laysWays_b2 v0 (fun (a4 : Unit) σ =>
      lp 2000 (f_X1_laysWays_b32 v0 (fun (a20 : Unit) σ =>
          gR 0 41 σ v0 fun y21 =>
          ob 0 σ v0 fun _ => bnd (f_X1_wholeNight v0 σ) fun x22 σ =>
          lL σ y21 x22 fun x23 =>
          some (x23, σ))) 0 σ)) 0 σ
theorem ok_X1_laysWays_b2 (X : Mx) (v0 : Option Nat) {k0 : Unit → Hp → Option (Int64 × Hp)} (hk0 : ∀ (a : Unit) (σ : Hp), GG X mi_X1_laysWays (QM X rL) 30 [(0, vA v0)] [] σ (k0 a σ)) : ∀ (m : Nat) (a : Int32) (σ : Hp), GG X mi_X1_laysWays (QM X rL) 2 [(0, vA v0), (1, vI a)] [] σ (lp m (f_X1_laysWays_b2 v0 k0) a σ) := by
  refine g_lp (fun (a : Int32) => [(0, vA v0), (1, vI a)]) ?_
  intro ag hag a σ
  unfold f_X1_laysWays_b2
  refine g_iload_n 1 dX1_laysWays_2 rfl rfl ?_
  refine g_sipush 256 dX1_laysWays_3 (by decide) ?_
  refine g_icmp_ge 30 dX1_laysWays_6 (by decide) ?_ ?_
  · exact g_jmp (hk0 _ _) rfl
  · refine g_aload_n 0 dX1_laysWays_9 rfl rfl ?_
    refine g_getR fo_0_41 q218 dX1_laysWays_10 fun y1 => ?_
    refine g_iload_n 1 dX1_laysWays_13 rfl rfl ?_
    refine g_iload_n 1 dX1_laysWays_14 rfl rfl ?_
    refine g_jn (fun j3 => ∀ (a2 : Int64) (σ : Hp), GG X mi_X1_laysWays (QM X rL) 23 [(0, vA v0), (1, vI a)] [vL a2, vI a, vA y1] σ (j3 a2 σ)) ?_ ?_
    · intro a2 σ
      refine g_lastore dX1_laysWays_23 fun σ => ?_
      refine g_iinc 1 dX1_laysWays_24 (by decide) rfl (lt_b rfl) ?_
      refine g_goto 2 dX1_laysWays_27 (by decide) ?_
      exact g_jmp (hag _ _) rfl
    · intro j3 hj3
      refine g_if_ne 22 dX1_laysWays_15 (by decide) ?_ ?_
      · refine g_lconst 0 dX1_laysWays_22 (by decide) ?_
        exact g_jmp (hj3 _ _) rfl
      · refine g_lconst 1 dX1_laysWays_18 (by decide) ?_
        refine g_goto 23 dX1_laysWays_19 (by decide) ?_
        exact g_jmp (hj3 _ _) rfl
theorem ok_X1_laysWays_b61 (X : Mx) (v0 : Option Nat) (v1 : Int32) (v2 : Int32) (v3 : Int32) {k0 : Unit → Hp → Option (Int64 × Hp)} (hk0 : ∀ (a : Unit) (σ : Hp), GG X mi_X1_laysWays (QM X rL) 111 [(0, vA v0), (1, vI v1), (2, vI v2)] [] σ (k0 a σ)) : ∀ (m : Nat) (a : Int32) (σ : Hp), GG X mi_X1_laysWays (QM X rL) 61 [(0, vA v0), (1, vI v1), (2, vI v2), (3, vI v3), (4, vI a)] [] σ (lp m (f_X1_laysWays_b61 v0 v1 v2 v3 k0) a σ) := by
  refine g_lp (fun (a : Int32) => [(0, vA v0), (1, vI v1), (2, vI v2), (3, vI v3), (4, vI a)]) ?_
  intro ag hag a σ
  unfold f_X1_laysWays_b61
  refine g_iload dX1_laysWays_61 rfl ?_
  refine g_if_le 111 dX1_laysWays_63 (by decide) ?_ ?_
  · exact g_jmp (hk0 _ _) rfl
  · refine g_iload dX1_laysWays_66 rfl ?_
    refine g_callS_I (mm_J10_bitCount _ _) rfl q659 q600 q125 q601 dd_J10_bitCount rfl (Nat.le_of_ble_eq_true rfl) (Nat.le_of_ble_eq_true rfl) (Nat.le_of_ble_eq_true rfl) dX1_laysWays_68 fun x9 σ => ?_
    refine g_aload_n 0 dX1_laysWays_71 rfl rfl ?_
    refine g_getR fo_0_2 q173 dX1_laysWays_72 fun y10 => ?_
    refine g_iload_n 1 dX1_laysWays_75 rfl rfl ?_
    refine g_iaload dX1_laysWays_76 fun x11 => ?_
    refine g_jn (fun j13 => ∀ (a12 : Unit) (σ : Hp), GG X mi_X1_laysWays (QM X rL) 100 [(0, vA v0), (1, vI v1), (2, vI v2), (3, vI v3), (4, vI a)] [] σ (j13 a12 σ)) ?_ ?_
    · intro a12 σ
      refine g_iload dX1_laysWays_100 rfl ?_
      refine g_iconst 1 dX1_laysWays_102 (by decide) ?_
      refine g_isub dX1_laysWays_103 ?_
      refine g_iload_n 3 dX1_laysWays_104 rfl rfl ?_
      refine g_iand dX1_laysWays_105 ?_
      refine g_istore dX1_laysWays_106 (lt_b rfl) ?_
      refine g_goto 61 dX1_laysWays_108 (by decide) ?_
      exact g_jmp (hag _ _) rfl
    · intro j13 hj13
      refine g_icmp_gt 100 dX1_laysWays_77 (by decide) ?_ ?_
      · exact g_jmp (hj13 _ _) rfl
      · refine g_aload_n 0 dX1_laysWays_80 rfl rfl ?_
        refine g_getR fo_0_41 q218 dX1_laysWays_81 fun y14 => ?_
        refine g_iload_n 2 dX1_laysWays_84 rfl rfl ?_
        refine g_dup2 dX1_laysWays_85 rfl rfl ?_
        refine g_laload dX1_laysWays_86 fun x15 => ?_
        refine g_aload_n 0 dX1_laysWays_87 rfl rfl ?_
        refine g_getR fo_0_41 q218 dX1_laysWays_88 fun y16 => ?_
        refine g_iload_n 2 dX1_laysWays_91 rfl rfl ?_
        refine g_iload dX1_laysWays_92 rfl ?_
        refine g_iconst (-1) dX1_laysWays_94 (by decide) ?_
        refine g_ixor dX1_laysWays_95 ?_
        refine g_iand dX1_laysWays_96 ?_
        refine g_laload dX1_laysWays_97 fun x17 => ?_
        refine g_ladd dX1_laysWays_98 ?_
        refine g_lastore dX1_laysWays_99 fun σ => ?_
        exact g_jmp (hj13 _ _) rfl
theorem ok_X1_laysWays_b45 (X : Mx) (v0 : Option Nat) (v1 : Int32) {k0 : Unit → Hp → Option (Int64 × Hp)} (hk0 : ∀ (a : Unit) (σ : Hp), GG X mi_X1_laysWays (QM X rL) 117 [(0, vA v0), (1, vI v1)] [] σ (k0 a σ)) : ∀ (m : Nat) (a : Int32) (σ : Hp), GG X mi_X1_laysWays (QM X rL) 45 [(0, vA v0), (1, vI v1), (2, vI a)] [] σ (lp m (f_X1_laysWays_b45 v0 v1 k0) a σ) := by
  refine g_lp (fun (a : Int32) => [(0, vA v0), (1, vI v1), (2, vI a)]) ?_
  intro ag hag a σ
  unfold f_X1_laysWays_b45
  refine g_iload_n 2 dX1_laysWays_45 rfl rfl ?_
  refine g_if_le 117 dX1_laysWays_46 (by decide) ?_ ?_
  · exact g_jmp (hk0 _ _) rfl
  · refine g_iload_n 2 dX1_laysWays_49 rfl rfl ?_
    refine g_aload_n 0 dX1_laysWays_50 rfl rfl ?_
    refine g_getR fo_0_35 q212 dX1_laysWays_51 fun y7 => ?_
    refine g_iload_n 1 dX1_laysWays_54 rfl rfl ?_
    refine g_iaload dX1_laysWays_55 fun x8 => ?_
    refine g_iand dX1_laysWays_56 ?_
    refine g_istore_n 3 dX1_laysWays_57 rfl (lt_b rfl) ?_
    refine g_iload_n 3 dX1_laysWays_58 rfl rfl ?_
    refine g_istore dX1_laysWays_59 (lt_b rfl) ?_
    refine g_jmp (ok_X1_laysWays_b61 X v0 v1 a (a &&& x8) ?_ _ _ _) rfl
    · intro a18 σ
      refine g_iinc (-1) dX1_laysWays_111 (by decide) rfl (lt_b rfl) ?_
      refine g_goto 45 dX1_laysWays_114 (by decide) ?_
      exact g_jmp (hag _ _) rfl
theorem ok_X1_laysWays_b32 (X : Mx) (v0 : Option Nat) {k0 : Unit → Hp → Option (Int64 × Hp)} (hk0 : ∀ (a : Unit) (σ : Hp), GG X mi_X1_laysWays (QM X rL) 123 [(0, vA v0)] [] σ (k0 a σ)) : ∀ (m : Nat) (a : Int32) (σ : Hp), GG X mi_X1_laysWays (QM X rL) 32 [(0, vA v0), (1, vI a)] [] σ (lp m (f_X1_laysWays_b32 v0 k0) a σ) := by
  refine g_lp (fun (a : Int32) => [(0, vA v0), (1, vI a)]) ?_
  intro ag hag a σ
  unfold f_X1_laysWays_b32
  refine g_iload_n 1 dX1_laysWays_32 rfl rfl ?_
  refine g_aload_n 0 dX1_laysWays_33 rfl rfl ?_
  refine g_getI fo_0_5 (by decide) q179 dX1_laysWays_34 fun x5 => ?_
  refine g_icmp_ge 123 dX1_laysWays_37 (by decide) ?_ ?_
  · exact g_jmp (hk0 _ _) rfl
  · refine g_aload_n 0 dX1_laysWays_40 rfl rfl ?_
    refine g_callV_I (mm_X1_wholeNight _ _) rfl zc_0 q745 q747 qs28 q107 q748 dv_X1_wholeNight rfl (Nat.le_of_ble_eq_true rfl) (Nat.le_of_ble_eq_true rfl) (Nat.le_of_ble_eq_true rfl) dX1_laysWays_41 fun x6 σ => ?_
    refine g_istore_n 2 dX1_laysWays_44 rfl (lt_b rfl) ?_
    refine g_jmp (ok_X1_laysWays_b45 X v0 a ?_ _ _ _) rfl
    · intro a19 σ
      refine g_iinc 1 dX1_laysWays_117 (by decide) rfl (lt_b rfl) ?_
      refine g_goto 32 dX1_laysWays_120 (by decide) ?_
      exact g_jmp (hag _ _) rfl
theorem mm_X1_laysWays (v0 : Option Nat) (σ : Hp) : MM yX1_laysWays mi_X1_laysWays rL [vA v0] σ (f_X1_laysWays v0 σ) := by
  refine mm_of (by decide +kernel) rfl rfl (Nat.le_of_ble_eq_true rfl) ?_
  intro X
  unfold f_X1_laysWays
  refine g_iconst 0 dX1_laysWays_0 (by decide) ?_
  refine g_istore_n 1 dX1_laysWays_1 rfl (lt_b rfl) ?_
  refine g_jmp (ok_X1_laysWays_b2 X v0 ?_ _ _ _) rfl
  · intro a4 σ
    refine g_iconst 0 dX1_laysWays_30 (by decide) ?_
    refine g_istore_n 1 dX1_laysWays_31 rfl (lt_b rfl) ?_
    refine g_jmp (ok_X1_laysWays_b32 X v0 ?_ _ _ _) rfl
    · intro a20 σ
      refine g_aload_n 0 dX1_laysWays_123 rfl rfl ?_
      refine g_getR fo_0_41 q218 dX1_laysWays_124 fun y21 => ?_
      refine g_aload_n 0 dX1_laysWays_127 rfl rfl ?_
      refine g_callV_I (mm_X1_wholeNight _ _) rfl zc_0 q745 q747 qs28 q107 q748 dv_X1_wholeNight rfl (Nat.le_of_ble_eq_true rfl) (Nat.le_of_ble_eq_true rfl) (Nat.le_of_ble_eq_true rfl) dX1_laysWays_128 fun x22 σ => ?_
      refine g_laload dX1_laysWays_131 fun x23 => ?_
      exact g_lret rfl dX1_laysWays_132
theorem dd_X1_laysWays : yX1_laysWays.cls ≠ "java/lang/invoke/MethodHandle" ∧ yX1_laysWays.cls ≠ "java/lang/invoke/VarHandle" ∧ (parseMethodDescriptor yX1_laysWays.desc).map (fun d => d.parameters.length) = some 0 := by decide +kernel
theorem dv_X1_laysWays : yX1_laysWays.cls = RX1 ∧ yX1_laysWays.cls ≠ "java/lang/invoke/MethodHandle" ∧ yX1_laysWays.cls ≠ "java/lang/invoke/VarHandle" ∧ (parseMethodDescriptor yX1_laysWays.desc).map (fun d => d.parameters.length) = some 0 := ⟨rfl, dd_X1_laysWays⟩
/-! RockingHorse.away()I -/
abbrev mi_X1_away : Mi := (cX1_away, 4, "RockingHorse", 2, some .int, "away")
def f_X1_away_b4 (v0 : Option Nat) (k0 : Int32 → Hp → Option (Int32 × Hp)) (ag : (Int32 × Int32) → Hp → Option (Int32 × Hp)) (a : Int32 × Int32) (σ : Hp) : Option (Int32 × Hp) :=
  ob 0 σ v0 fun _ => bnd (f_X1_all v0 σ) fun x1 σ =>
  if x1 < a.2 then
    k0 a.1 σ
  else
    jn (fun (a2 : Int32) σ =>
        jn (fun (a4 : Int32) σ =>
            ag (a4, (a.2 + 1)) σ) fun j5 =>
        jn (fun (a6 : Unit) σ =>
            j5 a.1 σ) fun j7 =>
        if a2 = 0 then
          j7 () σ
        else
          gR 0 0 σ v0 fun y8 =>
          gI 1 2 σ y8 fun x9 =>
          if (a.2 &&& x9) = 0 then
            ob 0 σ v0 fun _ => bnd (f_X1_well v0 σ) fun x10 σ =>
            ob 0 σ v0 fun _ => bnd (f_X1_lacking v0 (x10 &&& (a.2 ^^^ (-1))) σ) fun x11 σ =>
            if x11 = 0 then
              j5 a.2 σ
            else
              j7 () σ
          else
            j7 () σ) fun j3 =>
    if a.1 < 0 then
      j3 1 σ
    else
      bnd (f_J10_bitCount a.2 σ) fun x12 σ =>
      bnd (f_J10_bitCount a.1 σ) fun x13 σ =>
      if x12 ≤ x13 then
        j3 0 σ
      else
        j3 1 σ
def f_X1_away (v0 : Option Nat) (σ : Hp) : Option (Int32 × Hp) :=
  lp 2000 (f_X1_away_b4 v0 (fun (a14 : Int32) σ =>
      if 0 ≤ a14 then
        pI 0 0 52 σ v0 0 fun σ =>
        ob 0 σ v0 fun _ => bnd (f_X1_tells v0 (Int32.toInt64 a14) σ) fun _ σ =>
        bnd (f_J10_bitCount a14 σ) fun x15 σ =>
        some (x15, σ)
      else
        some ((-2), σ))) ((-1), 0) σ
theorem ok_X1_away_b4 (X : Mx) (v0 : Option Nat) {k0 : Int32 → Hp → Option (Int32 × Hp)} (hk0 : ∀ (a : Int32) (σ : Hp), GG X mi_X1_away (QM X rI) 76 [(0, vA v0), (1, vI a)] [] σ (k0 a σ)) : ∀ (m : Nat) (a : Int32 × Int32) (σ : Hp), GG X mi_X1_away (QM X rI) 4 [(0, vA v0), (1, vI a.1), (2, vI a.2)] [] σ (lp m (f_X1_away_b4 v0 k0) a σ) := by
  refine g_lp (fun (a : Int32 × Int32) => [(0, vA v0), (1, vI a.1), (2, vI a.2)]) ?_
  intro ag hag a σ
  unfold f_X1_away_b4
  refine g_iload_n 2 dX1_away_4 rfl rfl ?_
  refine g_aload_n 0 dX1_away_5 rfl rfl ?_
  refine g_callV_I (mm_X1_all _ _) rfl zc_0 q782 q784 qs35 q107 q785 dv_X1_all rfl (Nat.le_of_ble_eq_true rfl) (Nat.le_of_ble_eq_true rfl) (Nat.le_of_ble_eq_true rfl) dX1_away_6 fun x1 σ => ?_
  refine g_icmp_gt 76 dX1_away_9 (by decide) ?_ ?_
  · exact g_jmp (hk0 _ _) rfl
  · refine g_iload_n 1 dX1_away_12 rfl rfl ?_
    refine g_jn (fun j3 => ∀ (a2 : Int32) (σ : Hp), GG X mi_X1_away (QM X rI) 32 [(0, vA v0), (1, vI a.1), (2, vI a.2)] [vI a2] σ (j3 a2 σ)) ?_ ?_
    · intro a2 σ
      refine g_istore_n 3 dX1_away_32 rfl (lt_b rfl) ?_
      refine g_iload_n 3 dX1_away_33 rfl rfl ?_
      refine g_jn (fun j5 => ∀ (a4 : Int32) (σ : Hp), GG X mi_X1_away (QM X rI) 69 [(0, vA v0), (2, vI a.2)] [vI a4] σ (j5 a4 σ)) ?_ ?_
      · intro a4 σ
        refine g_istore_n 1 dX1_away_69 rfl (lt_b rfl) ?_
        refine g_iinc 1 dX1_away_70 (by decide) rfl (lt_b rfl) ?_
        refine g_goto 4 dX1_away_73 (by decide) ?_
        exact g_jmp (hag _ _) rfl
      · intro j5 hj5
        refine g_jn (fun j7 => ∀ (a6 : Unit) (σ : Hp), GG X mi_X1_away (QM X rI) 68 [(0, vA v0), (1, vI a.1), (2, vI a.2)] [] σ (j7 a6 σ)) ?_ ?_
        · intro a6 σ
          refine g_iload_n 1 dX1_away_68 rfl rfl ?_
          exact g_jmp (hj5 _ _) rfl
        · intro j7 hj7
          refine g_if_eq 68 dX1_away_34 (by decide) ?_ ?_
          · exact g_jmp (hj7 _ _) rfl
          · refine g_iload_n 2 dX1_away_37 rfl rfl ?_
            refine g_aload_n 0 dX1_away_38 rfl rfl ?_
            refine g_getR fo_0_0 q171 dX1_away_39 fun y8 => ?_
            refine g_getIN fo_1_2 (by decide) nf_147 dX1_away_42 fun x9 => ?_
            refine g_iand dX1_away_45 ?_
            refine g_if_ne 68 dX1_away_46 (by decide) ?_ ?_
            · exact g_jmp (hj7 _ _) rfl
            · refine g_aload_n 0 dX1_away_49 rfl rfl ?_
              refine g_aload_n 0 dX1_away_50 rfl rfl ?_
              refine g_callV_I (mm_X1_well _ _) rfl zc_0 q794 q796 qs37 q107 q797 dv_X1_well rfl (Nat.le_of_ble_eq_true rfl) (Nat.le_of_ble_eq_true rfl) (Nat.le_of_ble_eq_true rfl) dX1_away_51 fun x10 σ => ?_
              refine g_iload_n 2 dX1_away_54 rfl rfl ?_
              refine g_iconst (-1) dX1_away_55 (by decide) ?_
              refine g_ixor dX1_away_56 ?_
              refine g_iand dX1_away_57 ?_
              refine g_callV_I (mm_X1_lacking _ _ _) rfl zc_0 q786 q788 qs36 q107 q789 dv_X1_lacking rfl (Nat.le_of_ble_eq_true rfl) (Nat.le_of_ble_eq_true rfl) (Nat.le_of_ble_eq_true rfl) dX1_away_58 fun x11 σ => ?_
              refine g_if_ne 68 dX1_away_61 (by decide) ?_ ?_
              · exact g_jmp (hj7 _ _) rfl
              · refine g_iload_n 2 dX1_away_64 rfl rfl ?_
                refine g_goto 69 dX1_away_65 (by decide) ?_
                exact g_jmp (hj5 _ _) rfl
    · intro j3 hj3
      refine g_if_lt 27 dX1_away_13 (by decide) ?_ ?_
      · refine g_iconst 1 dX1_away_27 (by decide) ?_
        refine g_goto 32 dX1_away_28 (by decide) ?_
        exact g_jmp (hj3 _ _) rfl
      · refine g_iload_n 2 dX1_away_16 rfl rfl ?_
        refine g_callS_I (mm_J10_bitCount _ _) rfl q659 q600 q125 q601 dd_J10_bitCount rfl (Nat.le_of_ble_eq_true rfl) (Nat.le_of_ble_eq_true rfl) (Nat.le_of_ble_eq_true rfl) dX1_away_17 fun x12 σ => ?_
        refine g_iload_n 1 dX1_away_20 rfl rfl ?_
        refine g_callS_I (mm_J10_bitCount _ _) rfl q659 q600 q125 q601 dd_J10_bitCount rfl (Nat.le_of_ble_eq_true rfl) (Nat.le_of_ble_eq_true rfl) (Nat.le_of_ble_eq_true rfl) dX1_away_21 fun x13 σ => ?_
        refine g_icmp_le 31 dX1_away_24 (by decide) ?_ ?_
        · refine g_iconst 0 dX1_away_31 (by decide) ?_
          exact g_jmp (hj3 _ _) rfl
        · refine g_iconst 1 dX1_away_27 (by decide) ?_
          refine g_goto 32 dX1_away_28 (by decide) ?_
          exact g_jmp (hj3 _ _) rfl
theorem mm_X1_away (v0 : Option Nat) (σ : Hp) : MM yX1_away mi_X1_away rI [vA v0] σ (f_X1_away v0 σ) := by
  refine mm_of (by decide +kernel) rfl rfl (Nat.le_of_ble_eq_true rfl) ?_
  intro X
  unfold f_X1_away
  refine g_iconst (-1) dX1_away_0 (by decide) ?_
  refine g_istore_n 1 dX1_away_1 rfl (lt_b rfl) ?_
  refine g_iconst 0 dX1_away_2 (by decide) ?_
  refine g_istore_n 2 dX1_away_3 rfl (lt_b rfl) ?_
  refine g_jmp (ok_X1_away_b4 X v0 ?_ _ _ _) rfl
  · intro a14 σ
    refine g_iload_n 1 dX1_away_76 rfl rfl ?_
    refine g_if_ge 83 dX1_away_77 (by decide) ?_ ?_
    · refine g_aload_n 0 dX1_away_83 rfl rfl ?_
      refine g_iconst 0 dX1_away_84 (by decide) ?_
      refine g_putI fo_0_52 (by decide) rfl q229 dX1_away_85 fun σ => ?_
      refine g_aload_n 0 dX1_away_88 rfl rfl ?_
      refine g_iload_n 1 dX1_away_89 rfl rfl ?_
      refine g_i2l dX1_away_90 ?_
      refine g_callV_V (mm_X1_tells _ _ _) rfl zc_0 q683 q685 qs21 q107 q686 dv_X1_tells rfl (Nat.le_of_ble_eq_true rfl) (Nat.le_of_ble_eq_true rfl) (Nat.le_of_ble_eq_true rfl) dX1_away_91 fun _ σ => ?_
      refine g_iload_n 1 dX1_away_94 rfl rfl ?_
      refine g_callS_I (mm_J10_bitCount _ _) rfl q659 q600 q125 q601 dd_J10_bitCount rfl (Nat.le_of_ble_eq_true rfl) (Nat.le_of_ble_eq_true rfl) (Nat.le_of_ble_eq_true rfl) dX1_away_95 fun x15 σ => ?_
      exact g_iret rfl dX1_away_98
    · refine g_bipush (-2) dX1_away_80 (by decide) ?_
      exact g_iret rfl dX1_away_82
theorem dd_X1_away : yX1_away.cls ≠ "java/lang/invoke/MethodHandle" ∧ yX1_away.cls ≠ "java/lang/invoke/VarHandle" ∧ (parseMethodDescriptor yX1_away.desc).map (fun d => d.parameters.length) = some 0 := by decide +kernel
theorem dv_X1_away : yX1_away.cls = RX1 ∧ yX1_away.cls ≠ "java/lang/invoke/MethodHandle" ∧ yX1_away.cls ≠ "java/lang/invoke/VarHandle" ∧ (parseMethodDescriptor yX1_away.desc).map (fun d => d.parameters.length) = some 0 := ⟨rfl, dd_X1_away⟩
/-! RockingHorse.able(I)I -/
abbrev mi_X1_able : Mi := (cX1_able, 5, "RockingHorse", 102, some .int, "able")
def f_X1_able_b59 (v0 : Option Nat) (v1 : Int32) (v3 : Int32) (k0 : Int32 → Hp → Option (Int32 × Hp)) (ag : Int32 → Hp → Option (Int32 × Hp)) (a : Int32) (σ : Hp) : Option (Int32 × Hp) :=
  if a ≤ 0 then
    k0 a σ
  else
    gR 0 0 σ v0 fun y11 =>
    gR 0 26 σ v0 fun y12 =>
    lI 100 σ y12 (a - 1) fun x13 =>
    ob 0 σ v0 fun _ => bnd (f_X1_hardOf v0 y11 x13 v1 σ) fun x14 σ =>
    gR 0 0 σ v0 fun y15 =>
    ob 0 σ v0 fun _ => bnd (f_X1_hardOf v0 y15 v3 v1 σ) fun x16 σ =>
    if x14 ≤ x16 then
      k0 a σ
    else
      gR 0 26 σ v0 fun y17 =>
      gR 0 26 σ v0 fun y18 =>
      lI 100 σ y18 (a - 1) fun x19 =>
      sI σ y17 a x19 fun σ =>
      ag (a + (-1)) σ
def f_X1_able_b18 (v0 : Option Nat) (v1 : Int32) (k0 : Int32 → Hp → Option (Int32 × Hp)) (ag : (Int32 × Int32) → Hp → Option (Int32 × Hp)) (a : Int32 × Int32) (σ : Hp) : Option (Int32 × Hp) :=
  gI 0 5 σ v0 fun x2 =>
  if x2 ≤ a.2 then
    k0 a.1 σ
  else
    gR 0 4 σ v0 fun y3 =>
    lI 100 σ y3 a.2 fun x4 =>
    bnd (f_X1_has x4 v1 σ) fun x5 σ =>
    jn (fun (a6 : Int32) σ =>
        ag (a6, (a.2 + 1)) σ) fun j7 =>
    if x5 = 0 then
      j7 a.1 σ
    else
      gR 0 0 σ v0 fun y8 =>
      gI 1 2 σ y8 fun x9 =>
      bnd (f_X1_has x9 a.2 σ) fun x10 σ =>
      if x10 = 0 then
        lp 2000 (f_X1_able_b59 v0 v1 a.2 (fun (a20 : Int32) σ =>
            gR 0 26 σ v0 fun y21 =>
            sI σ y21 a20 a.2 fun σ =>
            j7 (a.1 + 1) σ)) a.1 σ
      else
        j7 a.1 σ
def f_X1_able_b141 (v0 : Option Nat) (v2 : Int32) (k0 : Unit → Hp → Option (Int32 × Hp)) (ag : Int32 → Hp → Option (Int32 × Hp)) (a : Int32) (σ : Hp) : Option (Int32 × Hp) :=
  if v2 ≤ a then
    k0 () σ
  else
    gR 0 26 σ v0 fun y23 =>
    lI 100 σ y23 a fun x24 =>
    ob 0 σ v0 fun _ => bnd (f_X1_tells v0 (Int32.toInt64 x24) σ) fun _ σ =>
    ag (a + 1) σ
def f_X1_able (v0 : Option Nat) (v1 : Int32) (σ : Hp) : Option (Int32 × Hp) :=
  bnd (f_X1_in (Int32.toInt64 v1) 0 7 σ) fun x1 σ =>
  if x1 = 0 then
    some ((-1), σ)
  else
    lp 2000 (f_X1_able_b18 v0 v1 (fun (a22 : Int32) σ =>
        pI 0 0 52 σ v0 0 fun σ =>
        lp 2000 (f_X1_able_b141 v0 a22 (fun (a25 : Unit) σ =>
            some (a22, σ))) 0 σ)) (0, 0) σ
theorem ok_X1_able_b59 (X : Mx) (v0 : Option Nat) (v1 : Int32) (v3 : Int32) (v2 : Int32) {k0 : Int32 → Hp → Option (Int32 × Hp)} (hk0 : ∀ (a : Int32) (σ : Hp), GG X mi_X1_able (QM X rI) 117 [(0, vA v0), (1, vI v1), (2, vI v2), (3, vI v3), (4, vI a)] [] σ (k0 a σ)) : ∀ (m : Nat) (a : Int32) (σ : Hp), GG X mi_X1_able (QM X rI) 59 [(0, vA v0), (1, vI v1), (2, vI v2), (3, vI v3), (4, vI a)] [] σ (lp m (f_X1_able_b59 v0 v1 v3 k0) a σ) := by
  refine g_lp (fun (a : Int32) => [(0, vA v0), (1, vI v1), (2, vI v2), (3, vI v3), (4, vI a)]) ?_
  intro ag hag a σ
  unfold f_X1_able_b59
  refine g_iload dX1_able_59 rfl ?_
  refine g_if_le 117 dX1_able_61 (by decide) ?_ ?_
  · exact g_jmp (hk0 _ _) rfl
  · refine g_aload_n 0 dX1_able_64 rfl rfl ?_
    refine g_aload_n 0 dX1_able_65 rfl rfl ?_
    refine g_getR fo_0_0 q171 dX1_able_66 fun y11 => ?_
    refine g_aload_n 0 dX1_able_69 rfl rfl ?_
    refine g_getR fo_0_26 q203 dX1_able_70 fun y12 => ?_
    refine g_iload dX1_able_73 rfl ?_
    refine g_iconst 1 dX1_able_75 (by decide) ?_
    refine g_isub dX1_able_76 ?_
    refine g_iaload dX1_able_77 fun x13 => ?_
    refine g_iload_n 1 dX1_able_78 rfl rfl ?_
    refine g_callV_I (mm_X1_hardOf _ _ _ _ _) rfl zc_0 q581 q583 qs13 q107 q584 dv_X1_hardOf rfl (Nat.le_of_ble_eq_true rfl) (Nat.le_of_ble_eq_true rfl) (Nat.le_of_ble_eq_true rfl) dX1_able_79 fun x14 σ => ?_
    refine g_aload_n 0 dX1_able_82 rfl rfl ?_
    refine g_aload_n 0 dX1_able_83 rfl rfl ?_
    refine g_getR fo_0_0 q171 dX1_able_84 fun y15 => ?_
    refine g_iload_n 3 dX1_able_87 rfl rfl ?_
    refine g_iload_n 1 dX1_able_88 rfl rfl ?_
    refine g_callV_I (mm_X1_hardOf _ _ _ _ _) rfl zc_0 q581 q583 qs13 q107 q584 dv_X1_hardOf rfl (Nat.le_of_ble_eq_true rfl) (Nat.le_of_ble_eq_true rfl) (Nat.le_of_ble_eq_true rfl) dX1_able_89 fun x16 σ => ?_
    refine g_icmp_le 117 dX1_able_92 (by decide) ?_ ?_
    · exact g_jmp (hk0 _ _) rfl
    · refine g_aload_n 0 dX1_able_95 rfl rfl ?_
      refine g_getR fo_0_26 q203 dX1_able_96 fun y17 => ?_
      refine g_iload dX1_able_99 rfl ?_
      refine g_aload_n 0 dX1_able_101 rfl rfl ?_
      refine g_getR fo_0_26 q203 dX1_able_102 fun y18 => ?_
      refine g_iload dX1_able_105 rfl ?_
      refine g_iconst 1 dX1_able_107 (by decide) ?_
      refine g_isub dX1_able_108 ?_
      refine g_iaload dX1_able_109 fun x19 => ?_
      refine g_iastore dX1_able_110 fun σ => ?_
      refine g_iinc (-1) dX1_able_111 (by decide) rfl (lt_b rfl) ?_
      refine g_goto 59 dX1_able_114 (by decide) ?_
      exact g_jmp (hag _ _) rfl
theorem ok_X1_able_b18 (X : Mx) (v0 : Option Nat) (v1 : Int32) {k0 : Int32 → Hp → Option (Int32 × Hp)} (hk0 : ∀ (a : Int32) (σ : Hp), GG X mi_X1_able (QM X rI) 134 [(0, vA v0), (2, vI a)] [] σ (k0 a σ)) : ∀ (m : Nat) (a : Int32 × Int32) (σ : Hp), GG X mi_X1_able (QM X rI) 18 [(0, vA v0), (1, vI v1), (2, vI a.1), (3, vI a.2)] [] σ (lp m (f_X1_able_b18 v0 v1 k0) a σ) := by
  refine g_lp (fun (a : Int32 × Int32) => [(0, vA v0), (1, vI v1), (2, vI a.1), (3, vI a.2)]) ?_
  intro ag hag a σ
  unfold f_X1_able_b18
  refine g_iload_n 3 dX1_able_18 rfl rfl ?_
  refine g_aload_n 0 dX1_able_19 rfl rfl ?_
  refine g_getI fo_0_5 (by decide) q179 dX1_able_20 fun x2 => ?_
  refine g_icmp_ge 134 dX1_able_23 (by decide) ?_ ?_
  · exact g_jmp (hk0 _ _) rfl
  · refine g_aload_n 0 dX1_able_26 rfl rfl ?_
    refine g_getR fo_0_4 q177 dX1_able_27 fun y3 => ?_
    refine g_iload_n 3 dX1_able_30 rfl rfl ?_
    refine g_iaload dX1_able_31 fun x4 => ?_
    refine g_iload_n 1 dX1_able_32 rfl rfl ?_
    refine g_callS_I (mm_X1_has _ _ _) rfl q677 q678 q107 q679 dd_X1_has rfl (Nat.le_of_ble_eq_true rfl) (Nat.le_of_ble_eq_true rfl) (Nat.le_of_ble_eq_true rfl) dX1_able_33 fun x5 σ => ?_
    refine g_jn (fun j7 => ∀ (a6 : Int32) (σ : Hp), GG X mi_X1_able (QM X rI) 128 [(0, vA v0), (1, vI v1), (2, vI a6), (3, vI a.2)] [] σ (j7 a6 σ)) ?_ ?_
    · intro a6 σ
      refine g_iinc 1 dX1_able_128 (by decide) rfl (lt_b rfl) ?_
      refine g_goto 18 dX1_able_131 (by decide) ?_
      exact g_jmp (hag _ _) rfl
    · intro j7 hj7
      refine g_if_eq 128 dX1_able_36 (by decide) ?_ ?_
      · exact g_jmp (hj7 _ _) rfl
      · refine g_aload_n 0 dX1_able_39 rfl rfl ?_
        refine g_getR fo_0_0 q171 dX1_able_40 fun y8 => ?_
        refine g_getIN fo_1_2 (by decide) nf_147 dX1_able_43 fun x9 => ?_
        refine g_iload_n 3 dX1_able_46 rfl rfl ?_
        refine g_callS_I (mm_X1_has _ _ _) rfl q677 q678 q107 q679 dd_X1_has rfl (Nat.le_of_ble_eq_true rfl) (Nat.le_of_ble_eq_true rfl) (Nat.le_of_ble_eq_true rfl) dX1_able_47 fun x10 σ => ?_
        refine g_if_eq 56 dX1_able_50 (by decide) ?_ ?_
        · refine g_iload_n 2 dX1_able_56 rfl rfl ?_
          refine g_istore dX1_able_57 (lt_b rfl) ?_
          refine g_jmp (ok_X1_able_b59 X v0 v1 a.2 a.1 ?_ _ _ _) rfl
          · intro a20 σ
            refine g_aload_n 0 dX1_able_117 rfl rfl ?_
            refine g_getR fo_0_26 q203 dX1_able_118 fun y21 => ?_
            refine g_iload dX1_able_121 rfl ?_
            refine g_iload_n 3 dX1_able_123 rfl rfl ?_
            refine g_iastore dX1_able_124 fun σ => ?_
            refine g_iinc 1 dX1_able_125 (by decide) rfl (lt_b rfl) ?_
            exact g_jmp (hj7 _ _) rfl
        · refine g_goto 128 dX1_able_53 (by decide) ?_
          exact g_jmp (hj7 _ _) rfl
theorem ok_X1_able_b141 (X : Mx) (v0 : Option Nat) (v2 : Int32) {k0 : Unit → Hp → Option (Int32 × Hp)} (hk0 : ∀ (a : Unit) (σ : Hp), GG X mi_X1_able (QM X rI) 163 [(2, vI v2)] [] σ (k0 a σ)) : ∀ (m : Nat) (a : Int32) (σ : Hp), GG X mi_X1_able (QM X rI) 141 [(0, vA v0), (2, vI v2), (3, vI a)] [] σ (lp m (f_X1_able_b141 v0 v2 k0) a σ) := by
  refine g_lp (fun (a : Int32) => [(0, vA v0), (2, vI v2), (3, vI a)]) ?_
  intro ag hag a σ
  unfold f_X1_able_b141
  refine g_iload_n 3 dX1_able_141 rfl rfl ?_
  refine g_iload_n 2 dX1_able_142 rfl rfl ?_
  refine g_icmp_ge 163 dX1_able_143 (by decide) ?_ ?_
  · exact g_jmp (hk0 _ _) rfl
  · refine g_aload_n 0 dX1_able_146 rfl rfl ?_
    refine g_aload_n 0 dX1_able_147 rfl rfl ?_
    refine g_getR fo_0_26 q203 dX1_able_148 fun y23 => ?_
    refine g_iload_n 3 dX1_able_151 rfl rfl ?_
    refine g_iaload dX1_able_152 fun x24 => ?_
    refine g_i2l dX1_able_153 ?_
    refine g_callV_V (mm_X1_tells _ _ _) rfl zc_0 q683 q685 qs21 q107 q686 dv_X1_tells rfl (Nat.le_of_ble_eq_true rfl) (Nat.le_of_ble_eq_true rfl) (Nat.le_of_ble_eq_true rfl) dX1_able_154 fun _ σ => ?_
    refine g_iinc 1 dX1_able_157 (by decide) rfl (lt_b rfl) ?_
    refine g_goto 141 dX1_able_160 (by decide) ?_
    exact g_jmp (hag _ _) rfl
theorem mm_X1_able (v0 : Option Nat) (v1 : Int32) (σ : Hp) : MM yX1_able mi_X1_able rI [vA v0, vI v1] σ (f_X1_able v0 v1 σ) := by
  refine mm_of (by decide +kernel) rfl rfl (Nat.le_of_ble_eq_true rfl) ?_
  intro X
  unfold f_X1_able
  refine g_iload_n 1 dX1_able_0 rfl rfl ?_
  refine g_i2l dX1_able_1 ?_
  refine g_lconst 0 dX1_able_2 (by decide) ?_
  refine g_ldc2_w dX1_able_3 q580 ?_
  refine g_callS_I (mm_X1_in _ _ _ _) rfl q346 q347 q107 q348 dd_X1_in rfl (Nat.le_of_ble_eq_true rfl) (Nat.le_of_ble_eq_true rfl) (Nat.le_of_ble_eq_true rfl) dX1_able_6 fun x1 σ => ?_
  refine g_if_ne 14 dX1_able_9 (by decide) ?_ ?_
  · refine g_iconst 0 dX1_able_14 (by decide) ?_
    refine g_istore_n 2 dX1_able_15 rfl (lt_b rfl) ?_
    refine g_iconst 0 dX1_able_16 (by decide) ?_
    refine g_istore_n 3 dX1_able_17 rfl (lt_b rfl) ?_
    refine g_jmp (ok_X1_able_b18 X v0 v1 ?_ _ _ _) rfl
    · intro a22 σ
      refine g_aload_n 0 dX1_able_134 rfl rfl ?_
      refine g_iconst 0 dX1_able_135 (by decide) ?_
      refine g_putI fo_0_52 (by decide) rfl q229 dX1_able_136 fun σ => ?_
      refine g_iconst 0 dX1_able_139 (by decide) ?_
      refine g_istore_n 3 dX1_able_140 rfl (lt_b rfl) ?_
      refine g_jmp (ok_X1_able_b141 X v0 a22 ?_ _ _ _) rfl
      · intro a25 σ
        refine g_iload_n 2 dX1_able_163 rfl rfl ?_
        exact g_iret rfl dX1_able_164
  · refine g_iconst (-1) dX1_able_12 (by decide) ?_
    exact g_iret rfl dX1_able_13
theorem dd_X1_able : yX1_able.cls ≠ "java/lang/invoke/MethodHandle" ∧ yX1_able.cls ≠ "java/lang/invoke/VarHandle" ∧ (parseMethodDescriptor yX1_able.desc).map (fun d => d.parameters.length) = some 1 := by decide +kernel
theorem dv_X1_able : yX1_able.cls = RX1 ∧ yX1_able.cls ≠ "java/lang/invoke/MethodHandle" ∧ yX1_able.cls ≠ "java/lang/invoke/VarHandle" ∧ (parseMethodDescriptor yX1_able.desc).map (fun d => d.parameters.length) = some 1 := ⟨rfl, dd_X1_able⟩
/-! RockingHorse.spent(I)I -/
abbrev mi_X1_spent : Mi := (cX1_spent, 7, "RockingHorse", 102, some .int, "spent")
def f_X1_spent_b33 (v0 : Option Nat) (v1 : Int32) (v4 : Int32) (k0 : (Int32 × Int32) → Hp → Option (Int32 × Hp)) (ag : (Int32 × Int32 × Int32) → Hp → Option (Int32 × Hp)) (a : Int32 × Int32 × Int32) (σ : Hp) : Option (Int32 × Hp) :=
  if 8 ≤ a.2.2 then
    k0 (a.1, a.2.1) σ
  else
    gR 0 4 σ v0 fun y3 =>
    lI 100 σ y3 v4 fun x4 =>
    bnd (f_X1_has x4 a.2.2 σ) fun x5 σ =>
    jn (fun (a6 : Int32) σ =>
        jn (fun (a8 : Int32 × Int32) σ =>
            ag (a8.1, a8.2, (a.2.2 + 1)) σ) fun j9 =>
        if v1 < a6 then
          j9 ((a.1 ||| (shl 1 v4)), (imax a.2.1 a6)) σ
        else
          j9 (a.1, a.2.1) σ) fun j7 =>
    if x5 = 0 then
      j7 0 σ
    else
      gR 0 0 σ v0 fun y10 =>
      ob 0 σ v0 fun _ => bnd (f_X1_hardOf v0 y10 v4 a.2.2 σ) fun x11 σ =>
      j7 x11 σ
def f_X1_spent_b21 (v0 : Option Nat) (v1 : Int32) (k0 : (Int32 × Int32) → Hp → Option (Int32 × Hp)) (ag : (Int32 × Int32 × Int32) → Hp → Option (Int32 × Hp)) (a : Int32 × Int32 × Int32) (σ : Hp) : Option (Int32 × Hp) :=
  gI 0 5 σ v0 fun x2 =>
  if x2 ≤ a.2.2 then
    k0 (a.1, a.2.1) σ
  else
    lp 2000 (f_X1_spent_b33 v0 v1 a.2.2 (fun (a12 : Int32 × Int32) σ =>
        ag (a12.1, a12.2, (a.2.2 + 1)) σ)) (a.1, a.2.1, 0) σ
def f_X1_spent (v0 : Option Nat) (v1 : Int32) (σ : Hp) : Option (Int32 × Hp) :=
  bnd (f_X1_in (Int32.toInt64 v1) 0 999 σ) fun x1 σ =>
  if x1 = 0 then
    some ((-1), σ)
  else
    lp 2000 (f_X1_spent_b21 v0 v1 (fun (a13 : Int32 × Int32) σ =>
        pI 0 0 52 σ v0 0 fun σ =>
        bnd (f_J10_bitCount a13.1 σ) fun x14 σ =>
        ob 0 σ v0 fun _ => bnd (f_X1_tells v0 (Int32.toInt64 x14) σ) fun _ σ =>
        ob 0 σ v0 fun _ => bnd (f_X1_tells v0 (Int32.toInt64 a13.2) σ) fun _ σ =>
        some (a13.1, σ))) (0, 0, 0) σ
theorem ok_X1_spent_b33 (X : Mx) (v0 : Option Nat) (v1 : Int32) (v4 : Int32) {k0 : (Int32 × Int32) → Hp → Option (Int32 × Hp)} (hk0 : ∀ (a : Int32 × Int32) (σ : Hp), GG X mi_X1_spent (QM X rI) 102 [(0, vA v0), (1, vI v1), (2, vI a.1), (3, vI a.2), (4, vI v4)] [] σ (k0 a σ)) : ∀ (m : Nat) (a : Int32 × Int32 × Int32) (σ : Hp), GG X mi_X1_spent (QM X rI) 33 [(0, vA v0), (1, vI v1), (2, vI a.1), (3, vI a.2.1), (4, vI v4), (5, vI a.2.2)] [] σ (lp m (f_X1_spent_b33 v0 v1 v4 k0) a σ) := by
  refine g_lp (fun (a : Int32 × Int32 × Int32) => [(0, vA v0), (1, vI v1), (2, vI a.1), (3, vI a.2.1), (4, vI v4), (5, vI a.2.2)]) ?_
  intro ag hag a σ
  unfold f_X1_spent_b33
  refine g_iload dX1_spent_33 rfl ?_
  refine g_bipush 8 dX1_spent_35 (by decide) ?_
  refine g_icmp_ge 102 dX1_spent_37 (by decide) ?_ ?_
  · exact g_jmp (hk0 _ _) rfl
  · refine g_aload_n 0 dX1_spent_40 rfl rfl ?_
    refine g_getR fo_0_4 q177 dX1_spent_41 fun y3 => ?_
    refine g_iload dX1_spent_44 rfl ?_
    refine g_iaload dX1_spent_46 fun x4 => ?_
    refine g_iload dX1_spent_47 rfl ?_
    refine g_callS_I (mm_X1_has _ _ _) rfl q677 q678 q107 q679 dd_X1_has rfl (Nat.le_of_ble_eq_true rfl) (Nat.le_of_ble_eq_true rfl) (Nat.le_of_ble_eq_true rfl) dX1_spent_49 fun x5 σ => ?_
    refine g_jn (fun j7 => ∀ (a6 : Int32) (σ : Hp), GG X mi_X1_spent (QM X rI) 71 [(0, vA v0), (1, vI v1), (2, vI a.1), (3, vI a.2.1), (4, vI v4), (5, vI a.2.2)] [vI a6] σ (j7 a6 σ)) ?_ ?_
    · intro a6 σ
      refine g_istore dX1_spent_71 (lt_b rfl) ?_
      refine g_iload dX1_spent_73 rfl ?_
      refine g_iload_n 1 dX1_spent_75 rfl rfl ?_
      refine g_jn (fun j9 => ∀ (a8 : Int32 × Int32) (σ : Hp), GG X mi_X1_spent (QM X rI) 96 [(0, vA v0), (1, vI v1), (2, vI a8.1), (3, vI a8.2), (4, vI v4), (5, vI a.2.2)] [] σ (j9 a8 σ)) ?_ ?_
      · intro a8 σ
        refine g_iinc 1 dX1_spent_96 (by decide) rfl (lt_b rfl) ?_
        refine g_goto 33 dX1_spent_99 (by decide) ?_
        exact g_jmp (hag _ _) rfl
      · intro j9 hj9
        refine g_icmp_gt 82 dX1_spent_76 (by decide) ?_ ?_
        · refine g_iload_n 2 dX1_spent_82 rfl rfl ?_
          refine g_iconst 1 dX1_spent_83 (by decide) ?_
          refine g_iload dX1_spent_84 rfl ?_
          refine g_ishl dX1_spent_86 ?_
          refine g_ior dX1_spent_87 ?_
          refine g_istore_n 2 dX1_spent_88 rfl (lt_b rfl) ?_
          refine g_iload_n 3 dX1_spent_89 rfl rfl ?_
          refine g_iload dX1_spent_90 rfl ?_
          refine g_mmax q608 (by decide) (Nat.le_of_ble_eq_true rfl) dX1_spent_92 ?_
          refine g_istore_n 3 dX1_spent_95 rfl (lt_b rfl) ?_
          exact g_jmp (hj9 _ _) rfl
        · refine g_goto 96 dX1_spent_79 (by decide) ?_
          exact g_jmp (hj9 _ _) rfl
    · intro j7 hj7
      refine g_if_eq 70 dX1_spent_52 (by decide) ?_ ?_
      · refine g_iconst 0 dX1_spent_70 (by decide) ?_
        exact g_jmp (hj7 _ _) rfl
      · refine g_aload_n 0 dX1_spent_55 rfl rfl ?_
        refine g_aload_n 0 dX1_spent_56 rfl rfl ?_
        refine g_getR fo_0_0 q171 dX1_spent_57 fun y10 => ?_
        refine g_iload dX1_spent_60 rfl ?_
        refine g_iload dX1_spent_62 rfl ?_
        refine g_callV_I (mm_X1_hardOf _ _ _ _ _) rfl zc_0 q581 q583 qs13 q107 q584 dv_X1_hardOf rfl (Nat.le_of_ble_eq_true rfl) (Nat.le_of_ble_eq_true rfl) (Nat.le_of_ble_eq_true rfl) dX1_spent_64 fun x11 σ => ?_
        refine g_goto 71 dX1_spent_67 (by decide) ?_
        exact g_jmp (hj7 _ _) rfl
theorem ok_X1_spent_b21 (X : Mx) (v0 : Option Nat) (v1 : Int32) {k0 : (Int32 × Int32) → Hp → Option (Int32 × Hp)} (hk0 : ∀ (a : Int32 × Int32) (σ : Hp), GG X mi_X1_spent (QM X rI) 108 [(0, vA v0), (2, vI a.1), (3, vI a.2)] [] σ (k0 a σ)) : ∀ (m : Nat) (a : Int32 × Int32 × Int32) (σ : Hp), GG X mi_X1_spent (QM X rI) 21 [(0, vA v0), (1, vI v1), (2, vI a.1), (3, vI a.2.1), (4, vI a.2.2)] [] σ (lp m (f_X1_spent_b21 v0 v1 k0) a σ) := by
  refine g_lp (fun (a : Int32 × Int32 × Int32) => [(0, vA v0), (1, vI v1), (2, vI a.1), (3, vI a.2.1), (4, vI a.2.2)]) ?_
  intro ag hag a σ
  unfold f_X1_spent_b21
  refine g_iload dX1_spent_21 rfl ?_
  refine g_aload_n 0 dX1_spent_23 rfl rfl ?_
  refine g_getI fo_0_5 (by decide) q179 dX1_spent_24 fun x2 => ?_
  refine g_icmp_ge 108 dX1_spent_27 (by decide) ?_ ?_
  · exact g_jmp (hk0 _ _) rfl
  · refine g_iconst 0 dX1_spent_30 (by decide) ?_
    refine g_istore dX1_spent_31 (lt_b rfl) ?_
    refine g_jmp (ok_X1_spent_b33 X v0 v1 a.2.2 ?_ _ _ _) rfl
    · intro a12 σ
      refine g_iinc 1 dX1_spent_102 (by decide) rfl (lt_b rfl) ?_
      refine g_goto 21 dX1_spent_105 (by decide) ?_
      exact g_jmp (hag _ _) rfl
theorem mm_X1_spent (v0 : Option Nat) (v1 : Int32) (σ : Hp) : MM yX1_spent mi_X1_spent rI [vA v0, vI v1] σ (f_X1_spent v0 v1 σ) := by
  refine mm_of (by decide +kernel) rfl rfl (Nat.le_of_ble_eq_true rfl) ?_
  intro X
  unfold f_X1_spent
  refine g_iload_n 1 dX1_spent_0 rfl rfl ?_
  refine g_i2l dX1_spent_1 ?_
  refine g_lconst 0 dX1_spent_2 (by decide) ?_
  refine g_ldc2_w dX1_spent_3 q838 ?_
  refine g_callS_I (mm_X1_in _ _ _ _) rfl q346 q347 q107 q348 dd_X1_in rfl (Nat.le_of_ble_eq_true rfl) (Nat.le_of_ble_eq_true rfl) (Nat.le_of_ble_eq_true rfl) dX1_spent_6 fun x1 σ => ?_
  refine g_if_ne 14 dX1_spent_9 (by decide) ?_ ?_
  · refine g_iconst 0 dX1_spent_14 (by decide) ?_
    refine g_istore_n 2 dX1_spent_15 rfl (lt_b rfl) ?_
    refine g_iconst 0 dX1_spent_16 (by decide) ?_
    refine g_istore_n 3 dX1_spent_17 rfl (lt_b rfl) ?_
    refine g_iconst 0 dX1_spent_18 (by decide) ?_
    refine g_istore dX1_spent_19 (lt_b rfl) ?_
    refine g_jmp (ok_X1_spent_b21 X v0 v1 ?_ _ _ _) rfl
    · intro a13 σ
      refine g_aload_n 0 dX1_spent_108 rfl rfl ?_
      refine g_iconst 0 dX1_spent_109 (by decide) ?_
      refine g_putI fo_0_52 (by decide) rfl q229 dX1_spent_110 fun σ => ?_
      refine g_aload_n 0 dX1_spent_113 rfl rfl ?_
      refine g_iload_n 2 dX1_spent_114 rfl rfl ?_
      refine g_callS_I (mm_J10_bitCount _ _) rfl q659 q600 q125 q601 dd_J10_bitCount rfl (Nat.le_of_ble_eq_true rfl) (Nat.le_of_ble_eq_true rfl) (Nat.le_of_ble_eq_true rfl) dX1_spent_115 fun x14 σ => ?_
      refine g_i2l dX1_spent_118 ?_
      refine g_callV_V (mm_X1_tells _ _ _) rfl zc_0 q683 q685 qs21 q107 q686 dv_X1_tells rfl (Nat.le_of_ble_eq_true rfl) (Nat.le_of_ble_eq_true rfl) (Nat.le_of_ble_eq_true rfl) dX1_spent_119 fun _ σ => ?_
      refine g_aload_n 0 dX1_spent_122 rfl rfl ?_
      refine g_iload_n 3 dX1_spent_123 rfl rfl ?_
      refine g_i2l dX1_spent_124 ?_
      refine g_callV_V (mm_X1_tells _ _ _) rfl zc_0 q683 q685 qs21 q107 q686 dv_X1_tells rfl (Nat.le_of_ble_eq_true rfl) (Nat.le_of_ble_eq_true rfl) (Nat.le_of_ble_eq_true rfl) dX1_spent_125 fun _ σ => ?_
      refine g_iload_n 2 dX1_spent_128 rfl rfl ?_
      exact g_iret rfl dX1_spent_129
  · refine g_iconst (-1) dX1_spent_12 (by decide) ?_
    exact g_iret rfl dX1_spent_13
theorem dd_X1_spent : yX1_spent.cls ≠ "java/lang/invoke/MethodHandle" ∧ yX1_spent.cls ≠ "java/lang/invoke/VarHandle" ∧ (parseMethodDescriptor yX1_spent.desc).map (fun d => d.parameters.length) = some 1 := by decide +kernel
theorem dv_X1_spent : yX1_spent.cls = RX1 ∧ yX1_spent.cls ≠ "java/lang/invoke/MethodHandle" ∧ yX1_spent.cls ≠ "java/lang/invoke/VarHandle" ∧ (parseMethodDescriptor yX1_spent.desc).map (fun d => d.parameters.length) = some 1 := ⟨rfl, dd_X1_spent⟩
/-! RockingHorse.thin()I -/
abbrev mi_X1_thin : Mi := (cX1_thin, 3, "RockingHorse", 2, some .int, "thin")
def f_X1_thin_b4 (v0 : Option Nat) (k0 : Int32 → Hp → Option (Int32 × Hp)) (ag : (Int32 × Int32) → Hp → Option (Int32 × Hp)) (a : Int32 × Int32) (σ : Hp) : Option (Int32 × Hp) :=
  gI 0 6 σ v0 fun x1 =>
  if x1 ≤ a.2 then
    k0 a.1 σ
  else
    ob 0 σ v0 fun _ => bnd (f_X1_manyWho v0 a.2 σ) fun x2 σ =>
    ob 0 σ v0 fun _ => bnd (f_X1_manyWho v0 a.1 σ) fun x3 σ =>
    jn (fun (a4 : Int32) σ =>
        ag (a4, (a.2 + 1)) σ) fun j5 =>
    if x3 ≤ x2 then
      j5 a.1 σ
    else
      j5 a.2 σ
def f_X1_thin (v0 : Option Nat) (σ : Hp) : Option (Int32 × Hp) :=
  lp 2000 (f_X1_thin_b4 v0 (fun (a6 : Int32) σ =>
      pI 0 0 52 σ v0 0 fun σ =>
      ob 0 σ v0 fun _ => bnd (f_X1_manyWho v0 a6 σ) fun x7 σ =>
      ob 0 σ v0 fun _ => bnd (f_X1_tells v0 (Int32.toInt64 x7) σ) fun _ σ =>
      some (a6, σ))) (0, 1) σ
theorem ok_X1_thin_b4 (X : Mx) (v0 : Option Nat) {k0 : Int32 → Hp → Option (Int32 × Hp)} (hk0 : ∀ (a : Int32) (σ : Hp), GG X mi_X1_thin (QM X rI) 37 [(0, vA v0), (1, vI a)] [] σ (k0 a σ)) : ∀ (m : Nat) (a : Int32 × Int32) (σ : Hp), GG X mi_X1_thin (QM X rI) 4 [(0, vA v0), (1, vI a.1), (2, vI a.2)] [] σ (lp m (f_X1_thin_b4 v0 k0) a σ) := by
  refine g_lp (fun (a : Int32 × Int32) => [(0, vA v0), (1, vI a.1), (2, vI a.2)]) ?_
  intro ag hag a σ
  unfold f_X1_thin_b4
  refine g_iload_n 2 dX1_thin_4 rfl rfl ?_
  refine g_aload_n 0 dX1_thin_5 rfl rfl ?_
  refine g_getI fo_0_6 (by decide) q180 dX1_thin_6 fun x1 => ?_
  refine g_icmp_ge 37 dX1_thin_9 (by decide) ?_ ?_
  · exact g_jmp (hk0 _ _) rfl
  · refine g_aload_n 0 dX1_thin_12 rfl rfl ?_
    refine g_iload_n 2 dX1_thin_13 rfl rfl ?_
    refine g_callV_I (mm_X1_manyWho _ _ _) rfl zc_0 q847 q849 qs40 q107 q850 dv_X1_manyWho rfl (Nat.le_of_ble_eq_true rfl) (Nat.le_of_ble_eq_true rfl) (Nat.le_of_ble_eq_true rfl) dX1_thin_14 fun x2 σ => ?_
    refine g_aload_n 0 dX1_thin_17 rfl rfl ?_
    refine g_iload_n 1 dX1_thin_18 rfl rfl ?_
    refine g_callV_I (mm_X1_manyWho _ _ _) rfl zc_0 q847 q849 qs40 q107 q850 dv_X1_manyWho rfl (Nat.le_of_ble_eq_true rfl) (Nat.le_of_ble_eq_true rfl) (Nat.le_of_ble_eq_true rfl) dX1_thin_19 fun x3 σ => ?_
    refine g_jn (fun j5 => ∀ (a4 : Int32) (σ : Hp), GG X mi_X1_thin (QM X rI) 30 [(0, vA v0), (2, vI a.2)] [vI a4] σ (j5 a4 σ)) ?_ ?_
    · intro a4 σ
      refine g_istore_n 1 dX1_thin_30 rfl (lt_b rfl) ?_
      refine g_iinc 1 dX1_thin_31 (by decide) rfl (lt_b rfl) ?_
      refine g_goto 4 dX1_thin_34 (by decide) ?_
      exact g_jmp (hag _ _) rfl
    · intro j5 hj5
      refine g_icmp_ge 29 dX1_thin_22 (by decide) ?_ ?_
      · refine g_iload_n 1 dX1_thin_29 rfl rfl ?_
        exact g_jmp (hj5 _ _) rfl
      · refine g_iload_n 2 dX1_thin_25 rfl rfl ?_
        refine g_goto 30 dX1_thin_26 (by decide) ?_
        exact g_jmp (hj5 _ _) rfl
theorem mm_X1_thin (v0 : Option Nat) (σ : Hp) : MM yX1_thin mi_X1_thin rI [vA v0] σ (f_X1_thin v0 σ) := by
  refine mm_of (by decide +kernel) rfl rfl (Nat.le_of_ble_eq_true rfl) ?_
  intro X
  unfold f_X1_thin
  refine g_iconst 0 dX1_thin_0 (by decide) ?_
  refine g_istore_n 1 dX1_thin_1 rfl (lt_b rfl) ?_
  refine g_iconst 1 dX1_thin_2 (by decide) ?_
  refine g_istore_n 2 dX1_thin_3 rfl (lt_b rfl) ?_
  refine g_jmp (ok_X1_thin_b4 X v0 ?_ _ _ _) rfl
  · intro a6 σ
    refine g_aload_n 0 dX1_thin_37 rfl rfl ?_
    refine g_iconst 0 dX1_thin_38 (by decide) ?_
    refine g_putI fo_0_52 (by decide) rfl q229 dX1_thin_39 fun σ => ?_
    refine g_aload_n 0 dX1_thin_42 rfl rfl ?_
    refine g_aload_n 0 dX1_thin_43 rfl rfl ?_
    refine g_iload_n 1 dX1_thin_44 rfl rfl ?_
    refine g_callV_I (mm_X1_manyWho _ _ _) rfl zc_0 q847 q849 qs40 q107 q850 dv_X1_manyWho rfl (Nat.le_of_ble_eq_true rfl) (Nat.le_of_ble_eq_true rfl) (Nat.le_of_ble_eq_true rfl) dX1_thin_45 fun x7 σ => ?_
    refine g_i2l dX1_thin_48 ?_
    refine g_callV_V (mm_X1_tells _ _ _) rfl zc_0 q683 q685 qs21 q107 q686 dv_X1_tells rfl (Nat.le_of_ble_eq_true rfl) (Nat.le_of_ble_eq_true rfl) (Nat.le_of_ble_eq_true rfl) dX1_thin_49 fun _ σ => ?_
    refine g_iload_n 1 dX1_thin_52 rfl rfl ?_
    exact g_iret rfl dX1_thin_53
theorem dd_X1_thin : yX1_thin.cls ≠ "java/lang/invoke/MethodHandle" ∧ yX1_thin.cls ≠ "java/lang/invoke/VarHandle" ∧ (parseMethodDescriptor yX1_thin.desc).map (fun d => d.parameters.length) = some 0 := by decide +kernel
theorem dv_X1_thin : yX1_thin.cls = RX1 ∧ yX1_thin.cls ≠ "java/lang/invoke/MethodHandle" ∧ yX1_thin.cls ≠ "java/lang/invoke/VarHandle" ∧ (parseMethodDescriptor yX1_thin.desc).map (fun d => d.parameters.length) = some 0 := ⟨rfl, dd_X1_thin⟩
/-! RockingHorse.smoothest()I -/
abbrev mi_X1_smoothest : Mi := (cX1_smoothest, 2, "RockingHorse", 21, some .int, "smoothest")
def f_X1_smoothest_b7 (v0 : Option Nat) (k0 : Unit → Hp → Option (Int32 × Hp)) (ag : Int32 → Hp → Option (Int32 × Hp)) (a : Int32) (σ : Hp) : Option (Int32 × Hp) :=
  if 8 ≤ a then
    k0 () σ
  else
    gR 0 26 σ v0 fun y1 =>
    sI σ y1 a 0 fun σ =>
    ag (a + 1) σ
def f_X1_smoothest (v0 : Option Nat) (σ : Hp) : Option (Int32 × Hp) :=
  ob 0 σ v0 fun _ => bnd (f_X1_opens v0 0 σ) fun _ σ =>
  lp 2000 (f_X1_smoothest_b7 v0 (fun (a2 : Unit) σ =>
      pI 0 0 43 σ v0 1000000 fun σ =>
      ob 0 σ v0 fun _ => bnd (f_X1_smoothsFrom 20 v0 0 0 σ) fun _ σ =>
      gI 0 43 σ v0 fun x3 =>
      if x3 = 1000000 then
        some ((-2), σ)
      else
        ob 0 σ v0 fun _ => bnd (f_X1_tellsTurn v0 σ) fun _ σ =>
        gI 0 43 σ v0 fun x4 =>
        some (x4, σ))) 0 σ
theorem ok_X1_smoothest_b7 (X : Mx) (v0 : Option Nat) {k0 : Unit → Hp → Option (Int32 × Hp)} (hk0 : ∀ (a : Unit) (σ : Hp), GG X mi_X1_smoothest (QM X rI) 26 [(0, vA v0)] [] σ (k0 a σ)) : ∀ (m : Nat) (a : Int32) (σ : Hp), GG X mi_X1_smoothest (QM X rI) 7 [(0, vA v0), (1, vI a)] [] σ (lp m (f_X1_smoothest_b7 v0 k0) a σ) := by
  refine g_lp (fun (a : Int32) => [(0, vA v0), (1, vI a)]) ?_
  intro ag hag a σ
  unfold f_X1_smoothest_b7
  refine g_iload_n 1 dX1_smoothest_7 rfl rfl ?_
  refine g_bipush 8 dX1_smoothest_8 (by decide) ?_
  refine g_icmp_ge 26 dX1_smoothest_10 (by decide) ?_ ?_
  · exact g_jmp (hk0 _ _) rfl
  · refine g_aload_n 0 dX1_smoothest_13 rfl rfl ?_
    refine g_getR fo_0_26 q203 dX1_smoothest_14 fun y1 => ?_
    refine g_iload_n 1 dX1_smoothest_17 rfl rfl ?_
    refine g_iconst 0 dX1_smoothest_18 (by decide) ?_
    refine g_iastore dX1_smoothest_19 fun σ => ?_
    refine g_iinc 1 dX1_smoothest_20 (by decide) rfl (lt_b rfl) ?_
    refine g_goto 7 dX1_smoothest_23 (by decide) ?_
    exact g_jmp (hag _ _) rfl
theorem mm_X1_smoothest (v0 : Option Nat) (σ : Hp) : MM yX1_smoothest mi_X1_smoothest rI [vA v0] σ (f_X1_smoothest v0 σ) := by
  refine mm_of (by decide +kernel) rfl rfl (Nat.le_of_ble_eq_true rfl) ?_
  intro X
  unfold f_X1_smoothest
  refine g_aload_n 0 dX1_smoothest_0 rfl rfl ?_
  refine g_iconst 0 dX1_smoothest_1 (by decide) ?_
  refine g_callV_V (mm_X1_opens _ _ _) rfl zc_0 q741 q743 qs27 q107 q744 dv_X1_opens rfl (Nat.le_of_ble_eq_true rfl) (Nat.le_of_ble_eq_true rfl) (Nat.le_of_ble_eq_true rfl) dX1_smoothest_2 fun _ σ => ?_
  refine g_iconst 0 dX1_smoothest_5 (by decide) ?_
  refine g_istore_n 1 dX1_smoothest_6 rfl (lt_b rfl) ?_
  refine g_jmp (ok_X1_smoothest_b7 X v0 ?_ _ _ _) rfl
  · intro a2 σ
    refine g_aload_n 0 dX1_smoothest_26 rfl rfl ?_
    refine g_ldc dX1_smoothest_27 q170 ?_
    refine g_putI fo_0_43 (by decide) rfl q220 dX1_smoothest_29 fun σ => ?_
    refine g_aload_n 0 dX1_smoothest_32 rfl rfl ?_
    refine g_iconst 0 dX1_smoothest_33 (by decide) ?_
    refine g_iconst 0 dX1_smoothest_34 (by decide) ?_
    refine g_callV_V (mm_X1_smoothsFrom 20 _ _ _ _) rfl zc_0 q859 q861 qs41 q107 q862 dv_X1_smoothsFrom rfl (Nat.le_of_ble_eq_true rfl) (Nat.le_of_ble_eq_true rfl) (Nat.le_of_ble_eq_true rfl) dX1_smoothest_35 fun _ σ => ?_
    refine g_aload_n 0 dX1_smoothest_38 rfl rfl ?_
    refine g_getI fo_0_43 (by decide) q220 dX1_smoothest_39 fun x3 => ?_
    refine g_ldc dX1_smoothest_42 q170 ?_
    refine g_icmp_ne 50 dX1_smoothest_44 (by decide) ?_ ?_
    · refine g_aload_n 0 dX1_smoothest_50 rfl rfl ?_
      refine g_callV_V (mm_X1_tellsTurn _ _) rfl zc_0 q770 q772 qs34 q107 q773 dv_X1_tellsTurn rfl (Nat.le_of_ble_eq_true rfl) (Nat.le_of_ble_eq_true rfl) (Nat.le_of_ble_eq_true rfl) dX1_smoothest_51 fun _ σ => ?_
      refine g_aload_n 0 dX1_smoothest_54 rfl rfl ?_
      refine g_getI fo_0_43 (by decide) q220 dX1_smoothest_55 fun x4 => ?_
      exact g_iret rfl dX1_smoothest_58
    · refine g_bipush (-2) dX1_smoothest_47 (by decide) ?_
      exact g_iret rfl dX1_smoothest_49
theorem dd_X1_smoothest : yX1_smoothest.cls ≠ "java/lang/invoke/MethodHandle" ∧ yX1_smoothest.cls ≠ "java/lang/invoke/VarHandle" ∧ (parseMethodDescriptor yX1_smoothest.desc).map (fun d => d.parameters.length) = some 0 := by decide +kernel
theorem dv_X1_smoothest : yX1_smoothest.cls = RX1 ∧ yX1_smoothest.cls ≠ "java/lang/invoke/MethodHandle" ∧ yX1_smoothest.cls ≠ "java/lang/invoke/VarHandle" ∧ (parseMethodDescriptor yX1_smoothest.desc).map (fun d => d.parameters.length) = some 0 := ⟨rfl, dd_X1_smoothest⟩
/-! RockingHorse.opensFound()V -/
abbrev mi_X1_opensFound : Mi := (cX1_opensFound, 2, "RockingHorse", 2, none, "opensFound")
def f_X1_opensFound_b7 (v0 : Option Nat) (k0 : Unit → Hp → Option (Unit × Hp)) (ag : Int32 → Hp → Option (Unit × Hp)) (a : Int32) (σ : Hp) : Option (Unit × Hp) :=
  gI 0 44 σ v0 fun x1 =>
  if x1 ≤ a then
    k0 () σ
  else
    gR 0 45 σ v0 fun y2 =>
    lI 100 σ y2 a fun x3 =>
    ob 0 σ v0 fun _ => bnd (f_X1_isHour v0 x3 σ) fun x4 σ =>
    jn (fun (a5 : Unit) σ =>
        ag (a + 1) σ) fun j6 =>
    if x4 = 0 then
      j6 () σ
    else
      gR 0 47 σ v0 fun y7 =>
      lI 100 σ y7 a fun x8 =>
      if x8 = 1 then
        gR 0 45 σ v0 fun y15 =>
        lI 100 σ y15 a fun x16 =>
        gR 0 46 σ v0 fun y17 =>
        lI 100 σ y17 a fun x18 =>
        ob 0 σ v0 fun _ => bnd (f_X1_fixes v0 x16 x18 σ) fun _ σ =>
        j6 () σ
      else
        gR 0 35 σ v0 fun y9 =>
        gR 0 46 σ v0 fun y10 =>
        lI 100 σ y10 a fun x11 =>
        lI 100 σ y9 x11 fun x12 =>
        gR 0 45 σ v0 fun y13 =>
        lI 100 σ y13 a fun x14 =>
        sI σ y9 x11 (x12 &&& ((shl 1 x14) ^^^ (-1))) fun σ =>
        j6 () σ
def f_X1_opensFound (v0 : Option Nat) (σ : Hp) : Option (Unit × Hp) :=
  ob 0 σ v0 fun _ => bnd (f_X1_opens v0 0 σ) fun _ σ =>
  lp 2000 (f_X1_opensFound_b7 v0 (fun (a19 : Unit) σ =>
      some ((), σ))) 0 σ
theorem ok_X1_opensFound_b7 (X : Mx) (v0 : Option Nat) {k0 : Unit → Hp → Option (Unit × Hp)} (hk0 : ∀ (a : Unit) (σ : Hp), GG X mi_X1_opensFound (QM X rV) 90 [] [] σ (k0 a σ)) : ∀ (m : Nat) (a : Int32) (σ : Hp), GG X mi_X1_opensFound (QM X rV) 7 [(0, vA v0), (1, vI a)] [] σ (lp m (f_X1_opensFound_b7 v0 k0) a σ) := by
  refine g_lp (fun (a : Int32) => [(0, vA v0), (1, vI a)]) ?_
  intro ag hag a σ
  unfold f_X1_opensFound_b7
  refine g_iload_n 1 dX1_opensFound_7 rfl rfl ?_
  refine g_aload_n 0 dX1_opensFound_8 rfl rfl ?_
  refine g_getI fo_0_44 (by decide) q221 dX1_opensFound_9 fun x1 => ?_
  refine g_icmp_ge 90 dX1_opensFound_12 (by decide) ?_ ?_
  · exact g_jmp (hk0 _ _) rfl
  · refine g_aload_n 0 dX1_opensFound_15 rfl rfl ?_
    refine g_aload_n 0 dX1_opensFound_16 rfl rfl ?_
    refine g_getR fo_0_45 q222 dX1_opensFound_17 fun y2 => ?_
    refine g_iload_n 1 dX1_opensFound_20 rfl rfl ?_
    refine g_iaload dX1_opensFound_21 fun x3 => ?_
    refine g_callV_I (mm_X1_isHour _ _ _) rfl zc_0 q885 q887 qs43 q107 q888 dv_X1_isHour rfl (Nat.le_of_ble_eq_true rfl) (Nat.le_of_ble_eq_true rfl) (Nat.le_of_ble_eq_true rfl) dX1_opensFound_22 fun x4 σ => ?_
    refine g_jn (fun j6 => ∀ (a5 : Unit) (σ : Hp), GG X mi_X1_opensFound (QM X rV) 84 [(0, vA v0), (1, vI a)] [] σ (j6 a5 σ)) ?_ ?_
    · intro a5 σ
      refine g_iinc 1 dX1_opensFound_84 (by decide) rfl (lt_b rfl) ?_
      refine g_goto 7 dX1_opensFound_87 (by decide) ?_
      exact g_jmp (hag _ _) rfl
    · intro j6 hj6
      refine g_if_ne 31 dX1_opensFound_25 (by decide) ?_ ?_
      · refine g_aload_n 0 dX1_opensFound_31 rfl rfl ?_
        refine g_getR fo_0_47 q224 dX1_opensFound_32 fun y7 => ?_
        refine g_iload_n 1 dX1_opensFound_35 rfl rfl ?_
        refine g_iaload dX1_opensFound_36 fun x8 => ?_
        refine g_iconst 1 dX1_opensFound_37 (by decide) ?_
        refine g_icmp_ne 60 dX1_opensFound_38 (by decide) ?_ ?_
        · refine g_aload_n 0 dX1_opensFound_60 rfl rfl ?_
          refine g_getR fo_0_35 q212 dX1_opensFound_61 fun y9 => ?_
          refine g_aload_n 0 dX1_opensFound_64 rfl rfl ?_
          refine g_getR fo_0_46 q223 dX1_opensFound_65 fun y10 => ?_
          refine g_iload_n 1 dX1_opensFound_68 rfl rfl ?_
          refine g_iaload dX1_opensFound_69 fun x11 => ?_
          refine g_dup2 dX1_opensFound_70 rfl rfl ?_
          refine g_iaload dX1_opensFound_71 fun x12 => ?_
          refine g_iconst 1 dX1_opensFound_72 (by decide) ?_
          refine g_aload_n 0 dX1_opensFound_73 rfl rfl ?_
          refine g_getR fo_0_45 q222 dX1_opensFound_74 fun y13 => ?_
          refine g_iload_n 1 dX1_opensFound_77 rfl rfl ?_
          refine g_iaload dX1_opensFound_78 fun x14 => ?_
          refine g_ishl dX1_opensFound_79 ?_
          refine g_iconst (-1) dX1_opensFound_80 (by decide) ?_
          refine g_ixor dX1_opensFound_81 ?_
          refine g_iand dX1_opensFound_82 ?_
          refine g_iastore dX1_opensFound_83 fun σ => ?_
          exact g_jmp (hj6 _ _) rfl
        · refine g_aload_n 0 dX1_opensFound_41 rfl rfl ?_
          refine g_aload_n 0 dX1_opensFound_42 rfl rfl ?_
          refine g_getR fo_0_45 q222 dX1_opensFound_43 fun y15 => ?_
          refine g_iload_n 1 dX1_opensFound_46 rfl rfl ?_
          refine g_iaload dX1_opensFound_47 fun x16 => ?_
          refine g_aload_n 0 dX1_opensFound_48 rfl rfl ?_
          refine g_getR fo_0_46 q223 dX1_opensFound_49 fun y17 => ?_
          refine g_iload_n 1 dX1_opensFound_52 rfl rfl ?_
          refine g_iaload dX1_opensFound_53 fun x18 => ?_
          refine g_callV_V (mm_X1_fixes _ _ _ _) rfl zc_0 q766 q768 qs33 q107 q769 dv_X1_fixes rfl (Nat.le_of_ble_eq_true rfl) (Nat.le_of_ble_eq_true rfl) (Nat.le_of_ble_eq_true rfl) dX1_opensFound_54 fun _ σ => ?_
          refine g_goto 84 dX1_opensFound_57 (by decide) ?_
          exact g_jmp (hj6 _ _) rfl
      · refine g_goto 84 dX1_opensFound_28 (by decide) ?_
        exact g_jmp (hj6 _ _) rfl
theorem mm_X1_opensFound (v0 : Option Nat) (σ : Hp) : MM yX1_opensFound mi_X1_opensFound rV [vA v0] σ (f_X1_opensFound v0 σ) := by
  refine mm_of (by decide +kernel) rfl rfl (Nat.le_of_ble_eq_true rfl) ?_
  intro X
  unfold f_X1_opensFound
  refine g_aload_n 0 dX1_opensFound_0 rfl rfl ?_
  refine g_iconst 0 dX1_opensFound_1 (by decide) ?_
  refine g_callV_V (mm_X1_opens _ _ _) rfl zc_0 q741 q743 qs27 q107 q744 dv_X1_opens rfl (Nat.le_of_ble_eq_true rfl) (Nat.le_of_ble_eq_true rfl) (Nat.le_of_ble_eq_true rfl) dX1_opensFound_2 fun _ σ => ?_
  refine g_iconst 0 dX1_opensFound_5 (by decide) ?_
  refine g_istore_n 1 dX1_opensFound_6 rfl (lt_b rfl) ?_
  refine g_jmp (ok_X1_opensFound_b7 X v0 ?_ _ _ _) rfl
  · intro a19 σ
    exact g_vret rfl dX1_opensFound_90
theorem dd_X1_opensFound : yX1_opensFound.cls ≠ "java/lang/invoke/MethodHandle" ∧ yX1_opensFound.cls ≠ "java/lang/invoke/VarHandle" ∧ (parseMethodDescriptor yX1_opensFound.desc).map (fun d => d.parameters.length) = some 0 := by decide +kernel
theorem dv_X1_opensFound : yX1_opensFound.cls = RX1 ∧ yX1_opensFound.cls ≠ "java/lang/invoke/MethodHandle" ∧ yX1_opensFound.cls ≠ "java/lang/invoke/VarHandle" ∧ (parseMethodDescriptor yX1_opensFound.desc).map (fun d => d.parameters.length) = some 0 := ⟨rfl, dd_X1_opensFound⟩
/-! RockingHorse.fitsIf(II)J -/
abbrev mi_X1_fitsIf : Mi := (cX1_fitsIf, 3, "RockingHorse", 3, some .long, "fitsIf")
def f_X1_fitsIf (v0 : Option Nat) (v1 : Int32) (v2 : Int32) (σ : Hp) : Option (Int64 × Hp) :=
  ob 0 σ v0 fun _ => bnd (f_X1_opensFound v0 σ) fun _ σ =>
  ob 0 σ v0 fun _ => bnd (f_X1_fixes v0 v1 v2 σ) fun _ σ =>
  ob 0 σ v0 fun _ => bnd (f_X1_laysWays v0 σ) fun x1 σ =>
  some (x1, σ)
theorem mm_X1_fitsIf (v0 : Option Nat) (v1 : Int32) (v2 : Int32) (σ : Hp) : MM yX1_fitsIf mi_X1_fitsIf rL [vA v0, vI v1, vI v2] σ (f_X1_fitsIf v0 v1 v2 σ) := by
  refine mm_of (by decide +kernel) rfl rfl (Nat.le_of_ble_eq_true rfl) ?_
  intro X
  unfold f_X1_fitsIf
  refine g_aload_n 0 dX1_fitsIf_0 rfl rfl ?_
  refine g_callV_V (mm_X1_opensFound _ _) rfl zc_0 q881 q883 qs42 q107 q884 dv_X1_opensFound rfl (Nat.le_of_ble_eq_true rfl) (Nat.le_of_ble_eq_true rfl) (Nat.le_of_ble_eq_true rfl) dX1_fitsIf_1 fun _ σ => ?_
  refine g_aload_n 0 dX1_fitsIf_4 rfl rfl ?_
  refine g_iload_n 1 dX1_fitsIf_5 rfl rfl ?_
  refine g_iload_n 2 dX1_fitsIf_6 rfl rfl ?_
  refine g_callV_V (mm_X1_fixes _ _ _ _) rfl zc_0 q766 q768 qs33 q107 q769 dv_X1_fixes rfl (Nat.le_of_ble_eq_true rfl) (Nat.le_of_ble_eq_true rfl) (Nat.le_of_ble_eq_true rfl) dX1_fitsIf_7 fun _ σ => ?_
  refine g_aload_n 0 dX1_fitsIf_10 rfl rfl ?_
  refine g_callV_L (mm_X1_laysWays _ _) rfl zc_0 q806 q808 qs39 q107 q809 dv_X1_laysWays rfl (Nat.le_of_ble_eq_true rfl) (Nat.le_of_ble_eq_true rfl) (Nat.le_of_ble_eq_true rfl) dX1_fitsIf_11 fun x1 σ => ?_
  exact g_lret rfl dX1_fitsIf_14
theorem dd_X1_fitsIf : yX1_fitsIf.cls ≠ "java/lang/invoke/MethodHandle" ∧ yX1_fitsIf.cls ≠ "java/lang/invoke/VarHandle" ∧ (parseMethodDescriptor yX1_fitsIf.desc).map (fun d => d.parameters.length) = some 2 := by decide +kernel
theorem dv_X1_fitsIf : yX1_fitsIf.cls = RX1 ∧ yX1_fitsIf.cls ≠ "java/lang/invoke/MethodHandle" ∧ yX1_fitsIf.cls ≠ "java/lang/invoke/VarHandle" ∧ (parseMethodDescriptor yX1_fitsIf.desc).map (fun d => d.parameters.length) = some 2 := ⟨rfl, dd_X1_fitsIf⟩
/-! RockingHorse.ask()I -/
abbrev mi_X1_ask : Mi := (cX1_ask, 8, "RockingHorse", 4, some .int, "ask")
def f_X1_ask_b40 (v0 : Option Nat) (v4 : Int32) (k0 : Int64 → Hp → Option (Int32 × Hp)) (ag : (Int64 × Int32) → Hp → Option (Int32 × Hp)) (a : Int64 × Int32) (σ : Hp) : Option (Int32 × Hp) :=
  gI 0 5 σ v0 fun x3 =>
  if x3 ≤ a.2 then
    k0 a.1 σ
  else
    ob 0 σ v0 fun _ => bnd (f_X1_fitsIf v0 v4 a.2 σ) fun x4 σ =>
    ag ((lmax a.1 x4), (a.2 + 1)) σ
def f_X1_ask_b25 (v0 : Option Nat) (k0 : (Int32 × Int64) → Hp → Option (Int32 × Hp)) (ag : (Int32 × Int64 × Int32) → Hp → Option (Int32 × Hp)) (a : Int32 × Int64 × Int32) (σ : Hp) : Option (Int32 × Hp) :=
  gI 0 6 σ v0 fun x2 =>
  if x2 ≤ a.2.2 then
    k0 (a.1, a.2.1) σ
  else
    lp 2000 (f_X1_ask_b40 v0 a.2.2 (fun (a5 : Int64) σ =>
        jn (fun (a6 : Int32) σ =>
            ag (a6, (lmin a.2.1 a5), (a.2.2 + 1)) σ) fun j7 =>
        if 0 ≤ (lg_cmp a5 a.2.1) then
          j7 a.1 σ
        else
          j7 a.2.2 σ)) (0, 0) σ
def f_X1_ask (v0 : Option Nat) (σ : Hp) : Option (Int32 × Hp) :=
  ob 0 σ v0 fun _ => bnd (f_X1_opensFound v0 σ) fun _ σ =>
  ob 0 σ v0 fun _ => bnd (f_X1_laysWays v0 σ) fun x1 σ =>
  if (lg_cmp x1 0) = 0 then
    some ((-2), σ)
  else
    lp 2000 (f_X1_ask_b25 v0 (fun (a8 : Int32 × Int64) σ =>
        pI 0 0 52 σ v0 0 fun σ =>
        ob 0 σ v0 fun _ => bnd (f_X1_tells v0 a8.2 σ) fun _ σ =>
        some (a8.1, σ))) (0, 9223372036854775807, 0) σ
theorem ok_X1_ask_b40 (X : Mx) (v0 : Option Nat) (v4 : Int32) (v1 : Int32) (v2 : Int64) {k0 : Int64 → Hp → Option (Int32 × Hp)} (hk0 : ∀ (a : Int64) (σ : Hp), GG X mi_X1_ask (QM X rI) 70 [(0, vA v0), (1, vI v1), (2, vL v2), (4, vI v4), (5, vL a)] [] σ (k0 a σ)) : ∀ (m : Nat) (a : Int64 × Int32) (σ : Hp), GG X mi_X1_ask (QM X rI) 40 [(0, vA v0), (1, vI v1), (2, vL v2), (4, vI v4), (5, vL a.1), (7, vI a.2)] [] σ (lp m (f_X1_ask_b40 v0 v4 k0) a σ) := by
  refine g_lp (fun (a : Int64 × Int32) => [(0, vA v0), (1, vI v1), (2, vL v2), (4, vI v4), (5, vL a.1), (7, vI a.2)]) ?_
  intro ag hag a σ
  unfold f_X1_ask_b40
  refine g_iload dX1_ask_40 rfl ?_
  refine g_aload_n 0 dX1_ask_42 rfl rfl ?_
  refine g_getI fo_0_5 (by decide) q179 dX1_ask_43 fun x3 => ?_
  refine g_icmp_ge 70 dX1_ask_46 (by decide) ?_ ?_
  · exact g_jmp (hk0 _ _) rfl
  · refine g_lload dX1_ask_49 rfl ?_
    refine g_aload_n 0 dX1_ask_51 rfl rfl ?_
    refine g_iload dX1_ask_52 rfl ?_
    refine g_iload dX1_ask_54 rfl ?_
    refine g_callV_L (mm_X1_fitsIf _ _ _ _) rfl zc_0 q893 q895 qs44 q107 q896 dv_X1_fitsIf rfl (Nat.le_of_ble_eq_true rfl) (Nat.le_of_ble_eq_true rfl) (Nat.le_of_ble_eq_true rfl) dX1_ask_56 fun x4 σ => ?_
    refine g_mmax_long q909 (by decide) (Nat.le_of_ble_eq_true rfl) dX1_ask_59 ?_
    refine g_lstore dX1_ask_62 (lt_b rfl) ?_
    refine g_iinc 1 dX1_ask_64 (by decide) rfl (lt_b rfl) ?_
    refine g_goto 40 dX1_ask_67 (by decide) ?_
    exact g_jmp (hag _ _) rfl
theorem ok_X1_ask_b25 (X : Mx) (v0 : Option Nat) {k0 : (Int32 × Int64) → Hp → Option (Int32 × Hp)} (hk0 : ∀ (a : Int32 × Int64) (σ : Hp), GG X mi_X1_ask (QM X rI) 97 [(0, vA v0), (1, vI a.1), (2, vL a.2)] [] σ (k0 a σ)) : ∀ (m : Nat) (a : Int32 × Int64 × Int32) (σ : Hp), GG X mi_X1_ask (QM X rI) 25 [(0, vA v0), (1, vI a.1), (2, vL a.2.1), (4, vI a.2.2)] [] σ (lp m (f_X1_ask_b25 v0 k0) a σ) := by
  refine g_lp (fun (a : Int32 × Int64 × Int32) => [(0, vA v0), (1, vI a.1), (2, vL a.2.1), (4, vI a.2.2)]) ?_
  intro ag hag a σ
  unfold f_X1_ask_b25
  refine g_iload dX1_ask_25 rfl ?_
  refine g_aload_n 0 dX1_ask_27 rfl rfl ?_
  refine g_getI fo_0_6 (by decide) q180 dX1_ask_28 fun x2 => ?_
  refine g_icmp_ge 97 dX1_ask_31 (by decide) ?_ ?_
  · exact g_jmp (hk0 _ _) rfl
  · refine g_lconst 0 dX1_ask_34 (by decide) ?_
    refine g_lstore dX1_ask_35 (lt_b rfl) ?_
    refine g_iconst 0 dX1_ask_37 (by decide) ?_
    refine g_istore dX1_ask_38 (lt_b rfl) ?_
    refine g_jmp (ok_X1_ask_b40 X v0 a.2.2 a.1 a.2.1 ?_ _ _ _) rfl
    · intro a5 σ
      refine g_lload dX1_ask_70 rfl ?_
      refine g_lload_n 2 dX1_ask_72 rfl rfl ?_
      refine g_lcmp dX1_ask_73 ?_
      refine g_jn (fun j7 => ∀ (a6 : Int32) (σ : Hp), GG X mi_X1_ask (QM X rI) 83 [(0, vA v0), (2, vL a.2.1), (4, vI a.2.2), (5, vL a5)] [vI a6] σ (j7 a6 σ)) ?_ ?_
      · intro a6 σ
        refine g_istore_n 1 dX1_ask_83 rfl (lt_b rfl) ?_
        refine g_lload_n 2 dX1_ask_84 rfl rfl ?_
        refine g_lload dX1_ask_85 rfl ?_
        refine g_mmin_long q912 (by decide) (Nat.le_of_ble_eq_true rfl) dX1_ask_87 ?_
        refine g_lstore_n 2 dX1_ask_90 rfl (lt_b rfl) ?_
        refine g_iinc 1 dX1_ask_91 (by decide) rfl (lt_b rfl) ?_
        refine g_goto 25 dX1_ask_94 (by decide) ?_
        exact g_jmp (hag _ _) rfl
      · intro j7 hj7
        refine g_if_ge 82 dX1_ask_74 (by decide) ?_ ?_
        · refine g_iload_n 1 dX1_ask_82 rfl rfl ?_
          exact g_jmp (hj7 _ _) rfl
        · refine g_iload dX1_ask_77 rfl ?_
          refine g_goto 83 dX1_ask_79 (by decide) ?_
          exact g_jmp (hj7 _ _) rfl
theorem mm_X1_ask (v0 : Option Nat) (σ : Hp) : MM yX1_ask mi_X1_ask rI [vA v0] σ (f_X1_ask v0 σ) := by
  refine mm_of (by decide +kernel) rfl rfl (Nat.le_of_ble_eq_true rfl) ?_
  intro X
  unfold f_X1_ask
  refine g_aload_n 0 dX1_ask_0 rfl rfl ?_
  refine g_callV_V (mm_X1_opensFound _ _) rfl zc_0 q881 q883 qs42 q107 q884 dv_X1_opensFound rfl (Nat.le_of_ble_eq_true rfl) (Nat.le_of_ble_eq_true rfl) (Nat.le_of_ble_eq_true rfl) dX1_ask_1 fun _ σ => ?_
  refine g_aload_n 0 dX1_ask_4 rfl rfl ?_
  refine g_callV_L (mm_X1_laysWays _ _) rfl zc_0 q806 q808 qs39 q107 q809 dv_X1_laysWays rfl (Nat.le_of_ble_eq_true rfl) (Nat.le_of_ble_eq_true rfl) (Nat.le_of_ble_eq_true rfl) dX1_ask_5 fun x1 σ => ?_
  refine g_lconst 0 dX1_ask_8 (by decide) ?_
  refine g_lcmp dX1_ask_9 ?_
  refine g_if_ne 16 dX1_ask_10 (by decide) ?_ ?_
  · refine g_iconst 0 dX1_ask_16 (by decide) ?_
    refine g_istore_n 1 dX1_ask_17 rfl (lt_b rfl) ?_
    refine g_ldc2_w dX1_ask_18 q908 ?_
    refine g_lstore_n 2 dX1_ask_21 rfl (lt_b rfl) ?_
    refine g_iconst 0 dX1_ask_22 (by decide) ?_
    refine g_istore dX1_ask_23 (lt_b rfl) ?_
    refine g_jmp (ok_X1_ask_b25 X v0 ?_ _ _ _) rfl
    · intro a8 σ
      refine g_aload_n 0 dX1_ask_97 rfl rfl ?_
      refine g_iconst 0 dX1_ask_98 (by decide) ?_
      refine g_putI fo_0_52 (by decide) rfl q229 dX1_ask_99 fun σ => ?_
      refine g_aload_n 0 dX1_ask_102 rfl rfl ?_
      refine g_lload_n 2 dX1_ask_103 rfl rfl ?_
      refine g_callV_V (mm_X1_tells _ _ _) rfl zc_0 q683 q685 qs21 q107 q686 dv_X1_tells rfl (Nat.le_of_ble_eq_true rfl) (Nat.le_of_ble_eq_true rfl) (Nat.le_of_ble_eq_true rfl) dX1_ask_104 fun _ σ => ?_
      refine g_iload_n 1 dX1_ask_107 rfl rfl ?_
      exact g_iret rfl dX1_ask_108
  · refine g_bipush (-2) dX1_ask_13 (by decide) ?_
    exact g_iret rfl dX1_ask_15
theorem dd_X1_ask : yX1_ask.cls ≠ "java/lang/invoke/MethodHandle" ∧ yX1_ask.cls ≠ "java/lang/invoke/VarHandle" ∧ (parseMethodDescriptor yX1_ask.desc).map (fun d => d.parameters.length) = some 0 := by decide +kernel
theorem dv_X1_ask : yX1_ask.cls = RX1 ∧ yX1_ask.cls ≠ "java/lang/invoke/MethodHandle" ∧ yX1_ask.cls ≠ "java/lang/invoke/VarHandle" ∧ (parseMethodDescriptor yX1_ask.desc).map (fun d => d.parameters.length) = some 0 := ⟨rfl, dd_X1_ask⟩
/-! RockingHorse.heldBy(II)J -/
abbrev mi_X1_heldBy : Mi := (cX1_heldBy, 9, "RockingHorse", 2, some .long, "heldBy")
def f_X1_heldBy_b38 (v0 : Option Nat) (v1 : Int32) (v2 : Int32) (v5 : Int32) (k0 : Int64 → Hp → Option (Int64 × Hp)) (ag : (Int64 × Int32) → Hp → Option (Int64 × Hp)) (a : Int64 × Int32) (σ : Hp) : Option (Int64 × Hp) :=
  gI 0 5 σ v0 fun x4 =>
  if x4 ≤ a.2 then
    k0 a.1 σ
  else
    bnd (f_X1_has v1 a.2 σ) fun x5 σ =>
    jn (fun (a6 : Int64) σ =>
        ag ((a.1 * a6), (a.2 + 1)) σ) fun j7 =>
    if x5 = 0 then
      j7 1 σ
    else
      bnd (f_X1_has v5 a.2 σ) fun x8 σ =>
      if x8 = 0 then
        j7 (Int32.toInt64 v2) σ
      else
        j7 (Int32.toInt64 (10 - v2)) σ
def f_X1_heldBy_b5 (v0 : Option Nat) (v1 : Int32) (v2 : Int32) (k0 : Int64 → Hp → Option (Int64 × Hp)) (ag : (Int64 × Int32) → Hp → Option (Int64 × Hp)) (a : Int64 × Int32) (σ : Hp) : Option (Int64 × Hp) :=
  if v1 < a.2 then
    k0 a.1 σ
  else
    jn (fun (a1 : Int64) σ =>
        ag (a1, (a.2 + 1)) σ) fun j2 =>
    if (a.2 &&& (v1 ^^^ (-1))) = 0 then
      ob 0 σ v0 fun _ => bnd (f_X1_lacking v0 a.2 σ) fun x3 σ =>
      if x3 = 0 then
        lp 2000 (f_X1_heldBy_b38 v0 v1 v2 a.2 (fun (a9 : Int64) σ =>
            j2 (a.1 + a9) σ)) (1, 0) σ
      else
        j2 a.1 σ
    else
      j2 a.1 σ
def f_X1_heldBy (v0 : Option Nat) (v1 : Int32) (v2 : Int32) (σ : Hp) : Option (Int64 × Hp) :=
  lp 2000 (f_X1_heldBy_b5 v0 v1 v2 (fun (a10 : Int64) σ =>
      some (a10, σ))) (0, 0) σ
theorem ok_X1_heldBy_b38 (X : Mx) (v0 : Option Nat) (v1 : Int32) (v2 : Int32) (v5 : Int32) (v3 : Int64) {k0 : Int64 → Hp → Option (Int64 × Hp)} (hk0 : ∀ (a : Int64) (σ : Hp), GG X mi_X1_heldBy (QM X rL) 91 [(0, vA v0), (1, vI v1), (2, vI v2), (3, vL v3), (5, vI v5), (6, vL a)] [] σ (k0 a σ)) : ∀ (m : Nat) (a : Int64 × Int32) (σ : Hp), GG X mi_X1_heldBy (QM X rL) 38 [(0, vA v0), (1, vI v1), (2, vI v2), (3, vL v3), (5, vI v5), (6, vL a.1), (8, vI a.2)] [] σ (lp m (f_X1_heldBy_b38 v0 v1 v2 v5 k0) a σ) := by
  refine g_lp (fun (a : Int64 × Int32) => [(0, vA v0), (1, vI v1), (2, vI v2), (3, vL v3), (5, vI v5), (6, vL a.1), (8, vI a.2)]) ?_
  intro ag hag a σ
  unfold f_X1_heldBy_b38
  refine g_iload dX1_heldBy_38 rfl ?_
  refine g_aload_n 0 dX1_heldBy_40 rfl rfl ?_
  refine g_getI fo_0_5 (by decide) q179 dX1_heldBy_41 fun x4 => ?_
  refine g_icmp_ge 91 dX1_heldBy_44 (by decide) ?_ ?_
  · exact g_jmp (hk0 _ _) rfl
  · refine g_lload dX1_heldBy_47 rfl ?_
    refine g_iload_n 1 dX1_heldBy_49 rfl rfl ?_
    refine g_iload dX1_heldBy_50 rfl ?_
    refine g_callS_I (mm_X1_has _ _ _) rfl q677 q678 q107 q679 dd_X1_has rfl (Nat.le_of_ble_eq_true rfl) (Nat.le_of_ble_eq_true rfl) (Nat.le_of_ble_eq_true rfl) dX1_heldBy_52 fun x5 σ => ?_
    refine g_jn (fun j7 => ∀ (a6 : Int64) (σ : Hp), GG X mi_X1_heldBy (QM X rL) 82 [(0, vA v0), (1, vI v1), (2, vI v2), (3, vL v3), (5, vI v5), (8, vI a.2)] [vL a6, vL a.1] σ (j7 a6 σ)) ?_ ?_
    · intro a6 σ
      refine g_lmul dX1_heldBy_82 ?_
      refine g_lstore dX1_heldBy_83 (lt_b rfl) ?_
      refine g_iinc 1 dX1_heldBy_85 (by decide) rfl (lt_b rfl) ?_
      refine g_goto 38 dX1_heldBy_88 (by decide) ?_
      exact g_jmp (hag _ _) rfl
    · intro j7 hj7
      refine g_if_ne 62 dX1_heldBy_55 (by decide) ?_ ?_
      · refine g_iload dX1_heldBy_62 rfl ?_
        refine g_iload dX1_heldBy_64 rfl ?_
        refine g_callS_I (mm_X1_has _ _ _) rfl q677 q678 q107 q679 dd_X1_has rfl (Nat.le_of_ble_eq_true rfl) (Nat.le_of_ble_eq_true rfl) (Nat.le_of_ble_eq_true rfl) dX1_heldBy_66 fun x8 σ => ?_
        refine g_if_eq 80 dX1_heldBy_69 (by decide) ?_ ?_
        · refine g_iload_n 2 dX1_heldBy_80 rfl rfl ?_
          refine g_i2l dX1_heldBy_81 ?_
          exact g_jmp (hj7 _ _) rfl
        · refine g_bipush 10 dX1_heldBy_72 (by decide) ?_
          refine g_iload_n 2 dX1_heldBy_74 rfl rfl ?_
          refine g_isub dX1_heldBy_75 ?_
          refine g_i2l dX1_heldBy_76 ?_
          refine g_goto 82 dX1_heldBy_77 (by decide) ?_
          exact g_jmp (hj7 _ _) rfl
      · refine g_lconst 1 dX1_heldBy_58 (by decide) ?_
        refine g_goto 82 dX1_heldBy_59 (by decide) ?_
        exact g_jmp (hj7 _ _) rfl
theorem ok_X1_heldBy_b5 (X : Mx) (v0 : Option Nat) (v1 : Int32) (v2 : Int32) {k0 : Int64 → Hp → Option (Int64 × Hp)} (hk0 : ∀ (a : Int64) (σ : Hp), GG X mi_X1_heldBy (QM X rL) 102 [(3, vL a)] [] σ (k0 a σ)) : ∀ (m : Nat) (a : Int64 × Int32) (σ : Hp), GG X mi_X1_heldBy (QM X rL) 5 [(0, vA v0), (1, vI v1), (2, vI v2), (3, vL a.1), (5, vI a.2)] [] σ (lp m (f_X1_heldBy_b5 v0 v1 v2 k0) a σ) := by
  refine g_lp (fun (a : Int64 × Int32) => [(0, vA v0), (1, vI v1), (2, vI v2), (3, vL a.1), (5, vI a.2)]) ?_
  intro ag hag a σ
  unfold f_X1_heldBy_b5
  refine g_iload dX1_heldBy_5 rfl ?_
  refine g_iload_n 1 dX1_heldBy_7 rfl rfl ?_
  refine g_icmp_gt 102 dX1_heldBy_8 (by decide) ?_ ?_
  · exact g_jmp (hk0 _ _) rfl
  · refine g_iload dX1_heldBy_11 rfl ?_
    refine g_iload_n 1 dX1_heldBy_13 rfl rfl ?_
    refine g_iconst (-1) dX1_heldBy_14 (by decide) ?_
    refine g_ixor dX1_heldBy_15 ?_
    refine g_iand dX1_heldBy_16 ?_
    refine g_jn (fun j2 => ∀ (a1 : Int64) (σ : Hp), GG X mi_X1_heldBy (QM X rL) 96 [(0, vA v0), (1, vI v1), (2, vI v2), (3, vL a1), (5, vI a.2)] [] σ (j2 a1 σ)) ?_ ?_
    · intro a1 σ
      refine g_iinc 1 dX1_heldBy_96 (by decide) rfl (lt_b rfl) ?_
      refine g_goto 5 dX1_heldBy_99 (by decide) ?_
      exact g_jmp (hag _ _) rfl
    · intro j2 hj2
      refine g_if_ne 96 dX1_heldBy_17 (by decide) ?_ ?_
      · exact g_jmp (hj2 _ _) rfl
      · refine g_aload_n 0 dX1_heldBy_20 rfl rfl ?_
        refine g_iload dX1_heldBy_21 rfl ?_
        refine g_callV_I (mm_X1_lacking _ _ _) rfl zc_0 q786 q788 qs36 q107 q789 dv_X1_lacking rfl (Nat.le_of_ble_eq_true rfl) (Nat.le_of_ble_eq_true rfl) (Nat.le_of_ble_eq_true rfl) dX1_heldBy_23 fun x3 σ => ?_
        refine g_if_eq 32 dX1_heldBy_26 (by decide) ?_ ?_
        · refine g_lconst 1 dX1_heldBy_32 (by decide) ?_
          refine g_lstore dX1_heldBy_33 (lt_b rfl) ?_
          refine g_iconst 0 dX1_heldBy_35 (by decide) ?_
          refine g_istore dX1_heldBy_36 (lt_b rfl) ?_
          refine g_jmp (ok_X1_heldBy_b38 X v0 v1 v2 a.2 a.1 ?_ _ _ _) rfl
          · intro a9 σ
            refine g_lload_n 3 dX1_heldBy_91 rfl rfl ?_
            refine g_lload dX1_heldBy_92 rfl ?_
            refine g_ladd dX1_heldBy_94 ?_
            refine g_lstore_n 3 dX1_heldBy_95 rfl (lt_b rfl) ?_
            exact g_jmp (hj2 _ _) rfl
        · refine g_goto 96 dX1_heldBy_29 (by decide) ?_
          exact g_jmp (hj2 _ _) rfl
theorem mm_X1_heldBy (v0 : Option Nat) (v1 : Int32) (v2 : Int32) (σ : Hp) : MM yX1_heldBy mi_X1_heldBy rL [vA v0, vI v1, vI v2] σ (f_X1_heldBy v0 v1 v2 σ) := by
  refine mm_of (by decide +kernel) rfl rfl (Nat.le_of_ble_eq_true rfl) ?_
  intro X
  unfold f_X1_heldBy
  refine g_lconst 0 dX1_heldBy_0 (by decide) ?_
  refine g_lstore_n 3 dX1_heldBy_1 rfl (lt_b rfl) ?_
  refine g_iconst 0 dX1_heldBy_2 (by decide) ?_
  refine g_istore dX1_heldBy_3 (lt_b rfl) ?_
  refine g_jmp (ok_X1_heldBy_b5 X v0 v1 v2 ?_ _ _ _) rfl
  · intro a10 σ
    refine g_lload_n 3 dX1_heldBy_102 rfl rfl ?_
    exact g_lret rfl dX1_heldBy_103
theorem dd_X1_heldBy : yX1_heldBy.cls ≠ "java/lang/invoke/MethodHandle" ∧ yX1_heldBy.cls ≠ "java/lang/invoke/VarHandle" ∧ (parseMethodDescriptor yX1_heldBy.desc).map (fun d => d.parameters.length) = some 2 := by decide +kernel
theorem dv_X1_heldBy : yX1_heldBy.cls = RX1 ∧ yX1_heldBy.cls ≠ "java/lang/invoke/MethodHandle" ∧ yX1_heldBy.cls ≠ "java/lang/invoke/VarHandle" ∧ (parseMethodDescriptor yX1_heldBy.desc).map (fun d => d.parameters.length) = some 2 := ⟨rfl, dd_X1_heldBy⟩
/-! RockingHorse.keystone(I)I -/
abbrev mi_X1_keystone : Mi := (cX1_keystone, 8, "RockingHorse", 102, some .int, "keystone")
def f_X1_keystone_b24 (v0 : Option Nat) (v1 : Int32) (k0 : (Int32 × Int64) → Hp → Option (Int32 × Hp)) (ag : (Int32 × Int64 × Int32) → Hp → Option (Int32 × Hp)) (a : Int32 × Int64 × Int32) (σ : Hp) : Option (Int32 × Hp) :=
  gI 0 5 σ v0 fun x2 =>
  if x2 ≤ a.2.2 then
    k0 (a.1, a.2.1) σ
  else
    ob 0 σ v0 fun _ => bnd (f_X1_well v0 σ) fun x3 σ =>
    bnd (f_X1_has x3 a.2.2 σ) fun x4 σ =>
    jn (fun (a5 : Int32 × Int64) σ =>
        ag (a5.1, a5.2, (a.2.2 + 1)) σ) fun j6 =>
    if x4 = 0 then
      j6 (a.1, a.2.1) σ
    else
      ob 0 σ v0 fun _ => bnd (f_X1_well v0 σ) fun x7 σ =>
      ob 0 σ v0 fun _ => bnd (f_X1_heldBy v0 (x7 &&& ((shl 1 a.2.2) ^^^ (-1))) v1 σ) fun x8 σ =>
      jn (fun (a9 : Int32) σ =>
          j6 (a9, (lmin a.2.1 x8)) σ) fun j10 =>
      if 0 ≤ (lg_cmp x8 a.2.1) then
        j10 a.1 σ
      else
        j10 a.2.2 σ
def f_X1_keystone (v0 : Option Nat) (v1 : Int32) (σ : Hp) : Option (Int32 × Hp) :=
  bnd (f_X1_in (Int32.toInt64 v1) 0 10 σ) fun x1 σ =>
  if x1 = 0 then
    some ((-1), σ)
  else
    lp 2000 (f_X1_keystone_b24 v0 v1 (fun (a11 : Int32 × Int64) σ =>
        if 0 ≤ a11.1 then
          ob 0 σ v0 fun _ => bnd (f_X1_well v0 σ) fun x12 σ =>
          bnd (f_J10_bitCount x12 σ) fun x13 σ =>
          bnd (f_X1_tenTo (x13 - 1) σ) fun x14 σ =>
          ob 0 σ v0 fun _ => bnd (f_X1_tellsFraction v0 a11.2 x14 σ) fun _ σ =>
          some (a11.1, σ)
        else
          some ((-2), σ))) ((-2), 9223372036854775807, 0) σ
theorem ok_X1_keystone_b24 (X : Mx) (v0 : Option Nat) (v1 : Int32) {k0 : (Int32 × Int64) → Hp → Option (Int32 × Hp)} (hk0 : ∀ (a : Int32 × Int64) (σ : Hp), GG X mi_X1_keystone (QM X rI) 93 [(0, vA v0), (2, vI a.1), (3, vL a.2)] [] σ (k0 a σ)) : ∀ (m : Nat) (a : Int32 × Int64 × Int32) (σ : Hp), GG X mi_X1_keystone (QM X rI) 24 [(0, vA v0), (1, vI v1), (2, vI a.1), (3, vL a.2.1), (5, vI a.2.2)] [] σ (lp m (f_X1_keystone_b24 v0 v1 k0) a σ) := by
  refine g_lp (fun (a : Int32 × Int64 × Int32) => [(0, vA v0), (1, vI v1), (2, vI a.1), (3, vL a.2.1), (5, vI a.2.2)]) ?_
  intro ag hag a σ
  unfold f_X1_keystone_b24
  refine g_iload dX1_keystone_24 rfl ?_
  refine g_aload_n 0 dX1_keystone_26 rfl rfl ?_
  refine g_getI fo_0_5 (by decide) q179 dX1_keystone_27 fun x2 => ?_
  refine g_icmp_ge 93 dX1_keystone_30 (by decide) ?_ ?_
  · exact g_jmp (hk0 _ _) rfl
  · refine g_aload_n 0 dX1_keystone_33 rfl rfl ?_
    refine g_callV_I (mm_X1_well _ _) rfl zc_0 q794 q796 qs37 q107 q797 dv_X1_well rfl (Nat.le_of_ble_eq_true rfl) (Nat.le_of_ble_eq_true rfl) (Nat.le_of_ble_eq_true rfl) dX1_keystone_34 fun x3 σ => ?_
    refine g_iload dX1_keystone_37 rfl ?_
    refine g_callS_I (mm_X1_has _ _ _) rfl q677 q678 q107 q679 dd_X1_has rfl (Nat.le_of_ble_eq_true rfl) (Nat.le_of_ble_eq_true rfl) (Nat.le_of_ble_eq_true rfl) dX1_keystone_39 fun x4 σ => ?_
    refine g_jn (fun j6 => ∀ (a5 : Int32 × Int64) (σ : Hp), GG X mi_X1_keystone (QM X rI) 87 [(0, vA v0), (1, vI v1), (2, vI a5.1), (3, vL a5.2), (5, vI a.2.2)] [] σ (j6 a5 σ)) ?_ ?_
    · intro a5 σ
      refine g_iinc 1 dX1_keystone_87 (by decide) rfl (lt_b rfl) ?_
      refine g_goto 24 dX1_keystone_90 (by decide) ?_
      exact g_jmp (hag _ _) rfl
    · intro j6 hj6
      refine g_if_ne 48 dX1_keystone_42 (by decide) ?_ ?_
      · refine g_aload_n 0 dX1_keystone_48 rfl rfl ?_
        refine g_aload_n 0 dX1_keystone_49 rfl rfl ?_
        refine g_callV_I (mm_X1_well _ _) rfl zc_0 q794 q796 qs37 q107 q797 dv_X1_well rfl (Nat.le_of_ble_eq_true rfl) (Nat.le_of_ble_eq_true rfl) (Nat.le_of_ble_eq_true rfl) dX1_keystone_50 fun x7 σ => ?_
        refine g_iconst 1 dX1_keystone_53 (by decide) ?_
        refine g_iload dX1_keystone_54 rfl ?_
        refine g_ishl dX1_keystone_56 ?_
        refine g_iconst (-1) dX1_keystone_57 (by decide) ?_
        refine g_ixor dX1_keystone_58 ?_
        refine g_iand dX1_keystone_59 ?_
        refine g_iload_n 1 dX1_keystone_60 rfl rfl ?_
        refine g_callV_L (mm_X1_heldBy _ _ _ _) rfl zc_0 q920 q922 qs46 q107 q923 dv_X1_heldBy rfl (Nat.le_of_ble_eq_true rfl) (Nat.le_of_ble_eq_true rfl) (Nat.le_of_ble_eq_true rfl) dX1_keystone_61 fun x8 σ => ?_
        refine g_lstore dX1_keystone_64 (lt_b rfl) ?_
        refine g_lload dX1_keystone_66 rfl ?_
        refine g_lload_n 3 dX1_keystone_68 rfl rfl ?_
        refine g_lcmp dX1_keystone_69 ?_
        refine g_jn (fun j10 => ∀ (a9 : Int32) (σ : Hp), GG X mi_X1_keystone (QM X rI) 79 [(0, vA v0), (1, vI v1), (3, vL a.2.1), (5, vI a.2.2), (6, vL x8)] [vI a9] σ (j10 a9 σ)) ?_ ?_
        · intro a9 σ
          refine g_istore_n 2 dX1_keystone_79 rfl (lt_b rfl) ?_
          refine g_lload_n 3 dX1_keystone_80 rfl rfl ?_
          refine g_lload dX1_keystone_81 rfl ?_
          refine g_mmin_long q912 (by decide) (Nat.le_of_ble_eq_true rfl) dX1_keystone_83 ?_
          refine g_lstore_n 3 dX1_keystone_86 rfl (lt_b rfl) ?_
          exact g_jmp (hj6 _ _) rfl
        · intro j10 hj10
          refine g_if_ge 78 dX1_keystone_70 (by decide) ?_ ?_
          · refine g_iload_n 2 dX1_keystone_78 rfl rfl ?_
            exact g_jmp (hj10 _ _) rfl
          · refine g_iload dX1_keystone_73 rfl ?_
            refine g_goto 79 dX1_keystone_75 (by decide) ?_
            exact g_jmp (hj10 _ _) rfl
      · refine g_goto 87 dX1_keystone_45 (by decide) ?_
        exact g_jmp (hj6 _ _) rfl
theorem mm_X1_keystone (v0 : Option Nat) (v1 : Int32) (σ : Hp) : MM yX1_keystone mi_X1_keystone rI [vA v0, vI v1] σ (f_X1_keystone v0 v1 σ) := by
  refine mm_of (by decide +kernel) rfl rfl (Nat.le_of_ble_eq_true rfl) ?_
  intro X
  unfold f_X1_keystone
  refine g_iload_n 1 dX1_keystone_0 rfl rfl ?_
  refine g_i2l dX1_keystone_1 ?_
  refine g_lconst 0 dX1_keystone_2 (by decide) ?_
  refine g_ldc2_w dX1_keystone_3 q919 ?_
  refine g_callS_I (mm_X1_in _ _ _ _) rfl q346 q347 q107 q348 dd_X1_in rfl (Nat.le_of_ble_eq_true rfl) (Nat.le_of_ble_eq_true rfl) (Nat.le_of_ble_eq_true rfl) dX1_keystone_6 fun x1 σ => ?_
  refine g_if_ne 14 dX1_keystone_9 (by decide) ?_ ?_
  · refine g_bipush (-2) dX1_keystone_14 (by decide) ?_
    refine g_istore_n 2 dX1_keystone_16 rfl (lt_b rfl) ?_
    refine g_ldc2_w dX1_keystone_17 q908 ?_
    refine g_lstore_n 3 dX1_keystone_20 rfl (lt_b rfl) ?_
    refine g_iconst 0 dX1_keystone_21 (by decide) ?_
    refine g_istore dX1_keystone_22 (lt_b rfl) ?_
    refine g_jmp (ok_X1_keystone_b24 X v0 v1 ?_ _ _ _) rfl
    · intro a11 σ
      refine g_iload_n 2 dX1_keystone_93 rfl rfl ?_
      refine g_if_ge 100 dX1_keystone_94 (by decide) ?_ ?_
      · refine g_aload_n 0 dX1_keystone_100 rfl rfl ?_
        refine g_lload_n 3 dX1_keystone_101 rfl rfl ?_
        refine g_aload_n 0 dX1_keystone_102 rfl rfl ?_
        refine g_callV_I (mm_X1_well _ _) rfl zc_0 q794 q796 qs37 q107 q797 dv_X1_well rfl (Nat.le_of_ble_eq_true rfl) (Nat.le_of_ble_eq_true rfl) (Nat.le_of_ble_eq_true rfl) dX1_keystone_103 fun x12 σ => ?_
        refine g_callS_I (mm_J10_bitCount _ _) rfl q659 q600 q125 q601 dd_J10_bitCount rfl (Nat.le_of_ble_eq_true rfl) (Nat.le_of_ble_eq_true rfl) (Nat.le_of_ble_eq_true rfl) dX1_keystone_106 fun x13 σ => ?_
        refine g_iconst 1 dX1_keystone_109 (by decide) ?_
        refine g_isub dX1_keystone_110 ?_
        refine g_callS_L (mm_X1_tenTo _ _) rfl q924 q925 q107 q926 dd_X1_tenTo rfl (Nat.le_of_ble_eq_true rfl) (Nat.le_of_ble_eq_true rfl) (Nat.le_of_ble_eq_true rfl) dX1_keystone_111 fun x14 σ => ?_
        refine g_callV_V (mm_X1_tellsFraction _ _ _ _) rfl zc_0 q897 q899 qs45 q107 q900 dv_X1_tellsFraction rfl (Nat.le_of_ble_eq_true rfl) (Nat.le_of_ble_eq_true rfl) (Nat.le_of_ble_eq_true rfl) dX1_keystone_114 fun _ σ => ?_
        refine g_iload_n 2 dX1_keystone_117 rfl rfl ?_
        exact g_iret rfl dX1_keystone_118
      · refine g_bipush (-2) dX1_keystone_97 (by decide) ?_
        exact g_iret rfl dX1_keystone_99
  · refine g_iconst (-1) dX1_keystone_12 (by decide) ?_
    exact g_iret rfl dX1_keystone_13
theorem dd_X1_keystone : yX1_keystone.cls ≠ "java/lang/invoke/MethodHandle" ∧ yX1_keystone.cls ≠ "java/lang/invoke/VarHandle" ∧ (parseMethodDescriptor yX1_keystone.desc).map (fun d => d.parameters.length) = some 1 := by decide +kernel
theorem dv_X1_keystone : yX1_keystone.cls = RX1 ∧ yX1_keystone.cls ≠ "java/lang/invoke/MethodHandle" ∧ yX1_keystone.cls ≠ "java/lang/invoke/VarHandle" ∧ (parseMethodDescriptor yX1_keystone.desc).map (fun d => d.parameters.length) = some 1 := ⟨rfl, dd_X1_keystone⟩
/-! RockingHorse.rests(II)I -/
abbrev mi_X1_rests : Mi := (cX1_rests, 7, "RockingHorse", 1, some .int, "rests")
def f_X1_rests_b49 (v0 : Option Nat) (v1 : Int32) (v2 : Int32) (v5 : Int32) (k0 : (Int32 × Int32) → Hp → Option (Int32 × Hp)) (ag : (Int32 × Int32 × Int32) → Hp → Option (Int32 × Hp)) (a : Int32 × Int32 × Int32) (σ : Hp) : Option (Int32 × Hp) :=
  if 9 < a.2.2 then
    k0 (a.1, a.2.1) σ
  else
    bnd (f_X1_isRest v5 a.2.2 v1 v2 σ) fun x3 σ =>
    jn (fun (a4 : Int32 × Int32) σ =>
        ag (a4.1, a4.2, (a.2.2 + 1)) σ) fun j5 =>
    if x3 = 0 then
      j5 (a.1, a.2.1) σ
    else
      jn (fun (a6 : Int32) σ =>
          if (a.1 + 1) ≤ 1 then
            ob 0 σ v0 fun _ => bnd (f_X1_tells v0 (Int32.toInt64 v5) σ) fun _ σ =>
            ob 0 σ v0 fun _ => bnd (f_X1_tells v0 (Int32.toInt64 a.2.2) σ) fun _ σ =>
            j5 ((a.1 + 1), (a.2.1 + a6)) σ
          else
            j5 ((a.1 + 1), (a.2.1 + a6)) σ) fun j7 =>
      if v5 < a.2.2 then
        j7 0 σ
      else
        j7 1 σ
def f_X1_rests_b39 (v0 : Option Nat) (v1 : Int32) (v2 : Int32) (k0 : (Int32 × Int32) → Hp → Option (Int32 × Hp)) (ag : (Int32 × Int32 × Int32) → Hp → Option (Int32 × Hp)) (a : Int32 × Int32 × Int32) (σ : Hp) : Option (Int32 × Hp) :=
  if 9 < a.2.2 then
    k0 (a.1, a.2.1) σ
  else
    lp 2000 (f_X1_rests_b49 v0 v1 v2 a.2.2 (fun (a8 : Int32 × Int32) σ =>
        ag (a8.1, a8.2, (a.2.2 + 1)) σ)) (a.1, a.2.1, 0) σ
def f_X1_rests (v0 : Option Nat) (v1 : Int32) (v2 : Int32) (σ : Hp) : Option (Int32 × Hp) :=
  bnd (f_X1_in (Int32.toInt64 v1) 0 9 σ) fun x1 σ =>
  if x1 = 0 then
    some ((-1), σ)
  else
    bnd (f_X1_in (Int32.toInt64 v2) 0 9 σ) fun x2 σ =>
    if x2 = 0 then
      some ((-1), σ)
    else
      pI 0 0 52 σ v0 0 fun σ =>
      lp 2000 (f_X1_rests_b39 v0 v1 v2 (fun (a9 : Int32 × Int32) σ =>
          jn (fun (a10 : Unit) σ =>
              some (a9.1, σ)) fun j11 =>
          if a9.1 ≤ 0 then
            j11 () σ
          else
            ob 0 σ v0 fun _ => bnd (f_X1_tells v0 (Int32.toInt64 a9.2) σ) fun _ σ =>
            j11 () σ)) (0, 0, 0) σ
theorem ok_X1_rests_b49 (X : Mx) (v0 : Option Nat) (v1 : Int32) (v2 : Int32) (v5 : Int32) {k0 : (Int32 × Int32) → Hp → Option (Int32 × Hp)} (hk0 : ∀ (a : Int32 × Int32) (σ : Hp), GG X mi_X1_rests (QM X rI) 119 [(0, vA v0), (1, vI v1), (2, vI v2), (3, vI a.1), (4, vI a.2), (5, vI v5)] [] σ (k0 a σ)) : ∀ (m : Nat) (a : Int32 × Int32 × Int32) (σ : Hp), GG X mi_X1_rests (QM X rI) 49 [(0, vA v0), (1, vI v1), (2, vI v2), (3, vI a.1), (4, vI a.2.1), (5, vI v5), (6, vI a.2.2)] [] σ (lp m (f_X1_rests_b49 v0 v1 v2 v5 k0) a σ) := by
  refine g_lp (fun (a : Int32 × Int32 × Int32) => [(0, vA v0), (1, vI v1), (2, vI v2), (3, vI a.1), (4, vI a.2.1), (5, vI v5), (6, vI a.2.2)]) ?_
  intro ag hag a σ
  unfold f_X1_rests_b49
  refine g_iload dX1_rests_49 rfl ?_
  refine g_bipush 9 dX1_rests_51 (by decide) ?_
  refine g_icmp_gt 119 dX1_rests_53 (by decide) ?_ ?_
  · exact g_jmp (hk0 _ _) rfl
  · refine g_iload dX1_rests_56 rfl ?_
    refine g_iload dX1_rests_58 rfl ?_
    refine g_iload_n 1 dX1_rests_60 rfl rfl ?_
    refine g_iload_n 2 dX1_rests_61 rfl rfl ?_
    refine g_callS_I (mm_X1_isRest _ _ _ _ _) rfl q935 q936 q107 q937 dd_X1_isRest rfl (Nat.le_of_ble_eq_true rfl) (Nat.le_of_ble_eq_true rfl) (Nat.le_of_ble_eq_true rfl) dX1_rests_62 fun x3 σ => ?_
    refine g_jn (fun j5 => ∀ (a4 : Int32 × Int32) (σ : Hp), GG X mi_X1_rests (QM X rI) 113 [(0, vA v0), (1, vI v1), (2, vI v2), (3, vI a4.1), (4, vI a4.2), (5, vI v5), (6, vI a.2.2)] [] σ (j5 a4 σ)) ?_ ?_
    · intro a4 σ
      refine g_iinc 1 dX1_rests_113 (by decide) rfl (lt_b rfl) ?_
      refine g_goto 49 dX1_rests_116 (by decide) ?_
      exact g_jmp (hag _ _) rfl
    · intro j5 hj5
      refine g_if_ne 71 dX1_rests_65 (by decide) ?_ ?_
      · refine g_iinc 1 dX1_rests_71 (by decide) rfl (lt_b rfl) ?_
        refine g_iload dX1_rests_74 rfl ?_
        refine g_iload dX1_rests_76 rfl ?_
        refine g_iload dX1_rests_78 rfl ?_
        refine g_jn (fun j7 => ∀ (a6 : Int32) (σ : Hp), GG X mi_X1_rests (QM X rI) 88 [(0, vA v0), (1, vI v1), (2, vI v2), (3, vI (a.1 + 1)), (5, vI v5), (6, vI a.2.2)] [vI a6, vI a.2.1] σ (j7 a6 σ)) ?_ ?_
        · intro a6 σ
          refine g_iadd dX1_rests_88 ?_
          refine g_istore dX1_rests_89 (lt_b rfl) ?_
          refine g_iload_n 3 dX1_rests_91 rfl rfl ?_
          refine g_iconst 1 dX1_rests_92 (by decide) ?_
          refine g_icmp_le 99 dX1_rests_93 (by decide) ?_ ?_
          · refine g_aload_n 0 dX1_rests_99 rfl rfl ?_
            refine g_iload dX1_rests_100 rfl ?_
            refine g_i2l dX1_rests_102 ?_
            refine g_callV_V (mm_X1_tells _ _ _) rfl zc_0 q683 q685 qs21 q107 q686 dv_X1_tells rfl (Nat.le_of_ble_eq_true rfl) (Nat.le_of_ble_eq_true rfl) (Nat.le_of_ble_eq_true rfl) dX1_rests_103 fun _ σ => ?_
            refine g_aload_n 0 dX1_rests_106 rfl rfl ?_
            refine g_iload dX1_rests_107 rfl ?_
            refine g_i2l dX1_rests_109 ?_
            refine g_callV_V (mm_X1_tells _ _ _) rfl zc_0 q683 q685 qs21 q107 q686 dv_X1_tells rfl (Nat.le_of_ble_eq_true rfl) (Nat.le_of_ble_eq_true rfl) (Nat.le_of_ble_eq_true rfl) dX1_rests_110 fun _ σ => ?_
            exact g_jmp (hj5 _ _) rfl
          · refine g_goto 113 dX1_rests_96 (by decide) ?_
            exact g_jmp (hj5 _ _) rfl
        · intro j7 hj7
          refine g_icmp_lt 87 dX1_rests_80 (by decide) ?_ ?_
          · refine g_iconst 0 dX1_rests_87 (by decide) ?_
            exact g_jmp (hj7 _ _) rfl
          · refine g_iconst 1 dX1_rests_83 (by decide) ?_
            refine g_goto 88 dX1_rests_84 (by decide) ?_
            exact g_jmp (hj7 _ _) rfl
      · refine g_goto 113 dX1_rests_68 (by decide) ?_
        exact g_jmp (hj5 _ _) rfl
theorem ok_X1_rests_b39 (X : Mx) (v0 : Option Nat) (v1 : Int32) (v2 : Int32) {k0 : (Int32 × Int32) → Hp → Option (Int32 × Hp)} (hk0 : ∀ (a : Int32 × Int32) (σ : Hp), GG X mi_X1_rests (QM X rI) 125 [(0, vA v0), (3, vI a.1), (4, vI a.2)] [] σ (k0 a σ)) : ∀ (m : Nat) (a : Int32 × Int32 × Int32) (σ : Hp), GG X mi_X1_rests (QM X rI) 39 [(0, vA v0), (1, vI v1), (2, vI v2), (3, vI a.1), (4, vI a.2.1), (5, vI a.2.2)] [] σ (lp m (f_X1_rests_b39 v0 v1 v2 k0) a σ) := by
  refine g_lp (fun (a : Int32 × Int32 × Int32) => [(0, vA v0), (1, vI v1), (2, vI v2), (3, vI a.1), (4, vI a.2.1), (5, vI a.2.2)]) ?_
  intro ag hag a σ
  unfold f_X1_rests_b39
  refine g_iload dX1_rests_39 rfl ?_
  refine g_bipush 9 dX1_rests_41 (by decide) ?_
  refine g_icmp_gt 125 dX1_rests_43 (by decide) ?_ ?_
  · exact g_jmp (hk0 _ _) rfl
  · refine g_iconst 0 dX1_rests_46 (by decide) ?_
    refine g_istore dX1_rests_47 (lt_b rfl) ?_
    refine g_jmp (ok_X1_rests_b49 X v0 v1 v2 a.2.2 ?_ _ _ _) rfl
    · intro a8 σ
      refine g_iinc 1 dX1_rests_119 (by decide) rfl (lt_b rfl) ?_
      refine g_goto 39 dX1_rests_122 (by decide) ?_
      exact g_jmp (hag _ _) rfl
theorem mm_X1_rests (v0 : Option Nat) (v1 : Int32) (v2 : Int32) (σ : Hp) : MM yX1_rests mi_X1_rests rI [vA v0, vI v1, vI v2] σ (f_X1_rests v0 v1 v2 σ) := by
  refine mm_of (by decide +kernel) rfl rfl (Nat.le_of_ble_eq_true rfl) ?_
  intro X
  unfold f_X1_rests
  refine g_iload_n 1 dX1_rests_0 rfl rfl ?_
  refine g_i2l dX1_rests_1 ?_
  refine g_lconst 0 dX1_rests_2 (by decide) ?_
  refine g_ldc2_w dX1_rests_3 q614 ?_
  refine g_callS_I (mm_X1_in _ _ _ _) rfl q346 q347 q107 q348 dd_X1_in rfl (Nat.le_of_ble_eq_true rfl) (Nat.le_of_ble_eq_true rfl) (Nat.le_of_ble_eq_true rfl) dX1_rests_6 fun x1 σ => ?_
  refine g_if_eq 24 dX1_rests_9 (by decide) ?_ ?_
  · refine g_iconst (-1) dX1_rests_24 (by decide) ?_
    exact g_iret rfl dX1_rests_25
  · refine g_iload_n 2 dX1_rests_12 rfl rfl ?_
    refine g_i2l dX1_rests_13 ?_
    refine g_lconst 0 dX1_rests_14 (by decide) ?_
    refine g_ldc2_w dX1_rests_15 q614 ?_
    refine g_callS_I (mm_X1_in _ _ _ _) rfl q346 q347 q107 q348 dd_X1_in rfl (Nat.le_of_ble_eq_true rfl) (Nat.le_of_ble_eq_true rfl) (Nat.le_of_ble_eq_true rfl) dX1_rests_18 fun x2 σ => ?_
    refine g_if_ne 26 dX1_rests_21 (by decide) ?_ ?_
    · refine g_iconst 0 dX1_rests_26 (by decide) ?_
      refine g_istore_n 3 dX1_rests_27 rfl (lt_b rfl) ?_
      refine g_iconst 0 dX1_rests_28 (by decide) ?_
      refine g_istore dX1_rests_29 (lt_b rfl) ?_
      refine g_aload_n 0 dX1_rests_31 rfl rfl ?_
      refine g_iconst 0 dX1_rests_32 (by decide) ?_
      refine g_putI fo_0_52 (by decide) rfl q229 dX1_rests_33 fun σ => ?_
      refine g_iconst 0 dX1_rests_36 (by decide) ?_
      refine g_istore dX1_rests_37 (lt_b rfl) ?_
      refine g_jmp (ok_X1_rests_b39 X v0 v1 v2 ?_ _ _ _) rfl
      · intro a9 σ
        refine g_iload_n 3 dX1_rests_125 rfl rfl ?_
        refine g_jn (fun j11 => ∀ (a10 : Unit) (σ : Hp), GG X mi_X1_rests (QM X rI) 136 [(3, vI a9.1)] [] σ (j11 a10 σ)) ?_ ?_
        · intro a10 σ
          refine g_iload_n 3 dX1_rests_136 rfl rfl ?_
          exact g_iret rfl dX1_rests_137
        · intro j11 hj11
          refine g_if_le 136 dX1_rests_126 (by decide) ?_ ?_
          · exact g_jmp (hj11 _ _) rfl
          · refine g_aload_n 0 dX1_rests_129 rfl rfl ?_
            refine g_iload dX1_rests_130 rfl ?_
            refine g_i2l dX1_rests_132 ?_
            refine g_callV_V (mm_X1_tells _ _ _) rfl zc_0 q683 q685 qs21 q107 q686 dv_X1_tells rfl (Nat.le_of_ble_eq_true rfl) (Nat.le_of_ble_eq_true rfl) (Nat.le_of_ble_eq_true rfl) dX1_rests_133 fun _ σ => ?_
            exact g_jmp (hj11 _ _) rfl
    · refine g_iconst (-1) dX1_rests_24 (by decide) ?_
      exact g_iret rfl dX1_rests_25
theorem dd_X1_rests : yX1_rests.cls ≠ "java/lang/invoke/MethodHandle" ∧ yX1_rests.cls ≠ "java/lang/invoke/VarHandle" ∧ (parseMethodDescriptor yX1_rests.desc).map (fun d => d.parameters.length) = some 2 := by decide +kernel
theorem dv_X1_rests : yX1_rests.cls = RX1 ∧ yX1_rests.cls ≠ "java/lang/invoke/MethodHandle" ∧ yX1_rests.cls ≠ "java/lang/invoke/VarHandle" ∧ (parseMethodDescriptor yX1_rests.desc).map (fun d => d.parameters.length) = some 2 := ⟨rfl, dd_X1_rests⟩
/-! RockingHorse.hardOfRota()I -/
abbrev mi_X1_hardOfRota : Mi := (cX1_hardOfRota, 3, "RockingHorse", 102, some .int, "hardOfRota")
def f_X1_hardOfRota_b4 (v0 : Option Nat) (k0 : Int32 → Hp → Option (Int32 × Hp)) (ag : (Int32 × Int32) → Hp → Option (Int32 × Hp)) (a : Int32 × Int32) (σ : Hp) : Option (Int32 × Hp) :=
  gI 0 6 σ v0 fun x1 =>
  if x1 ≤ a.2 then
    k0 a.1 σ
  else
    gR 0 0 σ v0 fun y2 =>
    gR 1 0 σ y2 fun y3 =>
    lI 100 σ y3 a.2 fun x4 =>
    jn (fun (a5 : Int32) σ =>
        ag ((a.1 + a5), (a.2 + 1)) σ) fun j6 =>
    if 0 ≤ x4 then
      gR 0 0 σ v0 fun y7 =>
      gR 0 0 σ v0 fun y8 =>
      gR 1 0 σ y8 fun y9 =>
      lI 100 σ y9 a.2 fun x10 =>
      ob 0 σ v0 fun _ => bnd (f_X1_hardOf v0 y7 x10 a.2 σ) fun x11 σ =>
      j6 x11 σ
    else
      j6 0 σ
def f_X1_hardOfRota (v0 : Option Nat) (σ : Hp) : Option (Int32 × Hp) :=
  lp 2000 (f_X1_hardOfRota_b4 v0 (fun (a12 : Int32) σ =>
      some (a12, σ))) (0, 0) σ
theorem ok_X1_hardOfRota_b4 (X : Mx) (v0 : Option Nat) {k0 : Int32 → Hp → Option (Int32 × Hp)} (hk0 : ∀ (a : Int32) (σ : Hp), GG X mi_X1_hardOfRota (QM X rI) 55 [(1, vI a)] [] σ (k0 a σ)) : ∀ (m : Nat) (a : Int32 × Int32) (σ : Hp), GG X mi_X1_hardOfRota (QM X rI) 4 [(0, vA v0), (1, vI a.1), (2, vI a.2)] [] σ (lp m (f_X1_hardOfRota_b4 v0 k0) a σ) := by
  refine g_lp (fun (a : Int32 × Int32) => [(0, vA v0), (1, vI a.1), (2, vI a.2)]) ?_
  intro ag hag a σ
  unfold f_X1_hardOfRota_b4
  refine g_iload_n 2 dX1_hardOfRota_4 rfl rfl ?_
  refine g_aload_n 0 dX1_hardOfRota_5 rfl rfl ?_
  refine g_getI fo_0_6 (by decide) q180 dX1_hardOfRota_6 fun x1 => ?_
  refine g_icmp_ge 55 dX1_hardOfRota_9 (by decide) ?_ ?_
  · exact g_jmp (hk0 _ _) rfl
  · refine g_iload_n 1 dX1_hardOfRota_12 rfl rfl ?_
    refine g_aload_n 0 dX1_hardOfRota_13 rfl rfl ?_
    refine g_getR fo_0_0 q171 dX1_hardOfRota_14 fun y2 => ?_
    refine g_getRN fo_1_0 nf_142 dX1_hardOfRota_17 fun y3 => ?_
    refine g_iload_n 2 dX1_hardOfRota_20 rfl rfl ?_
    refine g_iaload dX1_hardOfRota_21 fun x4 => ?_
    refine g_jn (fun j6 => ∀ (a5 : Int32) (σ : Hp), GG X mi_X1_hardOfRota (QM X rI) 47 [(0, vA v0), (2, vI a.2)] [vI a5, vI a.1] σ (j6 a5 σ)) ?_ ?_
    · intro a5 σ
      refine g_iadd dX1_hardOfRota_47 ?_
      refine g_istore_n 1 dX1_hardOfRota_48 rfl (lt_b rfl) ?_
      refine g_iinc 1 dX1_hardOfRota_49 (by decide) rfl (lt_b rfl) ?_
      refine g_goto 4 dX1_hardOfRota_52 (by decide) ?_
      exact g_jmp (hag _ _) rfl
    · intro j6 hj6
      refine g_if_ge 29 dX1_hardOfRota_22 (by decide) ?_ ?_
      · refine g_aload_n 0 dX1_hardOfRota_29 rfl rfl ?_
        refine g_aload_n 0 dX1_hardOfRota_30 rfl rfl ?_
        refine g_getR fo_0_0 q171 dX1_hardOfRota_31 fun y7 => ?_
        refine g_aload_n 0 dX1_hardOfRota_34 rfl rfl ?_
        refine g_getR fo_0_0 q171 dX1_hardOfRota_35 fun y8 => ?_
        refine g_getRN fo_1_0 nf_142 dX1_hardOfRota_38 fun y9 => ?_
        refine g_iload_n 2 dX1_hardOfRota_41 rfl rfl ?_
        refine g_iaload dX1_hardOfRota_42 fun x10 => ?_
        refine g_iload_n 2 dX1_hardOfRota_43 rfl rfl ?_
        refine g_callV_I (mm_X1_hardOf _ _ _ _ _) rfl zc_0 q581 q583 qs13 q107 q584 dv_X1_hardOf rfl (Nat.le_of_ble_eq_true rfl) (Nat.le_of_ble_eq_true rfl) (Nat.le_of_ble_eq_true rfl) dX1_hardOfRota_44 fun x11 σ => ?_
        exact g_jmp (hj6 _ _) rfl
      · refine g_iconst 0 dX1_hardOfRota_25 (by decide) ?_
        refine g_goto 47 dX1_hardOfRota_26 (by decide) ?_
        exact g_jmp (hj6 _ _) rfl
theorem mm_X1_hardOfRota (v0 : Option Nat) (σ : Hp) : MM yX1_hardOfRota mi_X1_hardOfRota rI [vA v0] σ (f_X1_hardOfRota v0 σ) := by
  refine mm_of (by decide +kernel) rfl rfl (Nat.le_of_ble_eq_true rfl) ?_
  intro X
  unfold f_X1_hardOfRota
  refine g_iconst 0 dX1_hardOfRota_0 (by decide) ?_
  refine g_istore_n 1 dX1_hardOfRota_1 rfl (lt_b rfl) ?_
  refine g_iconst 0 dX1_hardOfRota_2 (by decide) ?_
  refine g_istore_n 2 dX1_hardOfRota_3 rfl (lt_b rfl) ?_
  refine g_jmp (ok_X1_hardOfRota_b4 X v0 ?_ _ _ _) rfl
  · intro a12 σ
    refine g_iload_n 1 dX1_hardOfRota_55 rfl rfl ?_
    exact g_iret rfl dX1_hardOfRota_56
theorem dd_X1_hardOfRota : yX1_hardOfRota.cls ≠ "java/lang/invoke/MethodHandle" ∧ yX1_hardOfRota.cls ≠ "java/lang/invoke/VarHandle" ∧ (parseMethodDescriptor yX1_hardOfRota.desc).map (fun d => d.parameters.length) = some 0 := by decide +kernel
theorem dv_X1_hardOfRota : yX1_hardOfRota.cls = RX1 ∧ yX1_hardOfRota.cls ≠ "java/lang/invoke/MethodHandle" ∧ yX1_hardOfRota.cls ≠ "java/lang/invoke/VarHandle" ∧ (parseMethodDescriptor yX1_hardOfRota.desc).map (fun d => d.parameters.length) = some 0 := ⟨rfl, dd_X1_hardOfRota⟩
/-! RockingHorse.keep(I)Z -/
abbrev mi_X1_keep : Mi := (cX1_keep, 2, "RockingHorse", 2, some .boolean, "keep")
def f_X1_keep (v0 : Option Nat) (v1 : Int32) (σ : Hp) : Option (Int32 × Hp) :=
  bnd (f_X1_in (Int32.toInt64 v1) 0 1 σ) fun x1 σ =>
  if x1 = 0 then
    rz1 0 σ
  else
    gR 0 49 σ v0 fun y2 =>
    lR σ y2 v1 fun y3 =>
    jn (fun (a4 : Unit) σ =>
        gR 0 49 σ v0 fun y6 =>
        lR σ y6 v1 fun y7 =>
        gR 0 0 σ v0 fun y8 =>
        ob 1 σ y7 fun _ => bnd (f_X2_becomes y7 y8 σ) fun _ σ =>
        gR 0 50 σ v0 fun y9 =>
        gI 0 8 σ v0 fun x10 =>
        sI σ y9 v1 x10 fun σ =>
        rz1 1 σ) fun j5 =>
    nul y3 (
      gR 0 49 σ v0 fun y11 =>
      nO 1 6 σ fun y12 σ =>
      nn y12 <| bnd (f_X2_init y12 σ) fun _ σ =>
      sR σ y11 v1 y12 fun σ =>
      j5 () σ) (
      j5 () σ)
theorem mm_X1_keep (v0 : Option Nat) (v1 : Int32) (σ : Hp) : MM yX1_keep mi_X1_keep rI [vA v0, vI v1] σ (f_X1_keep v0 v1 σ) := by
  refine mm_of (by decide +kernel) rfl rfl (Nat.le_of_ble_eq_true rfl) ?_
  intro X
  unfold f_X1_keep
  refine g_iload_n 1 dX1_keep_0 rfl rfl ?_
  refine g_i2l dX1_keep_1 ?_
  refine g_lconst 0 dX1_keep_2 (by decide) ?_
  refine g_lconst 1 dX1_keep_3 (by decide) ?_
  refine g_callS_I (mm_X1_in _ _ _ _) rfl q346 q347 q107 q348 dd_X1_in rfl (Nat.le_of_ble_eq_true rfl) (Nat.le_of_ble_eq_true rfl) (Nat.le_of_ble_eq_true rfl) dX1_keep_4 fun x1 σ => ?_
  refine g_if_ne 12 dX1_keep_7 (by decide) ?_ ?_
  · refine g_aload_n 0 dX1_keep_12 rfl rfl ?_
    refine g_getR fo_0_49 q226 dX1_keep_13 fun y2 => ?_
    refine g_iload_n 1 dX1_keep_16 rfl rfl ?_
    refine g_aaload dX1_keep_17 fun y3 => ?_
    refine g_jn (fun j5 => ∀ (a4 : Unit) (σ : Hp), GG X mi_X1_keep (QM X rI) 34 [(0, vA v0), (1, vI v1)] [] σ (j5 a4 σ)) ?_ ?_
    · intro a4 σ
      refine g_aload_n 0 dX1_keep_34 rfl rfl ?_
      refine g_getR fo_0_49 q226 dX1_keep_35 fun y6 => ?_
      refine g_iload_n 1 dX1_keep_38 rfl rfl ?_
      refine g_aaload dX1_keep_39 fun y7 => ?_
      refine g_aload_n 0 dX1_keep_40 rfl rfl ?_
      refine g_getR fo_0_0 q171 dX1_keep_41 fun y8 => ?_
      refine g_callV_V (mm_X2_becomes _ _ _) rfl zc_1 q628 q629 q630 q108 q631 dv_X2_becomes rfl (Nat.le_of_ble_eq_true rfl) (Nat.le_of_ble_eq_true rfl) (Nat.le_of_ble_eq_true rfl) dX1_keep_44 fun _ σ => ?_
      refine g_aload_n 0 dX1_keep_47 rfl rfl ?_
      refine g_getR fo_0_50 q227 dX1_keep_48 fun y9 => ?_
      refine g_iload_n 1 dX1_keep_51 rfl rfl ?_
      refine g_aload_n 0 dX1_keep_52 rfl rfl ?_
      refine g_getI fo_0_8 (by decide) q182 dX1_keep_53 fun x10 => ?_
      refine g_iastore dX1_keep_56 fun σ => ?_
      refine g_iconst 1 dX1_keep_57 (by decide) ?_
      exact g_zret rfl dX1_keep_58
    · intro j5 hj5
      refine g_ifnonnull 34 dX1_keep_18 (by decide) ?_ ?_
      · exact g_jmp (hj5 _ _) rfl
      · refine g_aload_n 0 dX1_keep_21 rfl rfl ?_
        refine g_getR fo_0_49 q226 dX1_keep_22 fun y11 => ?_
        refine g_iload_n 1 dX1_keep_25 rfl rfl ?_
        refine g_new zc_1 tcok_1 q135 q136 q108 dX1_keep_26 fun y12 σ => ?_
        refine g_dup dX1_keep_29 rfl ?_
        refine g_callIN_V (mm_X2_init _ _) rfl rfl nm_137 q138 q108 q139 rfl dd_X2_init rfl (Nat.le_of_ble_eq_true rfl) (Nat.le_of_ble_eq_true rfl) (Nat.le_of_ble_eq_true rfl) dX1_keep_30 fun _ σ => ?_
        refine g_aastore dX1_keep_33 fun σ => ?_
        exact g_jmp (hj5 _ _) rfl
  · refine g_iconst 0 dX1_keep_10 (by decide) ?_
    exact g_zret rfl dX1_keep_11
theorem dd_X1_keep : yX1_keep.cls ≠ "java/lang/invoke/MethodHandle" ∧ yX1_keep.cls ≠ "java/lang/invoke/VarHandle" ∧ (parseMethodDescriptor yX1_keep.desc).map (fun d => d.parameters.length) = some 1 := by decide +kernel
theorem dv_X1_keep : yX1_keep.cls = RX1 ∧ yX1_keep.cls ≠ "java/lang/invoke/MethodHandle" ∧ yX1_keep.cls ≠ "java/lang/invoke/VarHandle" ∧ (parseMethodDescriptor yX1_keep.desc).map (fun d => d.parameters.length) = some 1 := ⟨rfl, dd_X1_keep⟩
/-! RockingHorse.again(I)Z -/
abbrev mi_X1_again : Mi := (cX1_again, 2, "RockingHorse", 2, some .boolean, "again")
def f_X1_again (v0 : Option Nat) (v1 : Int32) (σ : Hp) : Option (Int32 × Hp) :=
  bnd (f_X1_in (Int32.toInt64 v1) 0 1 σ) fun x1 σ =>
  if x1 = 0 then
    rz1 0 σ
  else
    gR 0 49 σ v0 fun y2 =>
    lR σ y2 v1 fun y3 =>
    nul y3 (
      rz1 0 σ) (
      gR 0 50 σ v0 fun y4 =>
      lI 100 σ y4 v1 fun x5 =>
      gI 0 8 σ v0 fun x6 =>
      if x5 = x6 then
        gR 0 0 σ v0 fun y7 =>
        gR 0 49 σ v0 fun y8 =>
        lR σ y8 v1 fun y9 =>
        ob 1 σ y7 fun _ => bnd (f_X2_becomes y7 y9 σ) fun _ σ =>
        pI 0 0 25 σ v0 0 fun σ =>
        rz1 1 σ
      else
        rz1 0 σ)
theorem mm_X1_again (v0 : Option Nat) (v1 : Int32) (σ : Hp) : MM yX1_again mi_X1_again rI [vA v0, vI v1] σ (f_X1_again v0 v1 σ) := by
  refine mm_of (by decide +kernel) rfl rfl (Nat.le_of_ble_eq_true rfl) ?_
  intro X
  unfold f_X1_again
  refine g_iload_n 1 dX1_again_0 rfl rfl ?_
  refine g_i2l dX1_again_1 ?_
  refine g_lconst 0 dX1_again_2 (by decide) ?_
  refine g_lconst 1 dX1_again_3 (by decide) ?_
  refine g_callS_I (mm_X1_in _ _ _ _) rfl q346 q347 q107 q348 dd_X1_in rfl (Nat.le_of_ble_eq_true rfl) (Nat.le_of_ble_eq_true rfl) (Nat.le_of_ble_eq_true rfl) dX1_again_4 fun x1 σ => ?_
  refine g_if_eq 32 dX1_again_7 (by decide) ?_ ?_
  · refine g_iconst 0 dX1_again_32 (by decide) ?_
    exact g_zret rfl dX1_again_33
  · refine g_aload_n 0 dX1_again_10 rfl rfl ?_
    refine g_getR fo_0_49 q226 dX1_again_11 fun y2 => ?_
    refine g_iload_n 1 dX1_again_14 rfl rfl ?_
    refine g_aaload dX1_again_15 fun y3 => ?_
    refine g_ifnull 32 dX1_again_16 (by decide) ?_ ?_
    · refine g_iconst 0 dX1_again_32 (by decide) ?_
      exact g_zret rfl dX1_again_33
    · refine g_aload_n 0 dX1_again_19 rfl rfl ?_
      refine g_getR fo_0_50 q227 dX1_again_20 fun y4 => ?_
      refine g_iload_n 1 dX1_again_23 rfl rfl ?_
      refine g_iaload dX1_again_24 fun x5 => ?_
      refine g_aload_n 0 dX1_again_25 rfl rfl ?_
      refine g_getI fo_0_8 (by decide) q182 dX1_again_26 fun x6 => ?_
      refine g_icmp_eq 34 dX1_again_29 (by decide) ?_ ?_
      · refine g_aload_n 0 dX1_again_34 rfl rfl ?_
        refine g_getR fo_0_0 q171 dX1_again_35 fun y7 => ?_
        refine g_aload_n 0 dX1_again_38 rfl rfl ?_
        refine g_getR fo_0_49 q226 dX1_again_39 fun y8 => ?_
        refine g_iload_n 1 dX1_again_42 rfl rfl ?_
        refine g_aaload dX1_again_43 fun y9 => ?_
        refine g_callV_V (mm_X2_becomes _ _ _) rfl zc_1 q628 q629 q630 q108 q631 dv_X2_becomes rfl (Nat.le_of_ble_eq_true rfl) (Nat.le_of_ble_eq_true rfl) (Nat.le_of_ble_eq_true rfl) dX1_again_44 fun _ σ => ?_
        refine g_aload_n 0 dX1_again_47 rfl rfl ?_
        refine g_iconst 0 dX1_again_48 (by decide) ?_
        refine g_putI fo_0_25 (by decide) rfl q202 dX1_again_49 fun σ => ?_
        refine g_iconst 1 dX1_again_52 (by decide) ?_
        exact g_zret rfl dX1_again_53
      · refine g_iconst 0 dX1_again_32 (by decide) ?_
        exact g_zret rfl dX1_again_33
theorem dd_X1_again : yX1_again.cls ≠ "java/lang/invoke/MethodHandle" ∧ yX1_again.cls ≠ "java/lang/invoke/VarHandle" ∧ (parseMethodDescriptor yX1_again.desc).map (fun d => d.parameters.length) = some 1 := by decide +kernel
theorem dv_X1_again : yX1_again.cls = RX1 ∧ yX1_again.cls ≠ "java/lang/invoke/MethodHandle" ∧ yX1_again.cls ≠ "java/lang/invoke/VarHandle" ∧ (parseMethodDescriptor yX1_again.desc).map (fun d => d.parameters.length) = some 1 := ⟨rfl, dd_X1_again⟩
/-! RockingHorse.rider(II)I -/
abbrev mi_X1_rider : Mi := (cX1_rider, 3, "RockingHorse", 6, some .int, "rider")
def f_X1_rider (v0 : Option Nat) (v1 : Int32) (v2 : Int32) (σ : Hp) : Option (Option Int32 × Hp) :=
  ob 0 σ v0 fun _ => bnd (f_X1_isRider v0 v1 σ) fun x1 σ =>
  if x1 = 0 then
    some (none, nw σ 7 6)
  else
    if v2 = 0 then
      gR 0 2 σ v0 fun y14 =>
      lI 100 σ y14 v1 fun x15 =>
      some (some x15, σ)
    else
    if v2 = 1 then
      gR 0 3 σ v0 fun y12 =>
      lI 100 σ y12 v1 fun x13 =>
      some (some x13, σ)
    else
    if v2 = 2 then
      gR 0 4 σ v0 fun y10 =>
      lI 100 σ y10 v1 fun x11 =>
      some (some x11, σ)
    else
    if v2 = 3 then
      gR 0 0 σ v0 fun y7 =>
      gR 1 1 σ y7 fun y8 =>
      lI 100 σ y8 v1 fun x9 =>
      some (some x9, σ)
    else
    if v2 = 4 then
      gR 0 0 σ v0 fun y4 =>
      gI 1 2 σ y4 fun x5 =>
      bnd (f_X1_has x5 v1 σ) fun x6 σ =>
      if x6 = 0 then
        some (some 0, σ)
      else
        some (some 1, σ)
    else
    if v2 = 5 then
      gR 0 0 σ v0 fun y2 =>
      ob 1 σ y2 fun _ => bnd (f_X2_hoursOf y2 v1 σ) fun x3 σ =>
      some (some x3, σ)
    else
    some (none, nw σ 7 6)
theorem mm_X1_rider (v0 : Option Nat) (v1 : Int32) (v2 : Int32) (σ : Hp) : MMX yX1_rider mi_X1_rider rI [vA v0, vI v1, vI v2] σ (f_X1_rider v0 v1 v2 σ) := by
  refine mmx_of (by decide +kernel) rfl rfl (Nat.le_of_ble_eq_true rfl) ?_
  intro X hem
  unfold f_X1_rider
  refine g_aload_n 0 dX1_rider_0 rfl rfl ?_
  refine g_iload_n 1 dX1_rider_1 rfl rfl ?_
  refine g_callV_I (mm_X1_isRider _ _ _) rfl zc_0 q576 q578 qs12 q107 q579 dv_X1_isRider rfl (Nat.le_of_ble_eq_true rfl) (Nat.le_of_ble_eq_true rfl) (Nat.le_of_ble_eq_true rfl) dX1_rider_2 fun x1 σ => ?_
  refine g_if_ne 16 dX1_rider_5 (by decide) ?_ ?_
  · refine g_iload_n 2 dX1_rider_16 rfl rfl ?_
    refine g_case (fun h1 => ?_) (fun h1 => ?_)
    · refine g_tableIn (off := 39) 56 dX1_rider_17 (by rw [h1]; decide) (by rw [h1]; decide) (by rw [h1]; try rfl) (by decide) ?_
      refine g_aload_n 0 dX1_rider_56 rfl rfl ?_
      refine g_getR fo_0_2 q173 dX1_rider_57 fun y14 => ?_
      refine g_iload_n 1 dX1_rider_60 rfl rfl ?_
      refine g_iaload dX1_rider_61 fun x15 => ?_
      exact g_iretX rfl dX1_rider_62
    · refine g_case (fun h2 => ?_) (fun h2 => ?_)
      · refine g_tableIn (off := 46) 63 dX1_rider_17 (by rw [h2]; decide) (by rw [h2]; decide) (by rw [h2]; try rfl) (by decide) ?_
        refine g_aload_n 0 dX1_rider_63 rfl rfl ?_
        refine g_getR fo_0_3 q175 dX1_rider_64 fun y12 => ?_
        refine g_iload_n 1 dX1_rider_67 rfl rfl ?_
        refine g_iaload dX1_rider_68 fun x13 => ?_
        exact g_iretX rfl dX1_rider_69
      · refine g_case (fun h3 => ?_) (fun h3 => ?_)
        · refine g_tableIn (off := 53) 70 dX1_rider_17 (by rw [h3]; decide) (by rw [h3]; decide) (by rw [h3]; try rfl) (by decide) ?_
          refine g_aload_n 0 dX1_rider_70 rfl rfl ?_
          refine g_getR fo_0_4 q177 dX1_rider_71 fun y10 => ?_
          refine g_iload_n 1 dX1_rider_74 rfl rfl ?_
          refine g_iaload dX1_rider_75 fun x11 => ?_
          exact g_iretX rfl dX1_rider_76
        · refine g_case (fun h4 => ?_) (fun h4 => ?_)
          · refine g_tableIn (off := 60) 77 dX1_rider_17 (by rw [h4]; decide) (by rw [h4]; decide) (by rw [h4]; try rfl) (by decide) ?_
            refine g_aload_n 0 dX1_rider_77 rfl rfl ?_
            refine g_getR fo_0_0 q171 dX1_rider_78 fun y7 => ?_
            refine g_getRN fo_1_1 nf_145 dX1_rider_81 fun y8 => ?_
            refine g_iload_n 1 dX1_rider_84 rfl rfl ?_
            refine g_iaload dX1_rider_85 fun x9 => ?_
            exact g_iretX rfl dX1_rider_86
          · refine g_case (fun h5 => ?_) (fun h5 => ?_)
            · refine g_tableIn (off := 70) 87 dX1_rider_17 (by rw [h5]; decide) (by rw [h5]; decide) (by rw [h5]; try rfl) (by decide) ?_
              refine g_aload_n 0 dX1_rider_87 rfl rfl ?_
              refine g_getR fo_0_0 q171 dX1_rider_88 fun y4 => ?_
              refine g_getIN fo_1_2 (by decide) nf_147 dX1_rider_91 fun x5 => ?_
              refine g_iload_n 1 dX1_rider_94 rfl rfl ?_
              refine g_callS_I (mm_X1_has _ _ _) rfl q677 q678 q107 q679 dd_X1_has rfl (Nat.le_of_ble_eq_true rfl) (Nat.le_of_ble_eq_true rfl) (Nat.le_of_ble_eq_true rfl) dX1_rider_95 fun x6 σ => ?_
              refine g_if_eq 105 dX1_rider_98 (by decide) ?_ ?_
              · refine g_iconst 0 dX1_rider_105 (by decide) ?_
                exact g_iretX rfl dX1_rider_106
              · refine g_iconst 1 dX1_rider_101 (by decide) ?_
                refine g_goto 106 dX1_rider_102 (by decide) ?_
                exact g_iretX rfl dX1_rider_106
            · refine g_case (fun h6 => ?_) (fun h6 => ?_)
              · refine g_tableIn (off := 90) 107 dX1_rider_17 (by rw [h6]; decide) (by rw [h6]; decide) (by rw [h6]; try rfl) (by decide) ?_
                refine g_aload_n 0 dX1_rider_107 rfl rfl ?_
                refine g_getR fo_0_0 q171 dX1_rider_108 fun y2 => ?_
                refine g_iload_n 1 dX1_rider_111 rfl rfl ?_
                refine g_callV_I (mm_X2_hoursOf _ _ _) rfl zc_1 q1038 q1039 q1040 q108 q1041 dv_X2_hoursOf rfl (Nat.le_of_ble_eq_true rfl) (Nat.le_of_ble_eq_true rfl) (Nat.le_of_ble_eq_true rfl) dX1_rider_112 fun x3 σ => ?_
                exact g_iretX rfl dX1_rider_115
              · refine g_tableOut 116 dX1_rider_17 (by have := lv_neT h1 (a := 0) (by decide); have := lv_neT h2 (a := 1) (by decide); have := lv_neT h3 (a := 2) (by decide); have := lv_neT h4 (a := 3) (by decide); have := lv_neT h5 (a := 4) (by decide); have := lv_neT h6 (a := 5) (by decide); omega) (by decide) ?_
                exact g_throwX rfl (by decide) hem dX1_rider_116 dX1_rider_119 dX1_rider_120 dX1_rider_123
  · exact g_throwX rfl (by decide) hem dX1_rider_8 dX1_rider_11 dX1_rider_12 dX1_rider_15
theorem dd_X1_rider : yX1_rider.cls ≠ "java/lang/invoke/MethodHandle" ∧ yX1_rider.cls ≠ "java/lang/invoke/VarHandle" ∧ (parseMethodDescriptor yX1_rider.desc).map (fun d => d.parameters.length) = some 2 := by decide +kernel
theorem dv_X1_rider : yX1_rider.cls = RX1 ∧ yX1_rider.cls ≠ "java/lang/invoke/MethodHandle" ∧ yX1_rider.cls ≠ "java/lang/invoke/VarHandle" ∧ (parseMethodDescriptor yX1_rider.desc).map (fun d => d.parameters.length) = some 2 := ⟨rfl, dd_X1_rider⟩
/-! RockingHorseModel.end(I)Z -/
abbrev mi_X3_end : Mi := (cX3_end, 2, "RockingHorseModel", 1, some .boolean, "end")
def f_X3_end (v0 : Option Nat) (v1 : Int32) (σ : Hp) : Option (Int32 × Hp) :=
  pI 0 2 11 σ v0 0 fun σ =>
  gI 2 8 σ v0 fun x1 =>
  bnd (f_X3_in v1 0 x1 σ) fun x2 σ =>
  if x2 = 0 then
    rz1 0 σ
  else
    pI 0 2 8 σ v0 v1 fun σ =>
    rz1 1 σ
theorem mm_X3_end (v0 : Option Nat) (v1 : Int32) (σ : Hp) : MM yX3_end mi_X3_end rI [vA v0, vI v1] σ (f_X3_end v0 v1 σ) := by
  refine mm_of (by decide +kernel) rfl rfl (Nat.le_of_ble_eq_true rfl) ?_
  intro X
  unfold f_X3_end
  refine g_aload_n 0 dX3_end_0 rfl rfl ?_
  refine g_iconst 0 dX3_end_1 (by decide) ?_
  refine g_putI fo_2_11 (by decide) rfl q1067 dX3_end_2 fun σ => ?_
  refine g_iload_n 1 dX3_end_5 rfl rfl ?_
  refine g_iconst 0 dX3_end_6 (by decide) ?_
  refine g_aload_n 0 dX3_end_7 rfl rfl ?_
  refine g_getI fo_2_8 (by decide) q1064 dX3_end_8 fun x1 => ?_
  refine g_callS_I (mm_X3_in _ _ _ _) rfl q1223 q1224 q109 q1225 dd_X3_in rfl (Nat.le_of_ble_eq_true rfl) (Nat.le_of_ble_eq_true rfl) (Nat.le_of_ble_eq_true rfl) dX3_end_11 fun x2 σ => ?_
  refine g_if_ne 19 dX3_end_14 (by decide) ?_ ?_
  · refine g_aload_n 0 dX3_end_19 rfl rfl ?_
    refine g_iload_n 1 dX3_end_20 rfl rfl ?_
    refine g_putI fo_2_8 (by decide) rfl q1064 dX3_end_21 fun σ => ?_
    refine g_iconst 1 dX3_end_24 (by decide) ?_
    exact g_zret rfl dX3_end_25
  · refine g_iconst 0 dX3_end_17 (by decide) ?_
    exact g_zret rfl dX3_end_18
theorem dd_X3_end : yX3_end.cls ≠ "java/lang/invoke/MethodHandle" ∧ yX3_end.cls ≠ "java/lang/invoke/VarHandle" ∧ (parseMethodDescriptor yX3_end.desc).map (fun d => d.parameters.length) = some 1 := by decide +kernel
theorem dv_X3_end : yX3_end.cls = RX3 ∧ yX3_end.cls ≠ "java/lang/invoke/MethodHandle" ∧ yX3_end.cls ≠ "java/lang/invoke/VarHandle" ∧ (parseMethodDescriptor yX3_end.desc).map (fun d => d.parameters.length) = some 1 := ⟨rfl, dd_X3_end⟩
/-! RockingHorseModel.beginText(I)V -/
abbrev mi_X3_beginText : Mi := (cX3_beginText, 2, "RockingHorseModel", 1, none, "beginText")
def f_X3_beginText (v0 : Option Nat) (v1 : Int32) (σ : Hp) : Option (Unit × Hp) :=
  gR 2 7 σ v0 fun y1 =>
  gI 2 8 σ v0 fun x2 =>
  ob 2 σ v0 fun _ => bnd (f_X3_begin v0 y1 x2 v1 σ) fun _ σ =>
  pI 0 2 8 σ v0 0 fun σ =>
  some ((), σ)
theorem mm_X3_beginText (v0 : Option Nat) (v1 : Int32) (σ : Hp) : MM yX3_beginText mi_X3_beginText rV [vA v0, vI v1] σ (f_X3_beginText v0 v1 σ) := by
  refine mm_of (by decide +kernel) rfl rfl (Nat.le_of_ble_eq_true rfl) ?_
  intro X
  unfold f_X3_beginText
  refine g_aload_n 0 dX3_beginText_0 rfl rfl ?_
  refine g_aload_n 0 dX3_beginText_1 rfl rfl ?_
  refine g_getR fo_2_7 q1063 dX3_beginText_2 fun y1 => ?_
  refine g_aload_n 0 dX3_beginText_5 rfl rfl ?_
  refine g_getI fo_2_8 (by decide) q1064 dX3_beginText_6 fun x2 => ?_
  refine g_iload_n 1 dX3_beginText_9 rfl rfl ?_
  refine g_callV_V (mm_X3_begin _ _ _ _ _) rfl zc_2 q1234 q1236 qs51 q109 q1237 dv_X3_begin rfl (Nat.le_of_ble_eq_true rfl) (Nat.le_of_ble_eq_true rfl) (Nat.le_of_ble_eq_true rfl) dX3_beginText_10 fun _ σ => ?_
  refine g_aload_n 0 dX3_beginText_13 rfl rfl ?_
  refine g_iconst 0 dX3_beginText_14 (by decide) ?_
  refine g_putI fo_2_8 (by decide) rfl q1064 dX3_beginText_15 fun σ => ?_
  exact g_vret rfl dX3_beginText_18
theorem dd_X3_beginText : yX3_beginText.cls ≠ "java/lang/invoke/MethodHandle" ∧ yX3_beginText.cls ≠ "java/lang/invoke/VarHandle" ∧ (parseMethodDescriptor yX3_beginText.desc).map (fun d => d.parameters.length) = some 1 := by decide +kernel
theorem dv_X3_beginText : yX3_beginText.cls = RX3 ∧ yX3_beginText.cls ≠ "java/lang/invoke/MethodHandle" ∧ yX3_beginText.cls ≠ "java/lang/invoke/VarHandle" ∧ (parseMethodDescriptor yX3_beginText.desc).map (fun d => d.parameters.length) = some 1 := ⟨rfl, dd_X3_beginText⟩
/-! RockingHorseModel.oneOf(CI)I -/
abbrev mi_X3_oneOf : Mi := (cX3_oneOf, 3, "RockingHorseModel", 2, some .int, "oneOf")
def f_X3_oneOf (v0 : Option Nat) (v1 : Int32) (v2 : Int32) (σ : Hp) : Option (Int32 × Hp) :=
  ob 2 σ v0 fun _ => bnd (f_X3_fine v0 σ) fun x1 σ =>
  if x1 = 0 then
    some (0, σ)
  else
    ob 2 σ v0 fun _ => bnd (f_X3_here v0 σ) fun x2 σ =>
    bnd (f_X3_in x2 v1 ((v1 + v2) - 1) σ) fun x3 σ =>
    if x3 = 0 then
      gI 2 15 σ v0 fun x8 =>
      ob 2 σ v0 fun _ => bnd (f_X3_fault v0 x8 σ) fun _ σ =>
      some (0, σ)
    else
      gI 2 15 σ v0 fun x4 =>
      pI 0 2 15 σ v0 (x4 + 1) fun σ =>
      gR 2 12 σ v0 fun y5 =>
      gI 2 15 σ v0 fun x6 =>
      lI 101 σ y5 (x6 - 1) fun x7 =>
      some ((x7 - v1), σ)
theorem mm_X3_oneOf (v0 : Option Nat) (v1 : Int32) (v2 : Int32) (σ : Hp) : MM yX3_oneOf mi_X3_oneOf rI [vA v0, vI v1, vI v2] σ (f_X3_oneOf v0 v1 v2 σ) := by
  refine mm_of (by decide +kernel) rfl rfl (Nat.le_of_ble_eq_true rfl) ?_
  intro X
  unfold f_X3_oneOf
  refine g_aload_n 0 dX3_oneOf_0 rfl rfl ?_
  refine g_callV_I (mm_X3_fine _ _) rfl zc_2 q1238 q1240 qs52 q109 q1241 dv_X3_fine rfl (Nat.le_of_ble_eq_true rfl) (Nat.le_of_ble_eq_true rfl) (Nat.le_of_ble_eq_true rfl) dX3_oneOf_1 fun x1 σ => ?_
  refine g_if_ne 9 dX3_oneOf_4 (by decide) ?_ ?_
  · refine g_aload_n 0 dX3_oneOf_9 rfl rfl ?_
    refine g_callV_I (mm_X3_here _ _) rfl zc_2 q1254 q1256 qs56 q109 q1257 dv_X3_here rfl (Nat.le_of_ble_eq_true rfl) (Nat.le_of_ble_eq_true rfl) (Nat.le_of_ble_eq_true rfl) dX3_oneOf_10 fun x2 σ => ?_
    refine g_iload_n 1 dX3_oneOf_13 rfl rfl ?_
    refine g_iload_n 1 dX3_oneOf_14 rfl rfl ?_
    refine g_iload_n 2 dX3_oneOf_15 rfl rfl ?_
    refine g_iadd dX3_oneOf_16 ?_
    refine g_iconst 1 dX3_oneOf_17 (by decide) ?_
    refine g_isub dX3_oneOf_18 ?_
    refine g_callS_I (mm_X3_in _ _ _ _) rfl q1223 q1224 q109 q1225 dd_X3_in rfl (Nat.le_of_ble_eq_true rfl) (Nat.le_of_ble_eq_true rfl) (Nat.le_of_ble_eq_true rfl) dX3_oneOf_19 fun x3 σ => ?_
    refine g_if_ne 35 dX3_oneOf_22 (by decide) ?_ ?_
    · refine g_aload_n 0 dX3_oneOf_35 rfl rfl ?_
      refine g_dup dX3_oneOf_36 rfl ?_
      refine g_getI fo_2_15 (by decide) q1071 dX3_oneOf_37 fun x4 => ?_
      refine g_iconst 1 dX3_oneOf_40 (by decide) ?_
      refine g_iadd dX3_oneOf_41 ?_
      refine g_putI fo_2_15 (by decide) rfl q1071 dX3_oneOf_42 fun σ => ?_
      refine g_aload_n 0 dX3_oneOf_45 rfl rfl ?_
      refine g_getR fo_2_12 q1068 dX3_oneOf_46 fun y5 => ?_
      refine g_aload_n 0 dX3_oneOf_49 rfl rfl ?_
      refine g_getI fo_2_15 (by decide) q1071 dX3_oneOf_50 fun x6 => ?_
      refine g_iconst 1 dX3_oneOf_53 (by decide) ?_
      refine g_isub dX3_oneOf_54 ?_
      refine g_baload dX3_oneOf_55 fun x7 => ?_
      refine g_iload_n 1 dX3_oneOf_56 rfl rfl ?_
      refine g_isub dX3_oneOf_57 ?_
      exact g_iret rfl dX3_oneOf_58
    · refine g_aload_n 0 dX3_oneOf_25 rfl rfl ?_
      refine g_aload_n 0 dX3_oneOf_26 rfl rfl ?_
      refine g_getI fo_2_15 (by decide) q1071 dX3_oneOf_27 fun x8 => ?_
      refine g_callV_V (mm_X3_fault _ _ _) rfl zc_2 q1242 q1244 qs53 q109 q1245 dv_X3_fault rfl (Nat.le_of_ble_eq_true rfl) (Nat.le_of_ble_eq_true rfl) (Nat.le_of_ble_eq_true rfl) dX3_oneOf_30 fun _ σ => ?_
      refine g_iconst 0 dX3_oneOf_33 (by decide) ?_
      exact g_iret rfl dX3_oneOf_34
  · refine g_iconst 0 dX3_oneOf_7 (by decide) ?_
    exact g_iret rfl dX3_oneOf_8
theorem dd_X3_oneOf : yX3_oneOf.cls ≠ "java/lang/invoke/MethodHandle" ∧ yX3_oneOf.cls ≠ "java/lang/invoke/VarHandle" ∧ (parseMethodDescriptor yX3_oneOf.desc).map (fun d => d.parameters.length) = some 2 := by decide +kernel
theorem dv_X3_oneOf : yX3_oneOf.cls = RX3 ∧ yX3_oneOf.cls ≠ "java/lang/invoke/MethodHandle" ∧ yX3_oneOf.cls ≠ "java/lang/invoke/VarHandle" ∧ (parseMethodDescriptor yX3_oneOf.desc).map (fun d => d.parameters.length) = some 2 := ⟨rfl, dd_X3_oneOf⟩
/-! RockingHorseModel.number(I)I -/
abbrev mi_X3_number : Mi := (cX3_number, 4, "RockingHorseModel", 3, some .int, "number")
def f_X3_number_b11 (v0 : Option Nat) (v1 : Int32) (k0 : Int32 → Hp → Option (Int32 × Hp)) (ag : (Int32 × Int32) → Hp → Option (Int32 × Hp)) (a : Int32 × Int32) (σ : Hp) : Option (Int32 × Hp) :=
  if v1 ≤ a.2 then
    k0 a.1 σ
  else
    ob 2 σ v0 fun _ => bnd (f_X3_fine v0 σ) fun x2 σ =>
    if x2 = 0 then
      k0 a.1 σ
    else
      ob 2 σ v0 fun _ => bnd (f_X3_here v0 σ) fun x3 σ =>
      bnd (f_X3_in x3 48 57 σ) fun x4 σ =>
      if x4 = 0 then
        k0 a.1 σ
      else
        ob 2 σ v0 fun _ => bnd (f_X3_oneOf v0 48 10 σ) fun x5 σ =>
        ag (((10 * a.1) + x5), (a.2 + 1)) σ
def f_X3_number (v0 : Option Nat) (v1 : Int32) (σ : Hp) : Option (Int32 × Hp) :=
  ob 2 σ v0 fun _ => bnd (f_X3_oneOf v0 48 10 σ) fun x1 σ =>
  lp 2000 (f_X3_number_b11 v0 v1 (fun (a6 : Int32) σ =>
      some (a6, σ))) (x1, 1) σ
theorem ok_X3_number_b11 (X : Mx) (v0 : Option Nat) (v1 : Int32) {k0 : Int32 → Hp → Option (Int32 × Hp)} (hk0 : ∀ (a : Int32) (σ : Hp), GG X mi_X3_number (QM X rI) 57 [(2, vI a)] [] σ (k0 a σ)) : ∀ (m : Nat) (a : Int32 × Int32) (σ : Hp), GG X mi_X3_number (QM X rI) 11 [(0, vA v0), (1, vI v1), (2, vI a.1), (3, vI a.2)] [] σ (lp m (f_X3_number_b11 v0 v1 k0) a σ) := by
  refine g_lp (fun (a : Int32 × Int32) => [(0, vA v0), (1, vI v1), (2, vI a.1), (3, vI a.2)]) ?_
  intro ag hag a σ
  unfold f_X3_number_b11
  refine g_iload_n 3 dX3_number_11 rfl rfl ?_
  refine g_iload_n 1 dX3_number_12 rfl rfl ?_
  refine g_icmp_ge 57 dX3_number_13 (by decide) ?_ ?_
  · exact g_jmp (hk0 _ _) rfl
  · refine g_aload_n 0 dX3_number_16 rfl rfl ?_
    refine g_callV_I (mm_X3_fine _ _) rfl zc_2 q1238 q1240 qs52 q109 q1241 dv_X3_fine rfl (Nat.le_of_ble_eq_true rfl) (Nat.le_of_ble_eq_true rfl) (Nat.le_of_ble_eq_true rfl) dX3_number_17 fun x2 σ => ?_
    refine g_if_eq 57 dX3_number_20 (by decide) ?_ ?_
    · exact g_jmp (hk0 _ _) rfl
    · refine g_aload_n 0 dX3_number_23 rfl rfl ?_
      refine g_callV_I (mm_X3_here _ _) rfl zc_2 q1254 q1256 qs56 q109 q1257 dv_X3_here rfl (Nat.le_of_ble_eq_true rfl) (Nat.le_of_ble_eq_true rfl) (Nat.le_of_ble_eq_true rfl) dX3_number_24 fun x3 σ => ?_
      refine g_bipush 48 dX3_number_27 (by decide) ?_
      refine g_bipush 57 dX3_number_29 (by decide) ?_
      refine g_callS_I (mm_X3_in _ _ _ _) rfl q1223 q1224 q109 q1225 dd_X3_in rfl (Nat.le_of_ble_eq_true rfl) (Nat.le_of_ble_eq_true rfl) (Nat.le_of_ble_eq_true rfl) dX3_number_31 fun x4 σ => ?_
      refine g_if_eq 57 dX3_number_34 (by decide) ?_ ?_
      · exact g_jmp (hk0 _ _) rfl
      · refine g_bipush 10 dX3_number_37 (by decide) ?_
        refine g_iload_n 2 dX3_number_39 rfl rfl ?_
        refine g_imul dX3_number_40 ?_
        refine g_aload_n 0 dX3_number_41 rfl rfl ?_
        refine g_bipush 48 dX3_number_42 (by decide) ?_
        refine g_bipush 10 dX3_number_44 (by decide) ?_
        refine g_callV_I (mm_X3_oneOf _ _ _ _) rfl zc_2 q1250 q1252 qs55 q109 q1253 dv_X3_oneOf rfl (Nat.le_of_ble_eq_true rfl) (Nat.le_of_ble_eq_true rfl) (Nat.le_of_ble_eq_true rfl) dX3_number_46 fun x5 σ => ?_
        refine g_iadd dX3_number_49 ?_
        refine g_istore_n 2 dX3_number_50 rfl (lt_b rfl) ?_
        refine g_iinc 1 dX3_number_51 (by decide) rfl (lt_b rfl) ?_
        refine g_goto 11 dX3_number_54 (by decide) ?_
        exact g_jmp (hag _ _) rfl
theorem mm_X3_number (v0 : Option Nat) (v1 : Int32) (σ : Hp) : MM yX3_number mi_X3_number rI [vA v0, vI v1] σ (f_X3_number v0 v1 σ) := by
  refine mm_of (by decide +kernel) rfl rfl (Nat.le_of_ble_eq_true rfl) ?_
  intro X
  unfold f_X3_number
  refine g_aload_n 0 dX3_number_0 rfl rfl ?_
  refine g_bipush 48 dX3_number_1 (by decide) ?_
  refine g_bipush 10 dX3_number_3 (by decide) ?_
  refine g_callV_I (mm_X3_oneOf _ _ _ _) rfl zc_2 q1250 q1252 qs55 q109 q1253 dv_X3_oneOf rfl (Nat.le_of_ble_eq_true rfl) (Nat.le_of_ble_eq_true rfl) (Nat.le_of_ble_eq_true rfl) dX3_number_5 fun x1 σ => ?_
  refine g_istore_n 2 dX3_number_8 rfl (lt_b rfl) ?_
  refine g_iconst 1 dX3_number_9 (by decide) ?_
  refine g_istore_n 3 dX3_number_10 rfl (lt_b rfl) ?_
  refine g_jmp (ok_X3_number_b11 X v0 v1 ?_ _ _ _) rfl
  · intro a6 σ
    refine g_iload_n 2 dX3_number_57 rfl rfl ?_
    exact g_iret rfl dX3_number_58
theorem dd_X3_number : yX3_number.cls ≠ "java/lang/invoke/MethodHandle" ∧ yX3_number.cls ≠ "java/lang/invoke/VarHandle" ∧ (parseMethodDescriptor yX3_number.desc).map (fun d => d.parameters.length) = some 1 := by decide +kernel
theorem dv_X3_number : yX3_number.cls = RX3 ∧ yX3_number.cls ≠ "java/lang/invoke/MethodHandle" ∧ yX3_number.cls ≠ "java/lang/invoke/VarHandle" ∧ (parseMethodDescriptor yX3_number.desc).map (fun d => d.parameters.length) = some 1 := ⟨rfl, dd_X3_number⟩
/-! RockingHorseModel.rider(II)I -/
abbrev mi_X3_rider : Mi := (cX3_rider, 3, "RockingHorseModel", 2, some .int, "rider")
def f_X3_rider (v0 : Option Nat) (v1 : Int32) (v2 : Int32) (σ : Hp) : Option (Int32 × Hp) :=
  pI 0 2 11 σ v0 0 fun σ =>
  ob 2 σ v0 fun _ => bnd (f_X3_isMan v0 v1 σ) fun x1 σ =>
  jn (fun (a2 : Unit) σ =>
      ob 2 σ v0 fun _ => bnd (f_X3_lost v0 σ) fun x4 σ =>
      some (x4, σ)) fun j3 =>
  if x1 = 0 then
    j3 () σ
  else
    bnd (f_X3_in v2 0 5 σ) fun x5 σ =>
    if x5 = 0 then
      j3 () σ
    else
      if v2 = 0 then
        gR 2 4 σ v0 fun y16 =>
        lI 100 σ y16 v1 fun x17 =>
        some (x17, σ)
      else
      if v2 = 1 then
        gR 2 5 σ v0 fun y14 =>
        lI 100 σ y14 v1 fun x15 =>
        some (x15, σ)
      else
      if v2 = 2 then
        gR 2 6 σ v0 fun y12 =>
        lI 100 σ y12 v1 fun x13 =>
        some (x13, σ)
      else
      if v2 = 3 then
        gR 2 0 σ v0 fun y10 =>
        lI 100 σ y10 (8 + v1) fun x11 =>
        some (x11, σ)
      else
      if v2 = 4 then
        gR 2 0 σ v0 fun y8 =>
        lI 100 σ y8 (16 + v1) fun x9 =>
        some (x9, σ)
      else
      gR 2 0 σ v0 fun y6 =>
      ob 2 σ v0 fun _ => bnd (f_X3_hoursOf v0 y6 v1 σ) fun x7 σ =>
      some (x7, σ)
theorem mm_X3_rider (v0 : Option Nat) (v1 : Int32) (v2 : Int32) (σ : Hp) : MM yX3_rider mi_X3_rider rI [vA v0, vI v1, vI v2] σ (f_X3_rider v0 v1 v2 σ) := by
  refine mm_of (by decide +kernel) rfl rfl (Nat.le_of_ble_eq_true rfl) ?_
  intro X
  unfold f_X3_rider
  refine g_aload_n 0 dX3_rider_0 rfl rfl ?_
  refine g_iconst 0 dX3_rider_1 (by decide) ?_
  refine g_putI fo_2_11 (by decide) rfl q1067 dX3_rider_2 fun σ => ?_
  refine g_aload_n 0 dX3_rider_5 rfl rfl ?_
  refine g_iload_n 1 dX3_rider_6 rfl rfl ?_
  refine g_callV_I (mm_X3_isMan _ _ _) rfl zc_2 q1305 q1307 qs66 q109 q1308 dv_X3_isMan rfl (Nat.le_of_ble_eq_true rfl) (Nat.le_of_ble_eq_true rfl) (Nat.le_of_ble_eq_true rfl) dX3_rider_7 fun x1 σ => ?_
  refine g_jn (fun j3 => ∀ (a2 : Unit) (σ : Hp), GG X mi_X3_rider (QM X rI) 22 [(0, vA v0)] [] σ (j3 a2 σ)) ?_ ?_
  · intro a2 σ
    refine g_aload_n 0 dX3_rider_22 rfl rfl ?_
    refine g_callV_I (mm_X3_lost _ _) rfl zc_2 q1309 q1311 qs67 q109 q1312 dv_X3_lost rfl (Nat.le_of_ble_eq_true rfl) (Nat.le_of_ble_eq_true rfl) (Nat.le_of_ble_eq_true rfl) dX3_rider_23 fun x4 σ => ?_
    exact g_iret rfl dX3_rider_26
  · intro j3 hj3
    refine g_if_eq 22 dX3_rider_10 (by decide) ?_ ?_
    · exact g_jmp (hj3 _ _) rfl
    · refine g_iload_n 2 dX3_rider_13 rfl rfl ?_
      refine g_iconst 0 dX3_rider_14 (by decide) ?_
      refine g_iconst 5 dX3_rider_15 (by decide) ?_
      refine g_callS_I (mm_X3_in _ _ _ _) rfl q1223 q1224 q109 q1225 dd_X3_in rfl (Nat.le_of_ble_eq_true rfl) (Nat.le_of_ble_eq_true rfl) (Nat.le_of_ble_eq_true rfl) dX3_rider_16 fun x5 σ => ?_
      refine g_if_ne 27 dX3_rider_19 (by decide) ?_ ?_
      · refine g_iload_n 2 dX3_rider_27 rfl rfl ?_
        refine g_case (fun h1 => ?_) (fun h1 => ?_)
        · refine g_tableIn (off := 36) 64 dX3_rider_28 (by rw [h1]; decide) (by rw [h1]; decide) (by rw [h1]; try rfl) (by decide) ?_
          refine g_aload_n 0 dX3_rider_64 rfl rfl ?_
          refine g_getR fo_2_4 q1060 dX3_rider_65 fun y16 => ?_
          refine g_iload_n 1 dX3_rider_68 rfl rfl ?_
          refine g_iaload dX3_rider_69 fun x17 => ?_
          exact g_iret rfl dX3_rider_70
        · refine g_case (fun h2 => ?_) (fun h2 => ?_)
          · refine g_tableIn (off := 43) 71 dX3_rider_28 (by rw [h2]; decide) (by rw [h2]; decide) (by rw [h2]; try rfl) (by decide) ?_
            refine g_aload_n 0 dX3_rider_71 rfl rfl ?_
            refine g_getR fo_2_5 q1061 dX3_rider_72 fun y14 => ?_
            refine g_iload_n 1 dX3_rider_75 rfl rfl ?_
            refine g_iaload dX3_rider_76 fun x15 => ?_
            exact g_iret rfl dX3_rider_77
          · refine g_case (fun h3 => ?_) (fun h3 => ?_)
            · refine g_tableIn (off := 50) 78 dX3_rider_28 (by rw [h3]; decide) (by rw [h3]; decide) (by rw [h3]; try rfl) (by decide) ?_
              refine g_aload_n 0 dX3_rider_78 rfl rfl ?_
              refine g_getR fo_2_6 q1062 dX3_rider_79 fun y12 => ?_
              refine g_iload_n 1 dX3_rider_82 rfl rfl ?_
              refine g_iaload dX3_rider_83 fun x13 => ?_
              exact g_iret rfl dX3_rider_84
            · refine g_case (fun h4 => ?_) (fun h4 => ?_)
              · refine g_tableIn (off := 57) 85 dX3_rider_28 (by rw [h4]; decide) (by rw [h4]; decide) (by rw [h4]; try rfl) (by decide) ?_
                refine g_aload_n 0 dX3_rider_85 rfl rfl ?_
                refine g_getR fo_2_0 q1056 dX3_rider_86 fun y10 => ?_
                refine g_bipush 8 dX3_rider_89 (by decide) ?_
                refine g_iload_n 1 dX3_rider_91 rfl rfl ?_
                refine g_iadd dX3_rider_92 ?_
                refine g_iaload dX3_rider_93 fun x11 => ?_
                exact g_iret rfl dX3_rider_94
              · refine g_case (fun h5 => ?_) (fun h5 => ?_)
                · refine g_tableIn (off := 67) 95 dX3_rider_28 (by rw [h5]; decide) (by rw [h5]; decide) (by rw [h5]; try rfl) (by decide) ?_
                  refine g_aload_n 0 dX3_rider_95 rfl rfl ?_
                  refine g_getR fo_2_0 q1056 dX3_rider_96 fun y8 => ?_
                  refine g_bipush 16 dX3_rider_99 (by decide) ?_
                  refine g_iload_n 1 dX3_rider_101 rfl rfl ?_
                  refine g_iadd dX3_rider_102 ?_
                  refine g_iaload dX3_rider_103 fun x9 => ?_
                  exact g_iret rfl dX3_rider_104
                · refine g_tableOut 105 dX3_rider_28 (by have := lv_neT h1 (a := 0) (by decide); have := lv_neT h2 (a := 1) (by decide); have := lv_neT h3 (a := 2) (by decide); have := lv_neT h4 (a := 3) (by decide); have := lv_neT h5 (a := 4) (by decide); omega) (by decide) ?_
                  refine g_aload_n 0 dX3_rider_105 rfl rfl ?_
                  refine g_aload_n 0 dX3_rider_106 rfl rfl ?_
                  refine g_getR fo_2_0 q1056 dX3_rider_107 fun y6 => ?_
                  refine g_iload_n 1 dX3_rider_110 rfl rfl ?_
                  refine g_callV_I (mm_X3_hoursOf _ _ _ _) rfl zc_2 q1313 q1315 qs68 q109 q1316 dv_X3_hoursOf rfl (Nat.le_of_ble_eq_true rfl) (Nat.le_of_ble_eq_true rfl) (Nat.le_of_ble_eq_true rfl) dX3_rider_111 fun x7 σ => ?_
                  exact g_iret rfl dX3_rider_114
      · exact g_jmp (hj3 _ _) rfl
theorem dd_X3_rider : yX3_rider.cls ≠ "java/lang/invoke/MethodHandle" ∧ yX3_rider.cls ≠ "java/lang/invoke/VarHandle" ∧ (parseMethodDescriptor yX3_rider.desc).map (fun d => d.parameters.length) = some 2 := by decide +kernel
theorem dv_X3_rider : yX3_rider.cls = RX3 ∧ yX3_rider.cls ≠ "java/lang/invoke/MethodHandle" ∧ yX3_rider.cls ≠ "java/lang/invoke/VarHandle" ∧ (parseMethodDescriptor yX3_rider.desc).map (fun d => d.parameters.length) = some 2 := ⟨rfl, dd_X3_rider⟩
/-! RockingHorseModel.remember([I)V -/
abbrev mi_X3_remember : Mi := (cX3_remember, 3, "RockingHorseModel", 1, none, "remember")
def f_X3_remember_b11 (v0 : Option Nat) (k0 : Unit → Hp → Option (Unit × Hp)) (ag : Int32 → Hp → Option (Unit × Hp)) (a : Int32) (σ : Hp) : Option (Unit × Hp) :=
  if 297 ≤ a then
    k0 () σ
  else
    gR 2 23 σ v0 fun y7 =>
    gR 2 23 σ v0 fun y8 =>
    lI 100 σ y8 (a + 27) fun x9 =>
    sI σ y7 a x9 fun σ =>
    ag (a + 1) σ
def f_X3_remember (v0 : Option Nat) (v1 : Option Nat) (σ : Hp) : Option (Unit × Hp) :=
  gI 2 24 σ v0 fun x1 =>
  jn (fun (a2 : Unit) σ =>
      gR 2 23 σ v0 fun y4 =>
      gI 2 24 σ v0 fun x5 =>
      bnd (f_X3_lay v1 y4 (27 * x5) σ) fun _ σ =>
      gI 2 24 σ v0 fun x6 =>
      pI 0 2 24 σ v0 (x6 + 1) fun σ =>
      some ((), σ)) fun j3 =>
  if x1 = 12 then
    lp 2000 (f_X3_remember_b11 v0 (fun (a10 : Unit) σ =>
        gI 2 24 σ v0 fun x11 =>
        pI 0 2 24 σ v0 (x11 - 1) fun σ =>
        j3 () σ)) 0 σ
  else
    j3 () σ
theorem ok_X3_remember_b11 (X : Mx) (v0 : Option Nat) (v1 : Option Nat) {k0 : Unit → Hp → Option (Unit × Hp)} (hk0 : ∀ (a : Unit) (σ : Hp), GG X mi_X3_remember (QM X rV) 39 [(0, vA v0), (1, vA v1)] [] σ (k0 a σ)) : ∀ (m : Nat) (a : Int32) (σ : Hp), GG X mi_X3_remember (QM X rV) 11 [(0, vA v0), (1, vA v1), (2, vI a)] [] σ (lp m (f_X3_remember_b11 v0 k0) a σ) := by
  refine g_lp (fun (a : Int32) => [(0, vA v0), (1, vA v1), (2, vI a)]) ?_
  intro ag hag a σ
  unfold f_X3_remember_b11
  refine g_iload_n 2 dX3_remember_11 rfl rfl ?_
  refine g_sipush 297 dX3_remember_12 (by decide) ?_
  refine g_icmp_ge 39 dX3_remember_15 (by decide) ?_ ?_
  · exact g_jmp (hk0 _ _) rfl
  · refine g_aload_n 0 dX3_remember_18 rfl rfl ?_
    refine g_getR fo_2_23 q1079 dX3_remember_19 fun y7 => ?_
    refine g_iload_n 2 dX3_remember_22 rfl rfl ?_
    refine g_aload_n 0 dX3_remember_23 rfl rfl ?_
    refine g_getR fo_2_23 q1079 dX3_remember_24 fun y8 => ?_
    refine g_iload_n 2 dX3_remember_27 rfl rfl ?_
    refine g_bipush 27 dX3_remember_28 (by decide) ?_
    refine g_iadd dX3_remember_30 ?_
    refine g_iaload dX3_remember_31 fun x9 => ?_
    refine g_iastore dX3_remember_32 fun σ => ?_
    refine g_iinc 1 dX3_remember_33 (by decide) rfl (lt_b rfl) ?_
    refine g_goto 11 dX3_remember_36 (by decide) ?_
    exact g_jmp (hag _ _) rfl
theorem mm_X3_remember (v0 : Option Nat) (v1 : Option Nat) (σ : Hp) : MM yX3_remember mi_X3_remember rV [vA v0, vA v1] σ (f_X3_remember v0 v1 σ) := by
  refine mm_of (by decide +kernel) rfl rfl (Nat.le_of_ble_eq_true rfl) ?_
  intro X
  unfold f_X3_remember
  refine g_aload_n 0 dX3_remember_0 rfl rfl ?_
  refine g_getI fo_2_24 (by decide) q1080 dX3_remember_1 fun x1 => ?_
  refine g_bipush 12 dX3_remember_4 (by decide) ?_
  refine g_jn (fun j3 => ∀ (a2 : Unit) (σ : Hp), GG X mi_X3_remember (QM X rV) 49 [(0, vA v0), (1, vA v1)] [] σ (j3 a2 σ)) ?_ ?_
  · intro a2 σ
    refine g_aload_n 1 dX3_remember_49 rfl rfl ?_
    refine g_aload_n 0 dX3_remember_50 rfl rfl ?_
    refine g_getR fo_2_23 q1079 dX3_remember_51 fun y4 => ?_
    refine g_bipush 27 dX3_remember_54 (by decide) ?_
    refine g_aload_n 0 dX3_remember_56 rfl rfl ?_
    refine g_getI fo_2_24 (by decide) q1080 dX3_remember_57 fun x5 => ?_
    refine g_imul dX3_remember_60 ?_
    refine g_callS_V (mm_X3_lay _ _ _ _) rfl q1347 q1348 q109 q1349 dd_X3_lay rfl (Nat.le_of_ble_eq_true rfl) (Nat.le_of_ble_eq_true rfl) (Nat.le_of_ble_eq_true rfl) dX3_remember_61 fun _ σ => ?_
    refine g_aload_n 0 dX3_remember_64 rfl rfl ?_
    refine g_dup dX3_remember_65 rfl ?_
    refine g_getI fo_2_24 (by decide) q1080 dX3_remember_66 fun x6 => ?_
    refine g_iconst 1 dX3_remember_69 (by decide) ?_
    refine g_iadd dX3_remember_70 ?_
    refine g_putI fo_2_24 (by decide) rfl q1080 dX3_remember_71 fun σ => ?_
    exact g_vret rfl dX3_remember_74
  · intro j3 hj3
    refine g_icmp_ne 49 dX3_remember_6 (by decide) ?_ ?_
    · exact g_jmp (hj3 _ _) rfl
    · refine g_iconst 0 dX3_remember_9 (by decide) ?_
      refine g_istore_n 2 dX3_remember_10 rfl (lt_b rfl) ?_
      refine g_jmp (ok_X3_remember_b11 X v0 v1 ?_ _ _ _) rfl
      · intro a10 σ
        refine g_aload_n 0 dX3_remember_39 rfl rfl ?_
        refine g_dup dX3_remember_40 rfl ?_
        refine g_getI fo_2_24 (by decide) q1080 dX3_remember_41 fun x11 => ?_
        refine g_iconst 1 dX3_remember_44 (by decide) ?_
        refine g_isub dX3_remember_45 ?_
        refine g_putI fo_2_24 (by decide) rfl q1080 dX3_remember_46 fun σ => ?_
        exact g_jmp (hj3 _ _) rfl
theorem dd_X3_remember : yX3_remember.cls ≠ "java/lang/invoke/MethodHandle" ∧ yX3_remember.cls ≠ "java/lang/invoke/VarHandle" ∧ (parseMethodDescriptor yX3_remember.desc).map (fun d => d.parameters.length) = some 1 := by decide +kernel
theorem dv_X3_remember : yX3_remember.cls = RX3 ∧ yX3_remember.cls ≠ "java/lang/invoke/MethodHandle" ∧ yX3_remember.cls ≠ "java/lang/invoke/VarHandle" ∧ (parseMethodDescriptor yX3_remember.desc).map (fun d => d.parameters.length) = some 1 := ⟨rfl, dd_X3_remember⟩
/-! RockingHorseModel.give(II)I -/
abbrev mi_X3_give : Mi := (cX3_give, 4, "RockingHorseModel", 3, some .int, "give")
def f_X3_give (v0 : Option Nat) (v1 : Int32) (v2 : Int32) (σ : Hp) : Option (Int32 × Hp) :=
  pI 0 2 11 σ v0 0 fun σ =>
  ob 2 σ v0 fun _ => bnd (f_X3_isGift v0 v1 v2 σ) fun x1 σ =>
  if x1 = 0 then
    some ((-2), σ)
  else
    gR 2 0 σ v0 fun y2 =>
    ob 2 σ v0 fun _ => bnd (f_X3_remember v0 y2 σ) fun _ σ =>
    gR 2 0 σ v0 fun y3 =>
    lI 100 σ y3 v1 fun x4 =>
    gR 2 0 σ v0 fun y5 =>
    sI σ y5 v1 v2 fun σ =>
    some (x4, σ)
theorem mm_X3_give (v0 : Option Nat) (v1 : Int32) (v2 : Int32) (σ : Hp) : MM yX3_give mi_X3_give rI [vA v0, vI v1, vI v2] σ (f_X3_give v0 v1 v2 σ) := by
  refine mm_of (by decide +kernel) rfl rfl (Nat.le_of_ble_eq_true rfl) ?_
  intro X
  unfold f_X3_give
  refine g_aload_n 0 dX3_give_0 rfl rfl ?_
  refine g_iconst 0 dX3_give_1 (by decide) ?_
  refine g_putI fo_2_11 (by decide) rfl q1067 dX3_give_2 fun σ => ?_
  refine g_aload_n 0 dX3_give_5 rfl rfl ?_
  refine g_iload_n 1 dX3_give_6 rfl rfl ?_
  refine g_iload_n 2 dX3_give_7 rfl rfl ?_
  refine g_callV_I (mm_X3_isGift _ _ _ _) rfl zc_2 q1354 q1356 qs71 q109 q1357 dv_X3_isGift rfl (Nat.le_of_ble_eq_true rfl) (Nat.le_of_ble_eq_true rfl) (Nat.le_of_ble_eq_true rfl) dX3_give_8 fun x1 σ => ?_
  refine g_if_ne 17 dX3_give_11 (by decide) ?_ ?_
  · refine g_aload_n 0 dX3_give_17 rfl rfl ?_
    refine g_aload_n 0 dX3_give_18 rfl rfl ?_
    refine g_getR fo_2_0 q1056 dX3_give_19 fun y2 => ?_
    refine g_callV_V (mm_X3_remember _ _ _) rfl zc_2 q1343 q1345 qs70 q109 q1346 dv_X3_remember rfl (Nat.le_of_ble_eq_true rfl) (Nat.le_of_ble_eq_true rfl) (Nat.le_of_ble_eq_true rfl) dX3_give_22 fun _ σ => ?_
    refine g_aload_n 0 dX3_give_25 rfl rfl ?_
    refine g_getR fo_2_0 q1056 dX3_give_26 fun y3 => ?_
    refine g_iload_n 1 dX3_give_29 rfl rfl ?_
    refine g_iaload dX3_give_30 fun x4 => ?_
    refine g_istore_n 3 dX3_give_31 rfl (lt_b rfl) ?_
    refine g_aload_n 0 dX3_give_32 rfl rfl ?_
    refine g_getR fo_2_0 q1056 dX3_give_33 fun y5 => ?_
    refine g_iload_n 1 dX3_give_36 rfl rfl ?_
    refine g_iload_n 2 dX3_give_37 rfl rfl ?_
    refine g_iastore dX3_give_38 fun σ => ?_
    refine g_iload_n 3 dX3_give_39 rfl rfl ?_
    exact g_iret rfl dX3_give_40
  · refine g_bipush (-2) dX3_give_14 (by decide) ?_
    exact g_iret rfl dX3_give_16
theorem dd_X3_give : yX3_give.cls ≠ "java/lang/invoke/MethodHandle" ∧ yX3_give.cls ≠ "java/lang/invoke/VarHandle" ∧ (parseMethodDescriptor yX3_give.desc).map (fun d => d.parameters.length) = some 2 := by decide +kernel
theorem dv_X3_give : yX3_give.cls = RX3 ∧ yX3_give.cls ≠ "java/lang/invoke/MethodHandle" ∧ yX3_give.cls ≠ "java/lang/invoke/VarHandle" ∧ (parseMethodDescriptor yX3_give.desc).map (fun d => d.parameters.length) = some 2 := ⟨rfl, dd_X3_give⟩
/-! RockingHorseModel.ill(I)I -/
abbrev mi_X3_ill : Mi := (cX3_ill, 2, "RockingHorseModel", 2, some .int, "ill")
def f_X3_ill (v0 : Option Nat) (v1 : Int32) (σ : Hp) : Option (Int32 × Hp) :=
  pI 0 2 11 σ v0 0 fun σ =>
  ob 2 σ v0 fun _ => bnd (f_X3_isMan v0 v1 σ) fun x1 σ =>
  if x1 = 0 then
    some ((-1), σ)
  else
    gR 2 0 σ v0 fun y2 =>
    ob 2 σ v0 fun _ => bnd (f_X3_remember v0 y2 σ) fun _ σ =>
    gR 2 0 σ v0 fun y3 =>
    gR 2 0 σ v0 fun y4 =>
    lI 100 σ y4 (16 + v1) fun x5 =>
    sI σ y3 (16 + v1) (1 - x5) fun σ =>
    gR 2 0 σ v0 fun y6 =>
    ob 2 σ v0 fun _ => bnd (f_X3_illBits v0 y6 σ) fun x7 σ =>
    bnd (f_J10_bitCount x7 σ) fun x8 σ =>
    some (x8, σ)
theorem mm_X3_ill (v0 : Option Nat) (v1 : Int32) (σ : Hp) : MM yX3_ill mi_X3_ill rI [vA v0, vI v1] σ (f_X3_ill v0 v1 σ) := by
  refine mm_of (by decide +kernel) rfl rfl (Nat.le_of_ble_eq_true rfl) ?_
  intro X
  unfold f_X3_ill
  refine g_aload_n 0 dX3_ill_0 rfl rfl ?_
  refine g_iconst 0 dX3_ill_1 (by decide) ?_
  refine g_putI fo_2_11 (by decide) rfl q1067 dX3_ill_2 fun σ => ?_
  refine g_aload_n 0 dX3_ill_5 rfl rfl ?_
  refine g_iload_n 1 dX3_ill_6 rfl rfl ?_
  refine g_callV_I (mm_X3_isMan _ _ _) rfl zc_2 q1305 q1307 qs66 q109 q1308 dv_X3_isMan rfl (Nat.le_of_ble_eq_true rfl) (Nat.le_of_ble_eq_true rfl) (Nat.le_of_ble_eq_true rfl) dX3_ill_7 fun x1 σ => ?_
  refine g_if_ne 15 dX3_ill_10 (by decide) ?_ ?_
  · refine g_aload_n 0 dX3_ill_15 rfl rfl ?_
    refine g_aload_n 0 dX3_ill_16 rfl rfl ?_
    refine g_getR fo_2_0 q1056 dX3_ill_17 fun y2 => ?_
    refine g_callV_V (mm_X3_remember _ _ _) rfl zc_2 q1343 q1345 qs70 q109 q1346 dv_X3_remember rfl (Nat.le_of_ble_eq_true rfl) (Nat.le_of_ble_eq_true rfl) (Nat.le_of_ble_eq_true rfl) dX3_ill_20 fun _ σ => ?_
    refine g_aload_n 0 dX3_ill_23 rfl rfl ?_
    refine g_getR fo_2_0 q1056 dX3_ill_24 fun y3 => ?_
    refine g_bipush 16 dX3_ill_27 (by decide) ?_
    refine g_iload_n 1 dX3_ill_29 rfl rfl ?_
    refine g_iadd dX3_ill_30 ?_
    refine g_iconst 1 dX3_ill_31 (by decide) ?_
    refine g_aload_n 0 dX3_ill_32 rfl rfl ?_
    refine g_getR fo_2_0 q1056 dX3_ill_33 fun y4 => ?_
    refine g_bipush 16 dX3_ill_36 (by decide) ?_
    refine g_iload_n 1 dX3_ill_38 rfl rfl ?_
    refine g_iadd dX3_ill_39 ?_
    refine g_iaload dX3_ill_40 fun x5 => ?_
    refine g_isub dX3_ill_41 ?_
    refine g_iastore dX3_ill_42 fun σ => ?_
    refine g_aload_n 0 dX3_ill_43 rfl rfl ?_
    refine g_aload_n 0 dX3_ill_44 rfl rfl ?_
    refine g_getR fo_2_0 q1056 dX3_ill_45 fun y6 => ?_
    refine g_callV_I (mm_X3_illBits _ _ _) rfl zc_2 q1362 q1364 qs72 q109 q1365 dv_X3_illBits rfl (Nat.le_of_ble_eq_true rfl) (Nat.le_of_ble_eq_true rfl) (Nat.le_of_ble_eq_true rfl) dX3_ill_48 fun x7 σ => ?_
    refine g_callS_I (mm_J10_bitCount _ _) rfl q1328 q600 q125 q601 dd_J10_bitCount rfl (Nat.le_of_ble_eq_true rfl) (Nat.le_of_ble_eq_true rfl) (Nat.le_of_ble_eq_true rfl) dX3_ill_51 fun x8 σ => ?_
    exact g_iret rfl dX3_ill_54
  · refine g_iconst (-1) dX3_ill_13 (by decide) ?_
    exact g_iret rfl dX3_ill_14
theorem dd_X3_ill : yX3_ill.cls ≠ "java/lang/invoke/MethodHandle" ∧ yX3_ill.cls ≠ "java/lang/invoke/VarHandle" ∧ (parseMethodDescriptor yX3_ill.desc).map (fun d => d.parameters.length) = some 1 := by decide +kernel
theorem dv_X3_ill : yX3_ill.cls = RX3 ∧ yX3_ill.cls ≠ "java/lang/invoke/MethodHandle" ∧ yX3_ill.cls ≠ "java/lang/invoke/VarHandle" ∧ (parseMethodDescriptor yX3_ill.desc).map (fun d => d.parameters.length) = some 1 := ⟨rfl, dd_X3_ill⟩
/-! RockingHorseModel.readAct(I)V -/
abbrev mi_X3_readAct : Mi := (cX3_readAct, 3, "RockingHorseModel", 3, none, "readAct")
def f_X3_readAct (v0 : Option Nat) (v1 : Int32) (σ : Hp) : Option (Unit × Hp) :=
  ob 2 σ v0 fun _ => bnd (f_X3_here v0 σ) fun x1 σ =>
  jn (fun (a2 : Unit) σ =>
      gI 2 15 σ v0 fun x4 =>
      pI 0 2 15 σ v0 (x4 + 1) fun σ =>
      gR 2 31 σ v0 fun y5 =>
      sI σ y5 v1 x1 fun σ =>
      gR 2 31 σ v0 fun y6 =>
      ob 2 σ v0 fun _ => bnd (f_X3_oneOf v0 48 10 σ) fun x7 σ =>
      sI σ y6 (v1 + 1) x7 fun σ =>
      jn (fun (a8 : Unit) σ =>
          if x1 = 120 then
            gR 2 31 σ v0 fun y10 =>
            ob 2 σ v0 fun _ => bnd (f_X3_oneOf v0 48 10 σ) fun x11 σ =>
            sI σ y10 (v1 + 2) x11 fun σ =>
            some ((), σ)
          else
            some ((), σ)) fun j9 =>
      if x1 = 103 then
        gR 2 31 σ v0 fun y12 =>
        ob 2 σ v0 fun _ => bnd (f_X3_passes v0 45 σ) fun x13 σ =>
        jn (fun (a14 : Int32) σ =>
            sI σ y12 (v1 + 2) a14 fun σ =>
            j9 () σ) fun j15 =>
        if x13 = 0 then
          ob 2 σ v0 fun _ => bnd (f_X3_oneOf v0 48 10 σ) fun x16 σ =>
          j15 x16 σ
        else
          j15 (-1) σ
      else
        j9 () σ) fun j3 =>
  if x1 = 110 then
    j3 () σ
  else
    if x1 = 105 then
      j3 () σ
    else
      if x1 = 103 then
        j3 () σ
      else
        if x1 = 120 then
          j3 () σ
        else
          gI 2 15 σ v0 fun x17 =>
          ob 2 σ v0 fun _ => bnd (f_X3_fault v0 x17 σ) fun _ σ =>
          some ((), σ)
theorem mm_X3_readAct (v0 : Option Nat) (v1 : Int32) (σ : Hp) : MM yX3_readAct mi_X3_readAct rV [vA v0, vI v1] σ (f_X3_readAct v0 v1 σ) := by
  refine mm_of (by decide +kernel) rfl rfl (Nat.le_of_ble_eq_true rfl) ?_
  intro X
  unfold f_X3_readAct
  refine g_aload_n 0 dX3_readAct_0 rfl rfl ?_
  refine g_callV_I (mm_X3_here _ _) rfl zc_2 q1254 q1256 qs56 q109 q1257 dv_X3_here rfl (Nat.le_of_ble_eq_true rfl) (Nat.le_of_ble_eq_true rfl) (Nat.le_of_ble_eq_true rfl) dX3_readAct_1 fun x1 σ => ?_
  refine g_istore_n 2 dX3_readAct_4 rfl (lt_b rfl) ?_
  refine g_iload_n 2 dX3_readAct_5 rfl rfl ?_
  refine g_bipush 110 dX3_readAct_6 (by decide) ?_
  refine g_jn (fun j3 => ∀ (a2 : Unit) (σ : Hp), GG X mi_X3_readAct (QM X rV) 38 [(0, vA v0), (1, vI v1), (2, vI x1)] [] σ (j3 a2 σ)) ?_ ?_
  · intro a2 σ
    refine g_aload_n 0 dX3_readAct_38 rfl rfl ?_
    refine g_dup dX3_readAct_39 rfl ?_
    refine g_getI fo_2_15 (by decide) q1071 dX3_readAct_40 fun x4 => ?_
    refine g_iconst 1 dX3_readAct_43 (by decide) ?_
    refine g_iadd dX3_readAct_44 ?_
    refine g_putI fo_2_15 (by decide) rfl q1071 dX3_readAct_45 fun σ => ?_
    refine g_aload_n 0 dX3_readAct_48 rfl rfl ?_
    refine g_getR fo_2_31 q1087 dX3_readAct_49 fun y5 => ?_
    refine g_iload_n 1 dX3_readAct_52 rfl rfl ?_
    refine g_iload_n 2 dX3_readAct_53 rfl rfl ?_
    refine g_iastore dX3_readAct_54 fun σ => ?_
    refine g_aload_n 0 dX3_readAct_55 rfl rfl ?_
    refine g_getR fo_2_31 q1087 dX3_readAct_56 fun y6 => ?_
    refine g_iload_n 1 dX3_readAct_59 rfl rfl ?_
    refine g_iconst 1 dX3_readAct_60 (by decide) ?_
    refine g_iadd dX3_readAct_61 ?_
    refine g_aload_n 0 dX3_readAct_62 rfl rfl ?_
    refine g_bipush 48 dX3_readAct_63 (by decide) ?_
    refine g_bipush 10 dX3_readAct_65 (by decide) ?_
    refine g_callV_I (mm_X3_oneOf _ _ _ _) rfl zc_2 q1250 q1252 qs55 q109 q1253 dv_X3_oneOf rfl (Nat.le_of_ble_eq_true rfl) (Nat.le_of_ble_eq_true rfl) (Nat.le_of_ble_eq_true rfl) dX3_readAct_67 fun x7 σ => ?_
    refine g_iastore dX3_readAct_70 fun σ => ?_
    refine g_iload_n 2 dX3_readAct_71 rfl rfl ?_
    refine g_bipush 103 dX3_readAct_72 (by decide) ?_
    refine g_jn (fun j9 => ∀ (a8 : Unit) (σ : Hp), GG X mi_X3_readAct (QM X rV) 106 [(0, vA v0), (1, vI v1), (2, vI x1)] [] σ (j9 a8 σ)) ?_ ?_
    · intro a8 σ
      refine g_iload_n 2 dX3_readAct_106 rfl rfl ?_
      refine g_bipush 120 dX3_readAct_107 (by decide) ?_
      refine g_icmp_ne 128 dX3_readAct_109 (by decide) ?_ ?_
      · exact g_vret rfl dX3_readAct_128
      · refine g_aload_n 0 dX3_readAct_112 rfl rfl ?_
        refine g_getR fo_2_31 q1087 dX3_readAct_113 fun y10 => ?_
        refine g_iload_n 1 dX3_readAct_116 rfl rfl ?_
        refine g_iconst 2 dX3_readAct_117 (by decide) ?_
        refine g_iadd dX3_readAct_118 ?_
        refine g_aload_n 0 dX3_readAct_119 rfl rfl ?_
        refine g_bipush 48 dX3_readAct_120 (by decide) ?_
        refine g_bipush 10 dX3_readAct_122 (by decide) ?_
        refine g_callV_I (mm_X3_oneOf _ _ _ _) rfl zc_2 q1250 q1252 qs55 q109 q1253 dv_X3_oneOf rfl (Nat.le_of_ble_eq_true rfl) (Nat.le_of_ble_eq_true rfl) (Nat.le_of_ble_eq_true rfl) dX3_readAct_124 fun x11 σ => ?_
        refine g_iastore dX3_readAct_127 fun σ => ?_
        exact g_vret rfl dX3_readAct_128
    · intro j9 hj9
      refine g_icmp_ne 106 dX3_readAct_74 (by decide) ?_ ?_
      · exact g_jmp (hj9 _ _) rfl
      · refine g_aload_n 0 dX3_readAct_77 rfl rfl ?_
        refine g_getR fo_2_31 q1087 dX3_readAct_78 fun y12 => ?_
        refine g_iload_n 1 dX3_readAct_81 rfl rfl ?_
        refine g_iconst 2 dX3_readAct_82 (by decide) ?_
        refine g_iadd dX3_readAct_83 ?_
        refine g_aload_n 0 dX3_readAct_84 rfl rfl ?_
        refine g_bipush 45 dX3_readAct_85 (by decide) ?_
        refine g_callV_I (mm_X3_passes _ _ _) rfl zc_2 q1258 q1260 qs57 q109 q1261 dv_X3_passes rfl (Nat.le_of_ble_eq_true rfl) (Nat.le_of_ble_eq_true rfl) (Nat.le_of_ble_eq_true rfl) dX3_readAct_87 fun x13 σ => ?_
        refine g_jn (fun j15 => ∀ (a14 : Int32) (σ : Hp), GG X mi_X3_readAct (QM X rV) 105 [(0, vA v0), (1, vI v1), (2, vI x1)] [vI a14, vI (v1 + 2), vA y12] σ (j15 a14 σ)) ?_ ?_
        · intro a14 σ
          refine g_iastore dX3_readAct_105 fun σ => ?_
          exact g_jmp (hj9 _ _) rfl
        · intro j15 hj15
          refine g_if_eq 97 dX3_readAct_90 (by decide) ?_ ?_
          · refine g_aload_n 0 dX3_readAct_97 rfl rfl ?_
            refine g_bipush 48 dX3_readAct_98 (by decide) ?_
            refine g_bipush 10 dX3_readAct_100 (by decide) ?_
            refine g_callV_I (mm_X3_oneOf _ _ _ _) rfl zc_2 q1250 q1252 qs55 q109 q1253 dv_X3_oneOf rfl (Nat.le_of_ble_eq_true rfl) (Nat.le_of_ble_eq_true rfl) (Nat.le_of_ble_eq_true rfl) dX3_readAct_102 fun x16 σ => ?_
            exact g_jmp (hj15 _ _) rfl
          · refine g_iconst (-1) dX3_readAct_93 (by decide) ?_
            refine g_goto 105 dX3_readAct_94 (by decide) ?_
            exact g_jmp (hj15 _ _) rfl
  · intro j3 hj3
    refine g_icmp_eq 38 dX3_readAct_8 (by decide) ?_ ?_
    · exact g_jmp (hj3 _ _) rfl
    · refine g_iload_n 2 dX3_readAct_11 rfl rfl ?_
      refine g_bipush 105 dX3_readAct_12 (by decide) ?_
      refine g_icmp_eq 38 dX3_readAct_14 (by decide) ?_ ?_
      · exact g_jmp (hj3 _ _) rfl
      · refine g_iload_n 2 dX3_readAct_17 rfl rfl ?_
        refine g_bipush 103 dX3_readAct_18 (by decide) ?_
        refine g_icmp_eq 38 dX3_readAct_20 (by decide) ?_ ?_
        · exact g_jmp (hj3 _ _) rfl
        · refine g_iload_n 2 dX3_readAct_23 rfl rfl ?_
          refine g_bipush 120 dX3_readAct_24 (by decide) ?_
          refine g_icmp_eq 38 dX3_readAct_26 (by decide) ?_ ?_
          · exact g_jmp (hj3 _ _) rfl
          · refine g_aload_n 0 dX3_readAct_29 rfl rfl ?_
            refine g_aload_n 0 dX3_readAct_30 rfl rfl ?_
            refine g_getI fo_2_15 (by decide) q1071 dX3_readAct_31 fun x17 => ?_
            refine g_callV_V (mm_X3_fault _ _ _) rfl zc_2 q1242 q1244 qs53 q109 q1245 dv_X3_fault rfl (Nat.le_of_ble_eq_true rfl) (Nat.le_of_ble_eq_true rfl) (Nat.le_of_ble_eq_true rfl) dX3_readAct_34 fun _ σ => ?_
            exact g_vret rfl dX3_readAct_37
theorem dd_X3_readAct : yX3_readAct.cls ≠ "java/lang/invoke/MethodHandle" ∧ yX3_readAct.cls ≠ "java/lang/invoke/VarHandle" ∧ (parseMethodDescriptor yX3_readAct.desc).map (fun d => d.parameters.length) = some 1 := by decide +kernel
theorem dv_X3_readAct : yX3_readAct.cls = RX3 ∧ yX3_readAct.cls ≠ "java/lang/invoke/MethodHandle" ∧ yX3_readAct.cls ≠ "java/lang/invoke/VarHandle" ∧ (parseMethodDescriptor yX3_readAct.desc).map (fun d => d.parameters.length) = some 1 := ⟨rfl, dd_X3_readAct⟩
/-! RockingHorseModel.canTake(II)Z -/
abbrev mi_X3_canTake : Mi := (cX3_canTake, 3, "RockingHorseModel", 2, some .boolean, "canTake")
def f_X3_canTake (v0 : Option Nat) (v1 : Int32) (v2 : Int32) (σ : Hp) : Option (Int32 × Hp) :=
  bnd (f_J10_bitCount v2 σ) fun x1 σ =>
  gR 2 4 σ v0 fun y2 =>
  lI 100 σ y2 v1 fun x3 =>
  if x3 < x1 then
    rz1 0 σ
  else
    gR 2 33 σ v0 fun y4 =>
    lI 100 σ y4 v1 fun x5 =>
    if (x5 &&& (v2 ^^^ (-1))) = 0 then
      ob 2 σ v0 fun _ => bnd (f_X3_hardBy v0 v1 v2 σ) fun x6 σ =>
      gI 2 39 σ v0 fun x7 =>
      if x7 < x6 then
        rz1 0 σ
      else
        rz1 1 σ
    else
      rz1 0 σ
theorem mm_X3_canTake (v0 : Option Nat) (v1 : Int32) (v2 : Int32) (σ : Hp) : MM yX3_canTake mi_X3_canTake rI [vA v0, vI v1, vI v2] σ (f_X3_canTake v0 v1 v2 σ) := by
  refine mm_of (by decide +kernel) rfl rfl (Nat.le_of_ble_eq_true rfl) ?_
  intro X
  unfold f_X3_canTake
  refine g_iload_n 2 dX3_canTake_0 rfl rfl ?_
  refine g_callS_I (mm_J10_bitCount _ _) rfl q1328 q600 q125 q601 dd_J10_bitCount rfl (Nat.le_of_ble_eq_true rfl) (Nat.le_of_ble_eq_true rfl) (Nat.le_of_ble_eq_true rfl) dX3_canTake_1 fun x1 σ => ?_
  refine g_aload_n 0 dX3_canTake_4 rfl rfl ?_
  refine g_getR fo_2_4 q1060 dX3_canTake_5 fun y2 => ?_
  refine g_iload_n 1 dX3_canTake_8 rfl rfl ?_
  refine g_iaload dX3_canTake_9 fun x3 => ?_
  refine g_icmp_gt 43 dX3_canTake_10 (by decide) ?_ ?_
  · refine g_iconst 0 dX3_canTake_43 (by decide) ?_
    exact g_zret rfl dX3_canTake_44
  · refine g_aload_n 0 dX3_canTake_13 rfl rfl ?_
    refine g_getR fo_2_33 q1089 dX3_canTake_14 fun y4 => ?_
    refine g_iload_n 1 dX3_canTake_17 rfl rfl ?_
    refine g_iaload dX3_canTake_18 fun x5 => ?_
    refine g_iload_n 2 dX3_canTake_19 rfl rfl ?_
    refine g_iconst (-1) dX3_canTake_20 (by decide) ?_
    refine g_ixor dX3_canTake_21 ?_
    refine g_iand dX3_canTake_22 ?_
    refine g_if_ne 43 dX3_canTake_23 (by decide) ?_ ?_
    · refine g_iconst 0 dX3_canTake_43 (by decide) ?_
      exact g_zret rfl dX3_canTake_44
    · refine g_aload_n 0 dX3_canTake_26 rfl rfl ?_
      refine g_iload_n 1 dX3_canTake_27 rfl rfl ?_
      refine g_iload_n 2 dX3_canTake_28 rfl rfl ?_
      refine g_callV_I (mm_X3_hardBy _ _ _ _) rfl zc_2 q1459 q1461 qs86 q109 q1462 dv_X3_hardBy rfl (Nat.le_of_ble_eq_true rfl) (Nat.le_of_ble_eq_true rfl) (Nat.le_of_ble_eq_true rfl) dX3_canTake_29 fun x6 σ => ?_
      refine g_aload_n 0 dX3_canTake_32 rfl rfl ?_
      refine g_getI fo_2_39 (by decide) q1095 dX3_canTake_33 fun x7 => ?_
      refine g_icmp_gt 43 dX3_canTake_36 (by decide) ?_ ?_
      · refine g_iconst 0 dX3_canTake_43 (by decide) ?_
        exact g_zret rfl dX3_canTake_44
      · refine g_iconst 1 dX3_canTake_39 (by decide) ?_
        refine g_goto 44 dX3_canTake_40 (by decide) ?_
        exact g_zret rfl dX3_canTake_44
theorem dd_X3_canTake : yX3_canTake.cls ≠ "java/lang/invoke/MethodHandle" ∧ yX3_canTake.cls ≠ "java/lang/invoke/VarHandle" ∧ (parseMethodDescriptor yX3_canTake.desc).map (fun d => d.parameters.length) = some 2 := by decide +kernel
theorem dv_X3_canTake : yX3_canTake.cls = RX3 ∧ yX3_canTake.cls ≠ "java/lang/invoke/MethodHandle" ∧ yX3_canTake.cls ≠ "java/lang/invoke/VarHandle" ∧ (parseMethodDescriptor yX3_canTake.desc).map (fun d => d.parameters.length) = some 2 := ⟨rfl, dd_X3_canTake⟩
/-! RockingHorseModel.costOf(III)I -/
abbrev mi_X3_costOf : Mi := (cX3_costOf, 4, "RockingHorseModel", 2, some .int, "costOf")
def f_X3_costOf (v0 : Option Nat) (v1 : Int32) (v2 : Int32) (v3 : Int32) (σ : Hp) : Option (Int32 × Hp) :=
  if v1 = 0 then
    ob 2 σ v0 fun _ => bnd (f_X3_hardBy v0 v2 v3 σ) fun x4 σ =>
    some (x4, σ)
  else
    if v1 = 1 then
      gR 2 0 σ v0 fun y1 =>
      ob 2 σ v0 fun _ => bnd (f_X3_hoursOf v0 y1 v2 σ) fun x2 σ =>
      bnd (f_J10_bitCount (v3 &&& (x2 ^^^ (-1))) σ) fun x3 σ =>
      some (x3, σ)
    else
      some (0, σ)
theorem mm_X3_costOf (v0 : Option Nat) (v1 : Int32) (v2 : Int32) (v3 : Int32) (σ : Hp) : MM yX3_costOf mi_X3_costOf rI [vA v0, vI v1, vI v2, vI v3] σ (f_X3_costOf v0 v1 v2 v3 σ) := by
  refine mm_of (by decide +kernel) rfl rfl (Nat.le_of_ble_eq_true rfl) ?_
  intro X
  unfold f_X3_costOf
  refine g_iload_n 1 dX3_costOf_0 rfl rfl ?_
  refine g_if_ne 13 dX3_costOf_1 (by decide) ?_ ?_
  · refine g_iload_n 1 dX3_costOf_13 rfl rfl ?_
    refine g_iconst 1 dX3_costOf_14 (by decide) ?_
    refine g_icmp_ne 37 dX3_costOf_15 (by decide) ?_ ?_
    · refine g_iconst 0 dX3_costOf_37 (by decide) ?_
      exact g_iret rfl dX3_costOf_38
    · refine g_iload_n 3 dX3_costOf_18 rfl rfl ?_
      refine g_aload_n 0 dX3_costOf_19 rfl rfl ?_
      refine g_aload_n 0 dX3_costOf_20 rfl rfl ?_
      refine g_getR fo_2_0 q1056 dX3_costOf_21 fun y1 => ?_
      refine g_iload_n 2 dX3_costOf_24 rfl rfl ?_
      refine g_callV_I (mm_X3_hoursOf _ _ _ _) rfl zc_2 q1313 q1315 qs68 q109 q1316 dv_X3_hoursOf rfl (Nat.le_of_ble_eq_true rfl) (Nat.le_of_ble_eq_true rfl) (Nat.le_of_ble_eq_true rfl) dX3_costOf_25 fun x2 σ => ?_
      refine g_iconst (-1) dX3_costOf_28 (by decide) ?_
      refine g_ixor dX3_costOf_29 ?_
      refine g_iand dX3_costOf_30 ?_
      refine g_callS_I (mm_J10_bitCount _ _) rfl q1328 q600 q125 q601 dd_J10_bitCount rfl (Nat.le_of_ble_eq_true rfl) (Nat.le_of_ble_eq_true rfl) (Nat.le_of_ble_eq_true rfl) dX3_costOf_31 fun x3 σ => ?_
      refine g_goto 38 dX3_costOf_34 (by decide) ?_
      exact g_iret rfl dX3_costOf_38
  · refine g_aload_n 0 dX3_costOf_4 rfl rfl ?_
    refine g_iload_n 2 dX3_costOf_5 rfl rfl ?_
    refine g_iload_n 3 dX3_costOf_6 rfl rfl ?_
    refine g_callV_I (mm_X3_hardBy _ _ _ _) rfl zc_2 q1459 q1461 qs86 q109 q1462 dv_X3_hardBy rfl (Nat.le_of_ble_eq_true rfl) (Nat.le_of_ble_eq_true rfl) (Nat.le_of_ble_eq_true rfl) dX3_costOf_7 fun x4 σ => ?_
    refine g_goto 38 dX3_costOf_10 (by decide) ?_
    exact g_iret rfl dX3_costOf_38
theorem dd_X3_costOf : yX3_costOf.cls ≠ "java/lang/invoke/MethodHandle" ∧ yX3_costOf.cls ≠ "java/lang/invoke/VarHandle" ∧ (parseMethodDescriptor yX3_costOf.desc).map (fun d => d.parameters.length) = some 3 := by decide +kernel
theorem dv_X3_costOf : yX3_costOf.cls = RX3 ∧ yX3_costOf.cls ≠ "java/lang/invoke/MethodHandle" ∧ yX3_costOf.cls ≠ "java/lang/invoke/VarHandle" ∧ (parseMethodDescriptor yX3_costOf.desc).map (fun d => d.parameters.length) = some 3 := ⟨rfl, dd_X3_costOf⟩
/-! RockingHorseModel.countWays()I -/
abbrev mi_X3_countWays : Mi := (cX3_countWays, 5, "RockingHorseModel", 3, some .int, "countWays")
def f_X3_countWays_b2 (v0 : Option Nat) (k0 : Unit → Hp → Option (Int32 × Hp)) (ag : Int32 → Hp → Option (Int32 × Hp)) (a : Int32) (σ : Hp) : Option (Int32 × Hp) :=
  ob 2 σ v0 fun _ => bnd (f_X3_night v0 σ) fun x1 σ =>
  if x1 < a then
    k0 () σ
  else
    gR 2 38 σ v0 fun y2 =>
    gI 2 3 σ v0 fun x3 =>
    jn (fun (a4 : Int32) σ =>
        sI σ y2 ((shl x3 8) ||| a) a4 fun σ =>
        ag (a + 1) σ) fun j5 =>
    if a = 0 then
      j5 1 σ
    else
      j5 0 σ
def f_X3_countWays_b52 (v0 : Option Nat) (v1 : Int32) (k0 : Unit → Hp → Option (Int32 × Hp)) (ag : Int32 → Hp → Option (Int32 × Hp)) (a : Int32) (σ : Hp) : Option (Int32 × Hp) :=
  ob 2 σ v0 fun _ => bnd (f_X3_night v0 σ) fun x8 σ =>
  if x8 < a then
    k0 () σ
  else
    gR 2 38 σ v0 fun y9 =>
    sI σ y9 ((shl v1 8) ||| a) 0 fun σ =>
    ag (a + 1) σ
def f_X3_countWays_b113 (v0 : Option Nat) (v1 : Int32) (v2 : Int32) (v3 : Int32) (k0 : Unit → Hp → Option (Int32 × Hp)) (ag : Int32 → Hp → Option (Int32 × Hp)) (a : Int32) (σ : Hp) : Option (Int32 × Hp) :=
  if a < 0 then
    k0 () σ
  else
    gR 2 38 σ v0 fun y21 =>
    lI 100 σ y21 (((shl v1 8) ||| a) ||| v2) fun x22 =>
    gR 2 38 σ v0 fun y23 =>
    lI 100 σ y23 ((shl (v1 + 1) 8) ||| a) fun x24 =>
    sI σ y21 (((shl v1 8) ||| a) ||| v2) (x22 + x24) fun σ =>
    jn (fun (a25 : Int32) σ =>
        ag a25 σ) fun j26 =>
    if a = 0 then
      j26 (-1) σ
    else
      j26 ((a - 1) &&& v3) σ
def f_X3_countWays_b85 (v0 : Option Nat) (v1 : Int32) (k0 : Unit → Hp → Option (Int32 × Hp)) (ag : Int32 → Hp → Option (Int32 × Hp)) (a : Int32) (σ : Hp) : Option (Int32 × Hp) :=
  if a < 0 then
    k0 () σ
  else
    ob 2 σ v0 fun _ => bnd (f_X3_canTake v0 v1 a σ) fun x13 σ =>
    jn (fun (a14 : Unit) σ =>
        jn (fun (a16 : Int32) σ =>
            ag a16 σ) fun j17 =>
        if a = 0 then
          j17 (-1) σ
        else
          gR 2 32 σ v0 fun y18 =>
          lI 100 σ y18 v1 fun x19 =>
          j17 ((a - 1) &&& x19) σ) fun j15 =>
    if x13 = 0 then
      j15 () σ
    else
      ob 2 σ v0 fun _ => bnd (f_X3_night v0 σ) fun x20 σ =>
      lp 2000 (f_X3_countWays_b113 v0 v1 a (x20 &&& (a ^^^ (-1))) (fun (a27 : Unit) σ =>
          j15 () σ)) (x20 &&& (a ^^^ (-1))) σ
def f_X3_countWays_b46 (v0 : Option Nat) (k0 : Unit → Hp → Option (Int32 × Hp)) (ag : Int32 → Hp → Option (Int32 × Hp)) (a : Int32) (σ : Hp) : Option (Int32 × Hp) :=
  if a < 0 then
    k0 () σ
  else
    lp 2000 (f_X3_countWays_b52 v0 a (fun (a10 : Unit) σ =>
        gR 2 32 σ v0 fun y11 =>
        lI 100 σ y11 a fun x12 =>
        lp 2000 (f_X3_countWays_b85 v0 a (fun (a28 : Unit) σ =>
            ag (a + (-1)) σ)) x12 σ)) 0 σ
def f_X3_countWays (v0 : Option Nat) (σ : Hp) : Option (Int32 × Hp) :=
  lp 2000 (f_X3_countWays_b2 v0 (fun (a6 : Unit) σ =>
      gI 2 3 σ v0 fun x7 =>
      lp 2000 (f_X3_countWays_b46 v0 (fun (a29 : Unit) σ =>
          gR 2 38 σ v0 fun y30 =>
          ob 2 σ v0 fun _ => bnd (f_X3_night v0 σ) fun x31 σ =>
          lI 100 σ y30 x31 fun x32 =>
          some (x32, σ))) (x7 - 1) σ)) 0 σ
theorem ok_X3_countWays_b2 (X : Mx) (v0 : Option Nat) {k0 : Unit → Hp → Option (Int32 × Hp)} (hk0 : ∀ (a : Unit) (σ : Hp), GG X mi_X3_countWays (QM X rI) 39 [(0, vA v0)] [] σ (k0 a σ)) : ∀ (m : Nat) (a : Int32) (σ : Hp), GG X mi_X3_countWays (QM X rI) 2 [(0, vA v0), (1, vI a)] [] σ (lp m (f_X3_countWays_b2 v0 k0) a σ) := by
  refine g_lp (fun (a : Int32) => [(0, vA v0), (1, vI a)]) ?_
  intro ag hag a σ
  unfold f_X3_countWays_b2
  refine g_iload_n 1 dX3_countWays_2 rfl rfl ?_
  refine g_aload_n 0 dX3_countWays_3 rfl rfl ?_
  refine g_callV_I (mm_X3_night _ _) rfl zc_2 q1447 q1449 qs83 q109 q1450 dv_X3_night rfl (Nat.le_of_ble_eq_true rfl) (Nat.le_of_ble_eq_true rfl) (Nat.le_of_ble_eq_true rfl) dX3_countWays_4 fun x1 σ => ?_
  refine g_icmp_gt 39 dX3_countWays_7 (by decide) ?_ ?_
  · exact g_jmp (hk0 _ _) rfl
  · refine g_aload_n 0 dX3_countWays_10 rfl rfl ?_
    refine g_getR fo_2_38 q1094 dX3_countWays_11 fun y2 => ?_
    refine g_aload_n 0 dX3_countWays_14 rfl rfl ?_
    refine g_getI fo_2_3 (by decide) q1059 dX3_countWays_15 fun x3 => ?_
    refine g_bipush 8 dX3_countWays_18 (by decide) ?_
    refine g_ishl dX3_countWays_20 ?_
    refine g_iload_n 1 dX3_countWays_21 rfl rfl ?_
    refine g_ior dX3_countWays_22 ?_
    refine g_iload_n 1 dX3_countWays_23 rfl rfl ?_
    refine g_jn (fun j5 => ∀ (a4 : Int32) (σ : Hp), GG X mi_X3_countWays (QM X rI) 32 [(0, vA v0), (1, vI a)] [vI a4, vI ((shl x3 8) ||| a), vA y2] σ (j5 a4 σ)) ?_ ?_
    · intro a4 σ
      refine g_iastore dX3_countWays_32 fun σ => ?_
      refine g_iinc 1 dX3_countWays_33 (by decide) rfl (lt_b rfl) ?_
      refine g_goto 2 dX3_countWays_36 (by decide) ?_
      exact g_jmp (hag _ _) rfl
    · intro j5 hj5
      refine g_if_ne 31 dX3_countWays_24 (by decide) ?_ ?_
      · refine g_iconst 0 dX3_countWays_31 (by decide) ?_
        exact g_jmp (hj5 _ _) rfl
      · refine g_iconst 1 dX3_countWays_27 (by decide) ?_
        refine g_goto 32 dX3_countWays_28 (by decide) ?_
        exact g_jmp (hj5 _ _) rfl
theorem ok_X3_countWays_b52 (X : Mx) (v0 : Option Nat) (v1 : Int32) {k0 : Unit → Hp → Option (Int32 × Hp)} (hk0 : ∀ (a : Unit) (σ : Hp), GG X mi_X3_countWays (QM X rI) 78 [(0, vA v0), (1, vI v1)] [] σ (k0 a σ)) : ∀ (m : Nat) (a : Int32) (σ : Hp), GG X mi_X3_countWays (QM X rI) 52 [(0, vA v0), (1, vI v1), (2, vI a)] [] σ (lp m (f_X3_countWays_b52 v0 v1 k0) a σ) := by
  refine g_lp (fun (a : Int32) => [(0, vA v0), (1, vI v1), (2, vI a)]) ?_
  intro ag hag a σ
  unfold f_X3_countWays_b52
  refine g_iload_n 2 dX3_countWays_52 rfl rfl ?_
  refine g_aload_n 0 dX3_countWays_53 rfl rfl ?_
  refine g_callV_I (mm_X3_night _ _) rfl zc_2 q1447 q1449 qs83 q109 q1450 dv_X3_night rfl (Nat.le_of_ble_eq_true rfl) (Nat.le_of_ble_eq_true rfl) (Nat.le_of_ble_eq_true rfl) dX3_countWays_54 fun x8 σ => ?_
  refine g_icmp_gt 78 dX3_countWays_57 (by decide) ?_ ?_
  · exact g_jmp (hk0 _ _) rfl
  · refine g_aload_n 0 dX3_countWays_60 rfl rfl ?_
    refine g_getR fo_2_38 q1094 dX3_countWays_61 fun y9 => ?_
    refine g_iload_n 1 dX3_countWays_64 rfl rfl ?_
    refine g_bipush 8 dX3_countWays_65 (by decide) ?_
    refine g_ishl dX3_countWays_67 ?_
    refine g_iload_n 2 dX3_countWays_68 rfl rfl ?_
    refine g_ior dX3_countWays_69 ?_
    refine g_iconst 0 dX3_countWays_70 (by decide) ?_
    refine g_iastore dX3_countWays_71 fun σ => ?_
    refine g_iinc 1 dX3_countWays_72 (by decide) rfl (lt_b rfl) ?_
    refine g_goto 52 dX3_countWays_75 (by decide) ?_
    exact g_jmp (hag _ _) rfl
theorem ok_X3_countWays_b113 (X : Mx) (v0 : Option Nat) (v1 : Int32) (v2 : Int32) (v3 : Int32) {k0 : Unit → Hp → Option (Int32 × Hp)} (hk0 : ∀ (a : Unit) (σ : Hp), GG X mi_X3_countWays (QM X rI) 169 [(0, vA v0), (1, vI v1), (2, vI v2)] [] σ (k0 a σ)) : ∀ (m : Nat) (a : Int32) (σ : Hp), GG X mi_X3_countWays (QM X rI) 113 [(0, vA v0), (1, vI v1), (2, vI v2), (3, vI v3), (4, vI a)] [] σ (lp m (f_X3_countWays_b113 v0 v1 v2 v3 k0) a σ) := by
  refine g_lp (fun (a : Int32) => [(0, vA v0), (1, vI v1), (2, vI v2), (3, vI v3), (4, vI a)]) ?_
  intro ag hag a σ
  unfold f_X3_countWays_b113
  refine g_iload dX3_countWays_113 rfl ?_
  refine g_if_lt 169 dX3_countWays_115 (by decide) ?_ ?_
  · exact g_jmp (hk0 _ _) rfl
  · refine g_aload_n 0 dX3_countWays_118 rfl rfl ?_
    refine g_getR fo_2_38 q1094 dX3_countWays_119 fun y21 => ?_
    refine g_iload_n 1 dX3_countWays_122 rfl rfl ?_
    refine g_bipush 8 dX3_countWays_123 (by decide) ?_
    refine g_ishl dX3_countWays_125 ?_
    refine g_iload dX3_countWays_126 rfl ?_
    refine g_ior dX3_countWays_128 ?_
    refine g_iload_n 2 dX3_countWays_129 rfl rfl ?_
    refine g_ior dX3_countWays_130 ?_
    refine g_dup2 dX3_countWays_131 rfl rfl ?_
    refine g_iaload dX3_countWays_132 fun x22 => ?_
    refine g_aload_n 0 dX3_countWays_133 rfl rfl ?_
    refine g_getR fo_2_38 q1094 dX3_countWays_134 fun y23 => ?_
    refine g_iload_n 1 dX3_countWays_137 rfl rfl ?_
    refine g_iconst 1 dX3_countWays_138 (by decide) ?_
    refine g_iadd dX3_countWays_139 ?_
    refine g_bipush 8 dX3_countWays_140 (by decide) ?_
    refine g_ishl dX3_countWays_142 ?_
    refine g_iload dX3_countWays_143 rfl ?_
    refine g_ior dX3_countWays_145 ?_
    refine g_iaload dX3_countWays_146 fun x24 => ?_
    refine g_iadd dX3_countWays_147 ?_
    refine g_iastore dX3_countWays_148 fun σ => ?_
    refine g_iload dX3_countWays_149 rfl ?_
    refine g_jn (fun j26 => ∀ (a25 : Int32) (σ : Hp), GG X mi_X3_countWays (QM X rI) 164 [(0, vA v0), (1, vI v1), (2, vI v2), (3, vI v3)] [vI a25] σ (j26 a25 σ)) ?_ ?_
    · intro a25 σ
      refine g_istore dX3_countWays_164 (lt_b rfl) ?_
      refine g_goto 113 dX3_countWays_166 (by decide) ?_
      exact g_jmp (hag _ _) rfl
    · intro j26 hj26
      refine g_if_ne 158 dX3_countWays_151 (by decide) ?_ ?_
      · refine g_iload dX3_countWays_158 rfl ?_
        refine g_iconst 1 dX3_countWays_160 (by decide) ?_
        refine g_isub dX3_countWays_161 ?_
        refine g_iload_n 3 dX3_countWays_162 rfl rfl ?_
        refine g_iand dX3_countWays_163 ?_
        exact g_jmp (hj26 _ _) rfl
      · refine g_iconst (-1) dX3_countWays_154 (by decide) ?_
        refine g_goto 164 dX3_countWays_155 (by decide) ?_
        exact g_jmp (hj26 _ _) rfl
theorem ok_X3_countWays_b85 (X : Mx) (v0 : Option Nat) (v1 : Int32) {k0 : Unit → Hp → Option (Int32 × Hp)} (hk0 : ∀ (a : Unit) (σ : Hp), GG X mi_X3_countWays (QM X rI) 191 [(0, vA v0), (1, vI v1)] [] σ (k0 a σ)) : ∀ (m : Nat) (a : Int32) (σ : Hp), GG X mi_X3_countWays (QM X rI) 85 [(0, vA v0), (1, vI v1), (2, vI a)] [] σ (lp m (f_X3_countWays_b85 v0 v1 k0) a σ) := by
  refine g_lp (fun (a : Int32) => [(0, vA v0), (1, vI v1), (2, vI a)]) ?_
  intro ag hag a σ
  unfold f_X3_countWays_b85
  refine g_iload_n 2 dX3_countWays_85 rfl rfl ?_
  refine g_if_lt 191 dX3_countWays_86 (by decide) ?_ ?_
  · exact g_jmp (hk0 _ _) rfl
  · refine g_aload_n 0 dX3_countWays_89 rfl rfl ?_
    refine g_iload_n 1 dX3_countWays_90 rfl rfl ?_
    refine g_iload_n 2 dX3_countWays_91 rfl rfl ?_
    refine g_callV_I (mm_X3_canTake _ _ _ _) rfl zc_2 q1455 q1457 qs85 q109 q1458 dv_X3_canTake rfl (Nat.le_of_ble_eq_true rfl) (Nat.le_of_ble_eq_true rfl) (Nat.le_of_ble_eq_true rfl) dX3_countWays_92 fun x13 σ => ?_
    refine g_jn (fun j15 => ∀ (a14 : Unit) (σ : Hp), GG X mi_X3_countWays (QM X rI) 169 [(0, vA v0), (1, vI v1), (2, vI a)] [] σ (j15 a14 σ)) ?_ ?_
    · intro a14 σ
      refine g_iload_n 2 dX3_countWays_169 rfl rfl ?_
      refine g_jn (fun j17 => ∀ (a16 : Int32) (σ : Hp), GG X mi_X3_countWays (QM X rI) 187 [(0, vA v0), (1, vI v1)] [vI a16] σ (j17 a16 σ)) ?_ ?_
      · intro a16 σ
        refine g_istore_n 2 dX3_countWays_187 rfl (lt_b rfl) ?_
        refine g_goto 85 dX3_countWays_188 (by decide) ?_
        exact g_jmp (hag _ _) rfl
      · intro j17 hj17
        refine g_if_ne 177 dX3_countWays_170 (by decide) ?_ ?_
        · refine g_iload_n 2 dX3_countWays_177 rfl rfl ?_
          refine g_iconst 1 dX3_countWays_178 (by decide) ?_
          refine g_isub dX3_countWays_179 ?_
          refine g_aload_n 0 dX3_countWays_180 rfl rfl ?_
          refine g_getR fo_2_32 q1088 dX3_countWays_181 fun y18 => ?_
          refine g_iload_n 1 dX3_countWays_184 rfl rfl ?_
          refine g_iaload dX3_countWays_185 fun x19 => ?_
          refine g_iand dX3_countWays_186 ?_
          exact g_jmp (hj17 _ _) rfl
        · refine g_iconst (-1) dX3_countWays_173 (by decide) ?_
          refine g_goto 187 dX3_countWays_174 (by decide) ?_
          exact g_jmp (hj17 _ _) rfl
    · intro j15 hj15
      refine g_if_ne 101 dX3_countWays_95 (by decide) ?_ ?_
      · refine g_aload_n 0 dX3_countWays_101 rfl rfl ?_
        refine g_callV_I (mm_X3_night _ _) rfl zc_2 q1447 q1449 qs83 q109 q1450 dv_X3_night rfl (Nat.le_of_ble_eq_true rfl) (Nat.le_of_ble_eq_true rfl) (Nat.le_of_ble_eq_true rfl) dX3_countWays_102 fun x20 σ => ?_
        refine g_iload_n 2 dX3_countWays_105 rfl rfl ?_
        refine g_iconst (-1) dX3_countWays_106 (by decide) ?_
        refine g_ixor dX3_countWays_107 ?_
        refine g_iand dX3_countWays_108 ?_
        refine g_istore_n 3 dX3_countWays_109 rfl (lt_b rfl) ?_
        refine g_iload_n 3 dX3_countWays_110 rfl rfl ?_
        refine g_istore dX3_countWays_111 (lt_b rfl) ?_
        refine g_jmp (ok_X3_countWays_b113 X v0 v1 a (x20 &&& (a ^^^ (-1))) ?_ _ _ _) rfl
        · intro a27 σ
          exact g_jmp (hj15 _ _) rfl
      · refine g_goto 169 dX3_countWays_98 (by decide) ?_
        exact g_jmp (hj15 _ _) rfl
theorem ok_X3_countWays_b46 (X : Mx) (v0 : Option Nat) {k0 : Unit → Hp → Option (Int32 × Hp)} (hk0 : ∀ (a : Unit) (σ : Hp), GG X mi_X3_countWays (QM X rI) 197 [(0, vA v0)] [] σ (k0 a σ)) : ∀ (m : Nat) (a : Int32) (σ : Hp), GG X mi_X3_countWays (QM X rI) 46 [(0, vA v0), (1, vI a)] [] σ (lp m (f_X3_countWays_b46 v0 k0) a σ) := by
  refine g_lp (fun (a : Int32) => [(0, vA v0), (1, vI a)]) ?_
  intro ag hag a σ
  unfold f_X3_countWays_b46
  refine g_iload_n 1 dX3_countWays_46 rfl rfl ?_
  refine g_if_lt 197 dX3_countWays_47 (by decide) ?_ ?_
  · exact g_jmp (hk0 _ _) rfl
  · refine g_iconst 0 dX3_countWays_50 (by decide) ?_
    refine g_istore_n 2 dX3_countWays_51 rfl (lt_b rfl) ?_
    refine g_jmp (ok_X3_countWays_b52 X v0 a ?_ _ _ _) rfl
    · intro a10 σ
      refine g_aload_n 0 dX3_countWays_78 rfl rfl ?_
      refine g_getR fo_2_32 q1088 dX3_countWays_79 fun y11 => ?_
      refine g_iload_n 1 dX3_countWays_82 rfl rfl ?_
      refine g_iaload dX3_countWays_83 fun x12 => ?_
      refine g_istore_n 2 dX3_countWays_84 rfl (lt_b rfl) ?_
      refine g_jmp (ok_X3_countWays_b85 X v0 a ?_ _ _ _) rfl
      · intro a28 σ
        refine g_iinc (-1) dX3_countWays_191 (by decide) rfl (lt_b rfl) ?_
        refine g_goto 46 dX3_countWays_194 (by decide) ?_
        exact g_jmp (hag _ _) rfl
theorem mm_X3_countWays (v0 : Option Nat) (σ : Hp) : MM yX3_countWays mi_X3_countWays rI [vA v0] σ (f_X3_countWays v0 σ) := by
  refine mm_of (by decide +kernel) rfl rfl (Nat.le_of_ble_eq_true rfl) ?_
  intro X
  unfold f_X3_countWays
  refine g_iconst 0 dX3_countWays_0 (by decide) ?_
  refine g_istore_n 1 dX3_countWays_1 rfl (lt_b rfl) ?_
  refine g_jmp (ok_X3_countWays_b2 X v0 ?_ _ _ _) rfl
  · intro a6 σ
    refine g_aload_n 0 dX3_countWays_39 rfl rfl ?_
    refine g_getI fo_2_3 (by decide) q1059 dX3_countWays_40 fun x7 => ?_
    refine g_iconst 1 dX3_countWays_43 (by decide) ?_
    refine g_isub dX3_countWays_44 ?_
    refine g_istore_n 1 dX3_countWays_45 rfl (lt_b rfl) ?_
    refine g_jmp (ok_X3_countWays_b46 X v0 ?_ _ _ _) rfl
    · intro a29 σ
      refine g_aload_n 0 dX3_countWays_197 rfl rfl ?_
      refine g_getR fo_2_38 q1094 dX3_countWays_198 fun y30 => ?_
      refine g_aload_n 0 dX3_countWays_201 rfl rfl ?_
      refine g_callV_I (mm_X3_night _ _) rfl zc_2 q1447 q1449 qs83 q109 q1450 dv_X3_night rfl (Nat.le_of_ble_eq_true rfl) (Nat.le_of_ble_eq_true rfl) (Nat.le_of_ble_eq_true rfl) dX3_countWays_202 fun x31 σ => ?_
      refine g_iaload dX3_countWays_205 fun x32 => ?_
      exact g_iret rfl dX3_countWays_206
theorem dd_X3_countWays : yX3_countWays.cls ≠ "java/lang/invoke/MethodHandle" ∧ yX3_countWays.cls ≠ "java/lang/invoke/VarHandle" ∧ (parseMethodDescriptor yX3_countWays.desc).map (fun d => d.parameters.length) = some 0 := by decide +kernel
theorem dv_X3_countWays : yX3_countWays.cls = RX3 ∧ yX3_countWays.cls ≠ "java/lang/invoke/MethodHandle" ∧ yX3_countWays.cls ≠ "java/lang/invoke/VarHandle" ∧ (parseMethodDescriptor yX3_countWays.desc).map (fun d => d.parameters.length) = some 0 := ⟨rfl, dd_X3_countWays⟩
/-! RockingHorseModel.thin()I -/
abbrev mi_X3_thin : Mi := (cX3_thin, 3, "RockingHorseModel", 2, some .int, "thin")
def f_X3_thin_b9 (v0 : Option Nat) (k0 : Int32 → Hp → Option (Int32 × Hp)) (ag : (Int32 × Int32) → Hp → Option (Int32 × Hp)) (a : Int32 × Int32) (σ : Hp) : Option (Int32 × Hp) :=
  gI 2 1 σ v0 fun x1 =>
  if x1 ≤ a.2 then
    k0 a.1 σ
  else
    ob 2 σ v0 fun _ => bnd (f_X3_ableMany v0 a.2 σ) fun x2 σ =>
    ob 2 σ v0 fun _ => bnd (f_X3_ableMany v0 a.1 σ) fun x3 σ =>
    jn (fun (a4 : Int32) σ =>
        ag (a4, (a.2 + 1)) σ) fun j5 =>
    if x3 ≤ x2 then
      j5 a.1 σ
    else
      j5 a.2 σ
def f_X3_thin (v0 : Option Nat) (σ : Hp) : Option (Int32 × Hp) :=
  pI 0 2 11 σ v0 0 fun σ =>
  lp 2000 (f_X3_thin_b9 v0 (fun (a6 : Int32) σ =>
      pI 0 2 10 σ v0 0 fun σ =>
      ob 2 σ v0 fun _ => bnd (f_X3_ableMany v0 a6 σ) fun x7 σ =>
      ob 2 σ v0 fun _ => bnd (f_X3_tell v0 (Int32.toInt64 x7) σ) fun _ σ =>
      some (a6, σ))) (0, 1) σ
theorem ok_X3_thin_b9 (X : Mx) (v0 : Option Nat) {k0 : Int32 → Hp → Option (Int32 × Hp)} (hk0 : ∀ (a : Int32) (σ : Hp), GG X mi_X3_thin (QM X rI) 38 [(0, vA v0), (1, vI a)] [] σ (k0 a σ)) : ∀ (m : Nat) (a : Int32 × Int32) (σ : Hp), GG X mi_X3_thin (QM X rI) 9 [(0, vA v0), (1, vI a.1), (2, vI a.2)] [] σ (lp m (f_X3_thin_b9 v0 k0) a σ) := by
  refine g_lp (fun (a : Int32 × Int32) => [(0, vA v0), (1, vI a.1), (2, vI a.2)]) ?_
  intro ag hag a σ
  unfold f_X3_thin_b9
  refine g_iload_n 2 dX3_thin_9 rfl rfl ?_
  refine g_aload_n 0 dX3_thin_10 rfl rfl ?_
  refine g_getI fo_2_1 (by decide) q1057 dX3_thin_11 fun x1 => ?_
  refine g_icmp_ge 38 dX3_thin_14 (by decide) ?_ ?_
  · exact g_jmp (hk0 _ _) rfl
  · refine g_aload_n 0 dX3_thin_17 rfl rfl ?_
    refine g_iload_n 2 dX3_thin_18 rfl rfl ?_
    refine g_callV_I (mm_X3_ableMany _ _ _) rfl zc_2 q1555 q1557 qs97 q109 q1558 dv_X3_ableMany rfl (Nat.le_of_ble_eq_true rfl) (Nat.le_of_ble_eq_true rfl) (Nat.le_of_ble_eq_true rfl) dX3_thin_19 fun x2 σ => ?_
    refine g_aload_n 0 dX3_thin_22 rfl rfl ?_
    refine g_iload_n 1 dX3_thin_23 rfl rfl ?_
    refine g_callV_I (mm_X3_ableMany _ _ _) rfl zc_2 q1555 q1557 qs97 q109 q1558 dv_X3_ableMany rfl (Nat.le_of_ble_eq_true rfl) (Nat.le_of_ble_eq_true rfl) (Nat.le_of_ble_eq_true rfl) dX3_thin_24 fun x3 σ => ?_
    refine g_jn (fun j5 => ∀ (a4 : Int32) (σ : Hp), GG X mi_X3_thin (QM X rI) 32 [(0, vA v0), (1, vI a4), (2, vI a.2)] [] σ (j5 a4 σ)) ?_ ?_
    · intro a4 σ
      refine g_iinc 1 dX3_thin_32 (by decide) rfl (lt_b rfl) ?_
      refine g_goto 9 dX3_thin_35 (by decide) ?_
      exact g_jmp (hag _ _) rfl
    · intro j5 hj5
      refine g_icmp_ge 32 dX3_thin_27 (by decide) ?_ ?_
      · exact g_jmp (hj5 _ _) rfl
      · refine g_iload_n 2 dX3_thin_30 rfl rfl ?_
        refine g_istore_n 1 dX3_thin_31 rfl (lt_b rfl) ?_
        exact g_jmp (hj5 _ _) rfl
theorem mm_X3_thin (v0 : Option Nat) (σ : Hp) : MM yX3_thin mi_X3_thin rI [vA v0] σ (f_X3_thin v0 σ) := by
  refine mm_of (by decide +kernel) rfl rfl (Nat.le_of_ble_eq_true rfl) ?_
  intro X
  unfold f_X3_thin
  refine g_aload_n 0 dX3_thin_0 rfl rfl ?_
  refine g_iconst 0 dX3_thin_1 (by decide) ?_
  refine g_putI fo_2_11 (by decide) rfl q1067 dX3_thin_2 fun σ => ?_
  refine g_iconst 0 dX3_thin_5 (by decide) ?_
  refine g_istore_n 1 dX3_thin_6 rfl (lt_b rfl) ?_
  refine g_iconst 1 dX3_thin_7 (by decide) ?_
  refine g_istore_n 2 dX3_thin_8 rfl (lt_b rfl) ?_
  refine g_jmp (ok_X3_thin_b9 X v0 ?_ _ _ _) rfl
  · intro a6 σ
    refine g_aload_n 0 dX3_thin_38 rfl rfl ?_
    refine g_iconst 0 dX3_thin_39 (by decide) ?_
    refine g_putI fo_2_10 (by decide) rfl q1066 dX3_thin_40 fun σ => ?_
    refine g_aload_n 0 dX3_thin_43 rfl rfl ?_
    refine g_aload_n 0 dX3_thin_44 rfl rfl ?_
    refine g_iload_n 1 dX3_thin_45 rfl rfl ?_
    refine g_callV_I (mm_X3_ableMany _ _ _) rfl zc_2 q1555 q1557 qs97 q109 q1558 dv_X3_ableMany rfl (Nat.le_of_ble_eq_true rfl) (Nat.le_of_ble_eq_true rfl) (Nat.le_of_ble_eq_true rfl) dX3_thin_46 fun x7 σ => ?_
    refine g_i2l dX3_thin_49 ?_
    refine g_callV_V (mm_X3_tell _ _ _) rfl zc_2 q1382 q1384 qs75 q109 q1385 dv_X3_tell rfl (Nat.le_of_ble_eq_true rfl) (Nat.le_of_ble_eq_true rfl) (Nat.le_of_ble_eq_true rfl) dX3_thin_50 fun _ σ => ?_
    refine g_iload_n 1 dX3_thin_53 rfl rfl ?_
    exact g_iret rfl dX3_thin_54
theorem dd_X3_thin : yX3_thin.cls ≠ "java/lang/invoke/MethodHandle" ∧ yX3_thin.cls ≠ "java/lang/invoke/VarHandle" ∧ (parseMethodDescriptor yX3_thin.desc).map (fun d => d.parameters.length) = some 0 := by decide +kernel
theorem dv_X3_thin : yX3_thin.cls = RX3 ∧ yX3_thin.cls ≠ "java/lang/invoke/MethodHandle" ∧ yX3_thin.cls ≠ "java/lang/invoke/VarHandle" ∧ (parseMethodDescriptor yX3_thin.desc).map (fun d => d.parameters.length) = some 0 := ⟨rfl, dd_X3_thin⟩
/-! RockingHorseModel.heldParts(II)J -/
abbrev mi_X3_heldParts : Mi := (cX3_heldParts, 8, "RockingHorseModel", 1, some .long, "heldParts")
def f_X3_heldParts_b11 (v0 : Option Nat) (v1 : Int32) (v2 : Int32) (v5 : Int32) (k0 : Int64 → Hp → Option (Int64 × Hp)) (ag : (Int64 × Int32) → Hp → Option (Int64 × Hp)) (a : Int64 × Int32) (σ : Hp) : Option (Int64 × Hp) :=
  if v1 < a.2 then
    k0 a.1 σ
  else
    jn (fun (a2 : Int64) σ =>
        ag (a2, (a.2 + 1)) σ) fun j3 =>
    if (a.2 &&& (v1 ^^^ (-1))) = 0 then
      gR 2 41 σ v0 fun y4 =>
      lI 102 σ y4 a.2 fun x5 =>
      if x5 = 0 then
        j3 a.1 σ
      else
        bnd (f_J10_bitCount a.2 σ) fun x6 σ =>
        bnd (f_X3_power (Int32.toInt64 (10 - v2)) x6 σ) fun x7 σ =>
        bnd (f_X3_power (Int32.toInt64 v2) (v5 - x6) σ) fun x8 σ =>
        j3 (a.1 + (x7 * x8)) σ
    else
      j3 a.1 σ
def f_X3_heldParts (v0 : Option Nat) (v1 : Int32) (v2 : Int32) (σ : Hp) : Option (Int64 × Hp) :=
  bnd (f_J10_bitCount v1 σ) fun x1 σ =>
  lp 2000 (f_X3_heldParts_b11 v0 v1 v2 x1 (fun (a9 : Int64) σ =>
      some (a9, σ))) (0, 0) σ
theorem ok_X3_heldParts_b11 (X : Mx) (v0 : Option Nat) (v1 : Int32) (v2 : Int32) (v5 : Int32) {k0 : Int64 → Hp → Option (Int64 × Hp)} (hk0 : ∀ (a : Int64) (σ : Hp), GG X mi_X3_heldParts (QM X rL) 76 [(3, vL a)] [] σ (k0 a σ)) : ∀ (m : Nat) (a : Int64 × Int32) (σ : Hp), GG X mi_X3_heldParts (QM X rL) 11 [(0, vA v0), (1, vI v1), (2, vI v2), (3, vL a.1), (5, vI v5), (6, vI a.2)] [] σ (lp m (f_X3_heldParts_b11 v0 v1 v2 v5 k0) a σ) := by
  refine g_lp (fun (a : Int64 × Int32) => [(0, vA v0), (1, vI v1), (2, vI v2), (3, vL a.1), (5, vI v5), (6, vI a.2)]) ?_
  intro ag hag a σ
  unfold f_X3_heldParts_b11
  refine g_iload dX3_heldParts_11 rfl ?_
  refine g_iload_n 1 dX3_heldParts_13 rfl rfl ?_
  refine g_icmp_gt 76 dX3_heldParts_14 (by decide) ?_ ?_
  · exact g_jmp (hk0 _ _) rfl
  · refine g_iload dX3_heldParts_17 rfl ?_
    refine g_iload_n 1 dX3_heldParts_19 rfl rfl ?_
    refine g_iconst (-1) dX3_heldParts_20 (by decide) ?_
    refine g_ixor dX3_heldParts_21 ?_
    refine g_iand dX3_heldParts_22 ?_
    refine g_jn (fun j3 => ∀ (a2 : Int64) (σ : Hp), GG X mi_X3_heldParts (QM X rL) 70 [(0, vA v0), (1, vI v1), (2, vI v2), (3, vL a2), (5, vI v5), (6, vI a.2)] [] σ (j3 a2 σ)) ?_ ?_
    · intro a2 σ
      refine g_iinc 1 dX3_heldParts_70 (by decide) rfl (lt_b rfl) ?_
      refine g_goto 11 dX3_heldParts_73 (by decide) ?_
      exact g_jmp (hag _ _) rfl
    · intro j3 hj3
      refine g_if_ne 70 dX3_heldParts_23 (by decide) ?_ ?_
      · exact g_jmp (hj3 _ _) rfl
      · refine g_aload_n 0 dX3_heldParts_26 rfl rfl ?_
        refine g_getR fo_2_41 q1097 dX3_heldParts_27 fun y4 => ?_
        refine g_iload dX3_heldParts_30 rfl ?_
        refine g_zaload dX3_heldParts_32 fun x5 => ?_
        refine g_if_ne 39 dX3_heldParts_33 (by decide) ?_ ?_
        · refine g_iload dX3_heldParts_39 rfl ?_
          refine g_callS_I (mm_J10_bitCount _ _) rfl q1328 q600 q125 q601 dd_J10_bitCount rfl (Nat.le_of_ble_eq_true rfl) (Nat.le_of_ble_eq_true rfl) (Nat.le_of_ble_eq_true rfl) dX3_heldParts_41 fun x6 σ => ?_
          refine g_istore dX3_heldParts_44 (lt_b rfl) ?_
          refine g_lload_n 3 dX3_heldParts_46 rfl rfl ?_
          refine g_bipush 10 dX3_heldParts_47 (by decide) ?_
          refine g_iload_n 2 dX3_heldParts_49 rfl rfl ?_
          refine g_isub dX3_heldParts_50 ?_
          refine g_i2l dX3_heldParts_51 ?_
          refine g_iload dX3_heldParts_52 rfl ?_
          refine g_callS_L (mm_X3_power _ _ _) rfl q1622 q1623 q109 q1624 dd_X3_power rfl (Nat.le_of_ble_eq_true rfl) (Nat.le_of_ble_eq_true rfl) (Nat.le_of_ble_eq_true rfl) dX3_heldParts_54 fun x7 σ => ?_
          refine g_iload_n 2 dX3_heldParts_57 rfl rfl ?_
          refine g_i2l dX3_heldParts_58 ?_
          refine g_iload dX3_heldParts_59 rfl ?_
          refine g_iload dX3_heldParts_61 rfl ?_
          refine g_isub dX3_heldParts_63 ?_
          refine g_callS_L (mm_X3_power _ _ _) rfl q1622 q1623 q109 q1624 dd_X3_power rfl (Nat.le_of_ble_eq_true rfl) (Nat.le_of_ble_eq_true rfl) (Nat.le_of_ble_eq_true rfl) dX3_heldParts_64 fun x8 σ => ?_
          refine g_lmul dX3_heldParts_67 ?_
          refine g_ladd dX3_heldParts_68 ?_
          refine g_lstore_n 3 dX3_heldParts_69 rfl (lt_b rfl) ?_
          exact g_jmp (hj3 _ _) rfl
        · refine g_goto 70 dX3_heldParts_36 (by decide) ?_
          exact g_jmp (hj3 _ _) rfl
theorem mm_X3_heldParts (v0 : Option Nat) (v1 : Int32) (v2 : Int32) (σ : Hp) : MM yX3_heldParts mi_X3_heldParts rL [vA v0, vI v1, vI v2] σ (f_X3_heldParts v0 v1 v2 σ) := by
  refine mm_of (by decide +kernel) rfl rfl (Nat.le_of_ble_eq_true rfl) ?_
  intro X
  unfold f_X3_heldParts
  refine g_lconst 0 dX3_heldParts_0 (by decide) ?_
  refine g_lstore_n 3 dX3_heldParts_1 rfl (lt_b rfl) ?_
  refine g_iload_n 1 dX3_heldParts_2 rfl rfl ?_
  refine g_callS_I (mm_J10_bitCount _ _) rfl q1328 q600 q125 q601 dd_J10_bitCount rfl (Nat.le_of_ble_eq_true rfl) (Nat.le_of_ble_eq_true rfl) (Nat.le_of_ble_eq_true rfl) dX3_heldParts_3 fun x1 σ => ?_
  refine g_istore dX3_heldParts_6 (lt_b rfl) ?_
  refine g_iconst 0 dX3_heldParts_8 (by decide) ?_
  refine g_istore dX3_heldParts_9 (lt_b rfl) ?_
  refine g_jmp (ok_X3_heldParts_b11 X v0 v1 v2 x1 ?_ _ _ _) rfl
  · intro a9 σ
    refine g_lload_n 3 dX3_heldParts_76 rfl rfl ?_
    exact g_lret rfl dX3_heldParts_77
theorem dd_X3_heldParts : yX3_heldParts.cls ≠ "java/lang/invoke/MethodHandle" ∧ yX3_heldParts.cls ≠ "java/lang/invoke/VarHandle" ∧ (parseMethodDescriptor yX3_heldParts.desc).map (fun d => d.parameters.length) = some 2 := by decide +kernel
theorem dv_X3_heldParts : yX3_heldParts.cls = RX3 ∧ yX3_heldParts.cls ≠ "java/lang/invoke/MethodHandle" ∧ yX3_heldParts.cls ≠ "java/lang/invoke/VarHandle" ∧ (parseMethodDescriptor yX3_heldParts.desc).map (fun d => d.parameters.length) = some 2 := ⟨rfl, dd_X3_heldParts⟩
/-! RockingHorseModel.isRest(IIII)Z -/
abbrev mi_X3_isRest : Mi := (cX3_isRest, 5, "RockingHorseModel", 1, some .boolean, "isRest")
def f_X3_isRest_b3 (v0 : Int32) (v1 : Int32) (v2 : Int32) (v3 : Int32) (k0 : Unit → Hp → Option (Int32 × Hp)) (k1 : Unit → Hp → Option (Int32 × Hp)) (ag : Int32 → Hp → Option (Int32 × Hp)) (a : Int32) (σ : Hp) : Option (Int32 × Hp) :=
  if 9 < a then
    k0 () σ
  else
    bnd (f_X3_firstGets a v1 v2 σ) fun x1 σ =>
    bnd (f_X3_firstGets v0 v1 v2 σ) fun x2 σ =>
    if x2 < x1 then
      k1 () σ
    else
      bnd (f_X3_otherGets v0 a v3 σ) fun x3 σ =>
      bnd (f_X3_otherGets v0 v1 v3 σ) fun x4 σ =>
      if x3 ≤ x4 then
        ag (a + 1) σ
      else
        k1 () σ
def f_X3_isRest (v0 : Int32) (v1 : Int32) (v2 : Int32) (v3 : Int32) (σ : Hp) : Option (Int32 × Hp) :=
  lp 2000 (f_X3_isRest_b3 v0 v1 v2 v3 (fun (a5 : Unit) σ =>
      rz1 1 σ) (fun (a6 : Unit) σ =>
      rz1 0 σ)) 0 σ
theorem ok_X3_isRest_b3 (X : Mx) (v0 : Int32) (v1 : Int32) (v2 : Int32) (v3 : Int32) {k0 : Unit → Hp → Option (Int32 × Hp)} {k1 : Unit → Hp → Option (Int32 × Hp)} (hk0 : ∀ (a : Unit) (σ : Hp), GG X mi_X3_isRest (QM X rI) 50 [] [] σ (k0 a σ)) (hk1 : ∀ (a : Unit) (σ : Hp), GG X mi_X3_isRest (QM X rI) 42 [] [] σ (k1 a σ)) : ∀ (m : Nat) (a : Int32) (σ : Hp), GG X mi_X3_isRest (QM X rI) 3 [(0, vI v0), (1, vI v1), (2, vI v2), (3, vI v3), (4, vI a)] [] σ (lp m (f_X3_isRest_b3 v0 v1 v2 v3 k0 k1) a σ) := by
  refine g_lp (fun (a : Int32) => [(0, vI v0), (1, vI v1), (2, vI v2), (3, vI v3), (4, vI a)]) ?_
  intro ag hag a σ
  unfold f_X3_isRest_b3
  refine g_iload dX3_isRest_3 rfl ?_
  refine g_bipush 9 dX3_isRest_5 (by decide) ?_
  refine g_icmp_gt 50 dX3_isRest_7 (by decide) ?_ ?_
  · exact g_jmp (hk0 _ _) rfl
  · refine g_iload dX3_isRest_10 rfl ?_
    refine g_iload_n 1 dX3_isRest_12 rfl rfl ?_
    refine g_iload_n 2 dX3_isRest_13 rfl rfl ?_
    refine g_callS_I (mm_X3_firstGets _ _ _ _) rfl q1637 q1638 q109 q1639 dd_X3_firstGets rfl (Nat.le_of_ble_eq_true rfl) (Nat.le_of_ble_eq_true rfl) (Nat.le_of_ble_eq_true rfl) dX3_isRest_14 fun x1 σ => ?_
    refine g_iload_n 0 dX3_isRest_17 rfl rfl ?_
    refine g_iload_n 1 dX3_isRest_18 rfl rfl ?_
    refine g_iload_n 2 dX3_isRest_19 rfl rfl ?_
    refine g_callS_I (mm_X3_firstGets _ _ _ _) rfl q1637 q1638 q109 q1639 dd_X3_firstGets rfl (Nat.le_of_ble_eq_true rfl) (Nat.le_of_ble_eq_true rfl) (Nat.le_of_ble_eq_true rfl) dX3_isRest_20 fun x2 σ => ?_
    refine g_icmp_gt 42 dX3_isRest_23 (by decide) ?_ ?_
    · exact g_jmp (hk1 _ _) rfl
    · refine g_iload_n 0 dX3_isRest_26 rfl rfl ?_
      refine g_iload dX3_isRest_27 rfl ?_
      refine g_iload_n 3 dX3_isRest_29 rfl rfl ?_
      refine g_callS_I (mm_X3_otherGets _ _ _ _) rfl q1640 q1641 q109 q1642 dd_X3_otherGets rfl (Nat.le_of_ble_eq_true rfl) (Nat.le_of_ble_eq_true rfl) (Nat.le_of_ble_eq_true rfl) dX3_isRest_30 fun x3 σ => ?_
      refine g_iload_n 0 dX3_isRest_33 rfl rfl ?_
      refine g_iload_n 1 dX3_isRest_34 rfl rfl ?_
      refine g_iload_n 3 dX3_isRest_35 rfl rfl ?_
      refine g_callS_I (mm_X3_otherGets _ _ _ _) rfl q1640 q1641 q109 q1642 dd_X3_otherGets rfl (Nat.le_of_ble_eq_true rfl) (Nat.le_of_ble_eq_true rfl) (Nat.le_of_ble_eq_true rfl) dX3_isRest_36 fun x4 σ => ?_
      refine g_icmp_le 44 dX3_isRest_39 (by decide) ?_ ?_
      · refine g_iinc 1 dX3_isRest_44 (by decide) rfl (lt_b rfl) ?_
        refine g_goto 3 dX3_isRest_47 (by decide) ?_
        exact g_jmp (hag _ _) rfl
      · exact g_jmp (hk1 _ _) rfl
theorem mm_X3_isRest (v0 : Int32) (v1 : Int32) (v2 : Int32) (v3 : Int32) (σ : Hp) : MM yX3_isRest mi_X3_isRest rI [vI v0, vI v1, vI v2, vI v3] σ (f_X3_isRest v0 v1 v2 v3 σ) := by
  refine mm_of (by decide +kernel) rfl rfl (Nat.le_of_ble_eq_true rfl) ?_
  intro X
  unfold f_X3_isRest
  refine g_iconst 0 dX3_isRest_0 (by decide) ?_
  refine g_istore dX3_isRest_1 (lt_b rfl) ?_
  refine g_jmp (ok_X3_isRest_b3 X v0 v1 v2 v3 ?_ ?_ _ _ _) rfl
  · intro a5 σ
    refine g_iconst 1 dX3_isRest_50 (by decide) ?_
    exact g_zret rfl dX3_isRest_51
  · intro a6 σ
    refine g_iconst 0 dX3_isRest_42 (by decide) ?_
    exact g_zret rfl dX3_isRest_43
theorem dd_X3_isRest : yX3_isRest.cls ≠ "java/lang/invoke/MethodHandle" ∧ yX3_isRest.cls ≠ "java/lang/invoke/VarHandle" ∧ (parseMethodDescriptor yX3_isRest.desc).map (fun d => d.parameters.length) = some 4 := by decide +kernel
/-! java/lang/String.length()I -/
abbrev mi_J1_length : Mi := (cJ1_length, 1, "java/lang/String", 1, some .int, "length")
def f_J1_length (v0 : Nat) (σ : Hp) : Option (Int32 × Hp) :=
  sV v0 <|
  nS (8 + v0) fun x1 =>
  sV v0 <| bnd (f_J1_coder v0 σ) fun x2 σ =>
  some ((shr x1 x2), σ)
theorem mm_J1_length (v0 : Nat) (σ : Hp) : MM yJ1_length mi_J1_length rI [vS v0] σ (f_J1_length v0 σ) := by
  refine mm_of (by decide +kernel) rfl rfl (Nat.le_of_ble_eq_true rfl) ?_
  intro X
  unfold f_J1_length
  refine g_aload_nS 0 dJ1_length_0 rfl rfl ?_
  refine g_strValue q1688 dJ1_length_1 ?_
  refine g_alenS dJ1_length_4 fun x1 => ?_
  refine g_aload_nS 0 dJ1_length_5 rfl rfl ?_
  refine g_callStr_I (mm_J1_coder _ _) rfl q391 q392 q393 q111 q394 dv_J1_coder rfl (Nat.le_of_ble_eq_true rfl) (Nat.le_of_ble_eq_true rfl) (Nat.le_of_ble_eq_true rfl) dJ1_length_6 fun x2 σ => ?_
  refine g_ishr dJ1_length_9 ?_
  exact g_iret rfl dJ1_length_10
theorem dd_J1_length : yJ1_length.cls ≠ "java/lang/invoke/MethodHandle" ∧ yJ1_length.cls ≠ "java/lang/invoke/VarHandle" ∧ (parseMethodDescriptor yJ1_length.desc).map (fun d => d.parameters.length) = some 0 := by decide +kernel
theorem dv_J1_length : yJ1_length.cls = RJ1 ∧ yJ1_length.cls ≠ "java/lang/invoke/MethodHandle" ∧ yJ1_length.cls ≠ "java/lang/invoke/VarHandle" ∧ (parseMethodDescriptor yJ1_length.desc).map (fun d => d.parameters.length) = some 0 := ⟨rfl, dd_J1_length⟩
/-! java/lang/StringLatin1.indexOf([BIII)I -/
abbrev mi_J2_indexOf : Mi := (cJ2_indexOf, 4, "java/lang/StringLatin1", 1, some .int, "indexOf")
def f_J2_indexOf (v0 : Nat) (v1 : Int32) (v2 : Int32) (v3 : Int32) (σ : Hp) : Option (Int32 × Hp) :=
  bnd (f_J2_canEncode v1 σ) fun x1 σ =>
  if x1 = 0 then
    some ((-1), σ)
  else
    nS v0 fun x2 =>
    if (imax v2 0) < (imin v3 x2) then
      bnd (f_J2_indexOfChar v0 v1 (imax v2 0) (imin v3 x2) σ) fun x3 σ =>
      some (x3, σ)
    else
      some ((-1), σ)
theorem mm_J2_indexOf (v0 : Nat) (v1 : Int32) (v2 : Int32) (v3 : Int32) (σ : Hp) : MM yJ2_indexOf mi_J2_indexOf rI [vS v0, vI v1, vI v2, vI v3] σ (f_J2_indexOf v0 v1 v2 v3 σ) := by
  refine mm_of (by decide +kernel) rfl rfl (Nat.le_of_ble_eq_true rfl) ?_
  intro X
  unfold f_J2_indexOf
  refine g_iload_n 1 dJ2_indexOf_0 rfl rfl ?_
  refine g_callS_I (mm_J2_canEncode _ _) rfl q398 q399 q112 q400 dd_J2_canEncode rfl (Nat.le_of_ble_eq_true rfl) (Nat.le_of_ble_eq_true rfl) (Nat.le_of_ble_eq_true rfl) dJ2_indexOf_1 fun x1 σ => ?_
  refine g_if_ne 9 dJ2_indexOf_4 (by decide) ?_ ?_
  · refine g_iload_n 2 dJ2_indexOf_9 rfl rfl ?_
    refine g_iconst 0 dJ2_indexOf_10 (by decide) ?_
    refine g_mmax q401 (by decide) (Nat.le_of_ble_eq_true rfl) dJ2_indexOf_11 ?_
    refine g_istore_n 2 dJ2_indexOf_14 rfl (lt_b rfl) ?_
    refine g_iload_n 3 dJ2_indexOf_15 rfl rfl ?_
    refine g_aload_nS 0 dJ2_indexOf_16 rfl rfl ?_
    refine g_alenS dJ2_indexOf_17 fun x2 => ?_
    refine g_mmin q404 (by decide) (Nat.le_of_ble_eq_true rfl) dJ2_indexOf_18 ?_
    refine g_istore_n 3 dJ2_indexOf_21 rfl (lt_b rfl) ?_
    refine g_iload_n 2 dJ2_indexOf_22 rfl rfl ?_
    refine g_iload_n 3 dJ2_indexOf_23 rfl rfl ?_
    refine g_icmp_lt 29 dJ2_indexOf_24 (by decide) ?_ ?_
    · refine g_aload_nS 0 dJ2_indexOf_29 rfl rfl ?_
      refine g_iload_n 1 dJ2_indexOf_30 rfl rfl ?_
      refine g_iload_n 2 dJ2_indexOf_31 rfl rfl ?_
      refine g_iload_n 3 dJ2_indexOf_32 rfl rfl ?_
      refine g_callS_I (mm_J2_indexOfChar _ _ _ _ _) rfl q405 q406 q112 q407 dd_J2_indexOfChar rfl (Nat.le_of_ble_eq_true rfl) (Nat.le_of_ble_eq_true rfl) (Nat.le_of_ble_eq_true rfl) dJ2_indexOf_33 fun x3 σ => ?_
      exact g_iret rfl dJ2_indexOf_36
    · refine g_iconst (-1) dJ2_indexOf_27 (by decide) ?_
      exact g_iret rfl dJ2_indexOf_28
  · refine g_iconst (-1) dJ2_indexOf_7 (by decide) ?_
    exact g_iret rfl dJ2_indexOf_8
theorem dd_J2_indexOf : yJ2_indexOf.cls ≠ "java/lang/invoke/MethodHandle" ∧ yJ2_indexOf.cls ≠ "java/lang/invoke/VarHandle" ∧ (parseMethodDescriptor yJ2_indexOf.desc).map (fun d => d.parameters.length) = some 4 := by decide +kernel
abbrev mi_X3_heldBy (n : Nat) : Mi := (cX3_heldBy, 3, "RockingHorseModel", 3 + n, some .int, "heldBy")
theorem dd_X3_heldBy : yX3_heldBy.cls ≠ "java/lang/invoke/MethodHandle" ∧ yX3_heldBy.cls ≠ "java/lang/invoke/VarHandle" ∧ (parseMethodDescriptor yX3_heldBy.desc).map (fun d => d.parameters.length) = some 1 := by decide +kernel
theorem dv_X3_heldBy : yX3_heldBy.cls = RX3 ∧ yX3_heldBy.cls ≠ "java/lang/invoke/MethodHandle" ∧ yX3_heldBy.cls ≠ "java/lang/invoke/VarHandle" ∧ (parseMethodDescriptor yX3_heldBy.desc).map (fun d => d.parameters.length) = some 1 := ⟨rfl, dd_X3_heldBy⟩
abbrev mi_X3_sum (n : Nat) : Mi := (cX3_sum, 5, "RockingHorseModel", 3 + n, some .int, "sum")
theorem dd_X3_sum : yX3_sum.cls ≠ "java/lang/invoke/MethodHandle" ∧ yX3_sum.cls ≠ "java/lang/invoke/VarHandle" ∧ (parseMethodDescriptor yX3_sum.desc).map (fun d => d.parameters.length) = some 1 := by decide +kernel
theorem dv_X3_sum : yX3_sum.cls = RX3 ∧ yX3_sum.cls ≠ "java/lang/invoke/MethodHandle" ∧ yX3_sum.cls ≠ "java/lang/invoke/VarHandle" ∧ (parseMethodDescriptor yX3_sum.desc).map (fun d => d.parameters.length) = some 1 := ⟨rfl, dd_X3_sum⟩
abbrev mi_X3_product (n : Nat) : Mi := (cX3_product, 5, "RockingHorseModel", 3 + n, some .int, "product")
theorem dd_X3_product : yX3_product.cls ≠ "java/lang/invoke/MethodHandle" ∧ yX3_product.cls ≠ "java/lang/invoke/VarHandle" ∧ (parseMethodDescriptor yX3_product.desc).map (fun d => d.parameters.length) = some 1 := by decide +kernel
theorem dv_X3_product : yX3_product.cls = RX3 ∧ yX3_product.cls ≠ "java/lang/invoke/MethodHandle" ∧ yX3_product.cls ≠ "java/lang/invoke/VarHandle" ∧ (parseMethodDescriptor yX3_product.desc).map (fun d => d.parameters.length) = some 1 := ⟨rfl, dd_X3_product⟩
abbrev mi_X3_thing (n : Nat) : Mi := (cX3_thing, 4, "RockingHorseModel", 3 + n, some .int, "thing")
theorem dd_X3_thing : yX3_thing.cls ≠ "java/lang/invoke/MethodHandle" ∧ yX3_thing.cls ≠ "java/lang/invoke/VarHandle" ∧ (parseMethodDescriptor yX3_thing.desc).map (fun d => d.parameters.length) = some 1 := by decide +kernel
theorem dv_X3_thing : yX3_thing.cls = RX3 ∧ yX3_thing.cls ≠ "java/lang/invoke/MethodHandle" ∧ yX3_thing.cls ≠ "java/lang/invoke/VarHandle" ∧ (parseMethodDescriptor yX3_thing.desc).map (fun d => d.parameters.length) = some 1 := ⟨rfl, dd_X3_thing⟩
/-! RockingHorseModel.heldBy(I)I -/
def fb_X3_heldBy (rc0 : (Option Nat) → Int32 → Hp → Option (Int32 × Hp)) (rc1 : (Option Nat) → Int32 → Hp → Option (Int32 × Hp)) (rc2 : (Option Nat) → Int32 → Hp → Option (Int32 × Hp)) (rc3 : (Option Nat) → Int32 → Hp → Option (Int32 × Hp)) (v0 : Option Nat) (v1 : Int32) (σ : Hp) : Option (Int32 × Hp) :=
  ob 2 σ v0 fun _ => bnd (rc1 v0 v1 σ) fun x1 σ =>
  ob 2 σ v0 fun _ => bnd (f_X3_passes v0 60 σ) fun x2 σ =>
  if x2 = 0 then
    ob 2 σ v0 fun _ => bnd (f_X3_passes v0 62 σ) fun x3 σ =>
    if x3 = 0 then
      ob 2 σ v0 fun _ => bnd (f_X3_passes v0 61 σ) fun x4 σ =>
      if x4 = 0 then
        some (x1, σ)
      else
        ob 2 σ v0 fun _ => bnd (rc1 v0 v1 σ) fun x5 σ =>
        if x1 = x5 then
          some (1, σ)
        else
          some (0, σ)
    else
      ob 2 σ v0 fun _ => bnd (rc1 v0 v1 σ) fun x6 σ =>
      if x1 ≤ x6 then
        some (0, σ)
      else
        some (1, σ)
  else
    ob 2 σ v0 fun _ => bnd (rc1 v0 v1 σ) fun x7 σ =>
    if x7 ≤ x1 then
      some (0, σ)
    else
      some (1, σ)
theorem mb_X3_heldBy (n : Nat) (rc0 : (Option Nat) → Int32 → Hp → Option (Int32 × Hp)) (rc1 : (Option Nat) → Int32 → Hp → Option (Int32 × Hp)) (rc2 : (Option Nat) → Int32 → Hp → Option (Int32 × Hp)) (rc3 : (Option Nat) → Int32 → Hp → Option (Int32 × Hp)) (ih0 : ∀ (v0 : Option Nat) (v1 : Int32) (σ : Hp), MM yX3_heldBy (mi_X3_heldBy n) rI [vA v0, vI v1] σ (rc0 v0 v1 σ)) (ih1 : ∀ (v0 : Option Nat) (v1 : Int32) (σ : Hp), MM yX3_sum (mi_X3_sum n) rI [vA v0, vI v1] σ (rc1 v0 v1 σ)) (ih2 : ∀ (v0 : Option Nat) (v1 : Int32) (σ : Hp), MM yX3_product (mi_X3_product n) rI [vA v0, vI v1] σ (rc2 v0 v1 σ)) (ih3 : ∀ (v0 : Option Nat) (v1 : Int32) (σ : Hp), MM yX3_thing (mi_X3_thing n) rI [vA v0, vI v1] σ (rc3 v0 v1 σ)) : ∀ (v0 : Option Nat) (v1 : Int32) (σ : Hp), MM yX3_heldBy (mi_X3_heldBy (n + 1)) rI [vA v0, vI v1] σ (fb_X3_heldBy rc0 rc1 rc2 rc3 v0 v1 σ) := by
  intro v0 v1 σ
  refine mm_of (by decide +kernel) rfl rfl (Nat.le_of_ble_eq_true rfl) ?_
  intro X
  unfold fb_X3_heldBy
  refine g_aload_n 0 dX3_heldBy_0 rfl rfl ?_
  refine g_iload_n 1 dX3_heldBy_1 rfl rfl ?_
  refine g_callV_I (ih1 _ _ _) rfl zc_2 q1278 q1280 qs61 q109 q1281 dv_X3_sum rfl (Nat.le_refl _) (Nat.le_of_ble_eq_true rfl) (Nat.le_of_ble_eq_true rfl) dX3_heldBy_2 fun x1 σ => ?_
  refine g_istore_n 2 dX3_heldBy_5 rfl (lt_b rfl) ?_
  refine g_aload_n 0 dX3_heldBy_6 rfl rfl ?_
  refine g_bipush 60 dX3_heldBy_7 (by decide) ?_
  refine g_callV_I (mm_X3_passes _ _ _) rfl zc_2 q1258 q1260 qs57 q109 q1261 dv_X3_passes rfl (by show 1 + 1 ≤ 3 + (n + 1); omega) (Nat.le_of_ble_eq_true rfl) (Nat.le_of_ble_eq_true rfl) dX3_heldBy_9 fun x2 σ => ?_
  refine g_if_eq 30 dX3_heldBy_12 (by decide) ?_ ?_
  · refine g_aload_n 0 dX3_heldBy_30 rfl rfl ?_
    refine g_bipush 62 dX3_heldBy_31 (by decide) ?_
    refine g_callV_I (mm_X3_passes _ _ _) rfl zc_2 q1258 q1260 qs57 q109 q1261 dv_X3_passes rfl (by show 1 + 1 ≤ 3 + (n + 1); omega) (Nat.le_of_ble_eq_true rfl) (Nat.le_of_ble_eq_true rfl) dX3_heldBy_33 fun x3 σ => ?_
    refine g_if_eq 54 dX3_heldBy_36 (by decide) ?_ ?_
    · refine g_aload_n 0 dX3_heldBy_54 rfl rfl ?_
      refine g_bipush 61 dX3_heldBy_55 (by decide) ?_
      refine g_callV_I (mm_X3_passes _ _ _) rfl zc_2 q1258 q1260 qs57 q109 q1261 dv_X3_passes rfl (by show 1 + 1 ≤ 3 + (n + 1); omega) (Nat.le_of_ble_eq_true rfl) (Nat.le_of_ble_eq_true rfl) dX3_heldBy_57 fun x4 σ => ?_
      refine g_if_eq 78 dX3_heldBy_60 (by decide) ?_ ?_
      · refine g_iload_n 2 dX3_heldBy_78 rfl rfl ?_
        exact g_iret rfl dX3_heldBy_79
      · refine g_iload_n 2 dX3_heldBy_63 rfl rfl ?_
        refine g_aload_n 0 dX3_heldBy_64 rfl rfl ?_
        refine g_iload_n 1 dX3_heldBy_65 rfl rfl ?_
        refine g_callV_I (ih1 _ _ _) rfl zc_2 q1278 q1280 qs61 q109 q1281 dv_X3_sum rfl (Nat.le_refl _) (Nat.le_of_ble_eq_true rfl) (Nat.le_of_ble_eq_true rfl) dX3_heldBy_66 fun x5 σ => ?_
        refine g_icmp_ne 76 dX3_heldBy_69 (by decide) ?_ ?_
        · refine g_iconst 0 dX3_heldBy_76 (by decide) ?_
          exact g_iret rfl dX3_heldBy_77
        · refine g_iconst 1 dX3_heldBy_72 (by decide) ?_
          refine g_goto 77 dX3_heldBy_73 (by decide) ?_
          exact g_iret rfl dX3_heldBy_77
    · refine g_iload_n 2 dX3_heldBy_39 rfl rfl ?_
      refine g_aload_n 0 dX3_heldBy_40 rfl rfl ?_
      refine g_iload_n 1 dX3_heldBy_41 rfl rfl ?_
      refine g_callV_I (ih1 _ _ _) rfl zc_2 q1278 q1280 qs61 q109 q1281 dv_X3_sum rfl (Nat.le_refl _) (Nat.le_of_ble_eq_true rfl) (Nat.le_of_ble_eq_true rfl) dX3_heldBy_42 fun x6 σ => ?_
      refine g_icmp_le 52 dX3_heldBy_45 (by decide) ?_ ?_
      · refine g_iconst 0 dX3_heldBy_52 (by decide) ?_
        exact g_iret rfl dX3_heldBy_53
      · refine g_iconst 1 dX3_heldBy_48 (by decide) ?_
        refine g_goto 53 dX3_heldBy_49 (by decide) ?_
        exact g_iret rfl dX3_heldBy_53
  · refine g_iload_n 2 dX3_heldBy_15 rfl rfl ?_
    refine g_aload_n 0 dX3_heldBy_16 rfl rfl ?_
    refine g_iload_n 1 dX3_heldBy_17 rfl rfl ?_
    refine g_callV_I (ih1 _ _ _) rfl zc_2 q1278 q1280 qs61 q109 q1281 dv_X3_sum rfl (Nat.le_refl _) (Nat.le_of_ble_eq_true rfl) (Nat.le_of_ble_eq_true rfl) dX3_heldBy_18 fun x7 σ => ?_
    refine g_icmp_ge 28 dX3_heldBy_21 (by decide) ?_ ?_
    · refine g_iconst 0 dX3_heldBy_28 (by decide) ?_
      exact g_iret rfl dX3_heldBy_29
    · refine g_iconst 1 dX3_heldBy_24 (by decide) ?_
      refine g_goto 29 dX3_heldBy_25 (by decide) ?_
      exact g_iret rfl dX3_heldBy_29
/-! RockingHorseModel.sum(I)I -/
def f_X3_sum_b6 (rc0 : (Option Nat) → Int32 → Hp → Option (Int32 × Hp)) (rc1 : (Option Nat) → Int32 → Hp → Option (Int32 × Hp)) (rc2 : (Option Nat) → Int32 → Hp → Option (Int32 × Hp)) (rc3 : (Option Nat) → Int32 → Hp → Option (Int32 × Hp)) (v0 : Option Nat) (v1 : Int32) (k0 : Int32 → Hp → Option (Int32 × Hp)) (ag : Int32 → Hp → Option (Int32 × Hp)) (a : Int32) (σ : Hp) : Option (Int32 × Hp) :=
  ob 2 σ v0 fun _ => bnd (f_X3_fine v0 σ) fun x2 σ =>
  if x2 = 0 then
    k0 a σ
  else
    ob 2 σ v0 fun _ => bnd (f_X3_here v0 σ) fun x3 σ =>
    jn (fun (a4 : Unit) σ =>
        ob 2 σ v0 fun _ => bnd (f_X3_here v0 σ) fun x6 σ =>
        jn (fun (a7 : Int32) σ =>
            gI 2 15 σ v0 fun x9 =>
            pI 0 2 15 σ v0 (x9 + 1) fun σ =>
            ob 2 σ v0 fun _ => bnd (rc2 v0 v1 σ) fun x10 σ =>
            jn (fun (a11 : Int32) σ =>
                ag a11 σ) fun j12 =>
            if a7 = 0 then
              j12 (a - x10) σ
            else
              j12 (a + x10) σ) fun j8 =>
        if x6 = 43 then
          j8 1 σ
        else
          j8 0 σ) fun j5 =>
    if x3 = 43 then
      j5 () σ
    else
      ob 2 σ v0 fun _ => bnd (f_X3_here v0 σ) fun x13 σ =>
      if x13 = 45 then
        j5 () σ
      else
        k0 a σ
def fb_X3_sum (rc0 : (Option Nat) → Int32 → Hp → Option (Int32 × Hp)) (rc1 : (Option Nat) → Int32 → Hp → Option (Int32 × Hp)) (rc2 : (Option Nat) → Int32 → Hp → Option (Int32 × Hp)) (rc3 : (Option Nat) → Int32 → Hp → Option (Int32 × Hp)) (v0 : Option Nat) (v1 : Int32) (σ : Hp) : Option (Int32 × Hp) :=
  ob 2 σ v0 fun _ => bnd (rc2 v0 v1 σ) fun x1 σ =>
  lp 2000 (f_X3_sum_b6 rc0 rc1 rc2 rc3 v0 v1 (fun (a14 : Int32) σ =>
      some (a14, σ))) x1 σ
theorem ok_X3_sum_b6 (n : Nat) (rc0 : (Option Nat) → Int32 → Hp → Option (Int32 × Hp)) (rc1 : (Option Nat) → Int32 → Hp → Option (Int32 × Hp)) (rc2 : (Option Nat) → Int32 → Hp → Option (Int32 × Hp)) (rc3 : (Option Nat) → Int32 → Hp → Option (Int32 × Hp)) (ih0 : ∀ (v0 : Option Nat) (v1 : Int32) (σ : Hp), MM yX3_heldBy (mi_X3_heldBy n) rI [vA v0, vI v1] σ (rc0 v0 v1 σ)) (ih1 : ∀ (v0 : Option Nat) (v1 : Int32) (σ : Hp), MM yX3_sum (mi_X3_sum n) rI [vA v0, vI v1] σ (rc1 v0 v1 σ)) (ih2 : ∀ (v0 : Option Nat) (v1 : Int32) (σ : Hp), MM yX3_product (mi_X3_product n) rI [vA v0, vI v1] σ (rc2 v0 v1 σ)) (ih3 : ∀ (v0 : Option Nat) (v1 : Int32) (σ : Hp), MM yX3_thing (mi_X3_thing n) rI [vA v0, vI v1] σ (rc3 v0 v1 σ)) (X : Mx) (v0 : Option Nat) (v1 : Int32) {k0 : Int32 → Hp → Option (Int32 × Hp)} (hk0 : ∀ (a : Int32) (σ : Hp), GG X (mi_X3_sum (n + 1)) (QM X rI) 82 [(2, vI a)] [] σ (k0 a σ)) : ∀ (m : Nat) (a : Int32) (σ : Hp), GG X (mi_X3_sum (n + 1)) (QM X rI) 6 [(0, vA v0), (1, vI v1), (2, vI a)] [] σ (lp m (f_X3_sum_b6 rc0 rc1 rc2 rc3 v0 v1 k0) a σ) := by
  refine g_lp (fun (a : Int32) => [(0, vA v0), (1, vI v1), (2, vI a)]) ?_
  intro ag hag a σ
  unfold f_X3_sum_b6
  refine g_aload_n 0 dX3_sum_6 rfl rfl ?_
  refine g_callV_I (mm_X3_fine _ _) rfl zc_2 q1238 q1240 qs52 q109 q1241 dv_X3_fine rfl (by show 0 + 1 ≤ 3 + (n + 1); omega) (Nat.le_of_ble_eq_true rfl) (Nat.le_of_ble_eq_true rfl) dX3_sum_7 fun x2 σ => ?_
  refine g_if_eq 82 dX3_sum_10 (by decide) ?_ ?_
  · exact g_jmp (hk0 _ _) rfl
  · refine g_aload_n 0 dX3_sum_13 rfl rfl ?_
    refine g_callV_I (mm_X3_here _ _) rfl zc_2 q1254 q1256 qs56 q109 q1257 dv_X3_here rfl (by show 0 + 1 ≤ 3 + (n + 1); omega) (Nat.le_of_ble_eq_true rfl) (Nat.le_of_ble_eq_true rfl) dX3_sum_14 fun x3 σ => ?_
    refine g_bipush 43 dX3_sum_17 (by decide) ?_
    refine g_jn (fun j5 => ∀ (a4 : Unit) (σ : Hp), GG X (mi_X3_sum (n + 1)) (QM X rI) 31 [(0, vA v0), (1, vI v1), (2, vI a)] [] σ (j5 a4 σ)) ?_ ?_
    · intro a4 σ
      refine g_aload_n 0 dX3_sum_31 rfl rfl ?_
      refine g_callV_I (mm_X3_here _ _) rfl zc_2 q1254 q1256 qs56 q109 q1257 dv_X3_here rfl (by show 0 + 1 ≤ 3 + (n + 1); omega) (Nat.le_of_ble_eq_true rfl) (Nat.le_of_ble_eq_true rfl) dX3_sum_32 fun x6 σ => ?_
      refine g_bipush 43 dX3_sum_35 (by decide) ?_
      refine g_jn (fun j8 => ∀ (a7 : Int32) (σ : Hp), GG X (mi_X3_sum (n + 1)) (QM X rI) 45 [(0, vA v0), (1, vI v1), (2, vI a)] [vI a7] σ (j8 a7 σ)) ?_ ?_
      · intro a7 σ
        refine g_istore_n 3 dX3_sum_45 rfl (lt_b rfl) ?_
        refine g_aload_n 0 dX3_sum_46 rfl rfl ?_
        refine g_dup dX3_sum_47 rfl ?_
        refine g_getI fo_2_15 (by decide) q1071 dX3_sum_48 fun x9 => ?_
        refine g_iconst 1 dX3_sum_51 (by decide) ?_
        refine g_iadd dX3_sum_52 ?_
        refine g_putI fo_2_15 (by decide) rfl q1071 dX3_sum_53 fun σ => ?_
        refine g_aload_n 0 dX3_sum_56 rfl rfl ?_
        refine g_iload_n 1 dX3_sum_57 rfl rfl ?_
        refine g_callV_I (ih2 _ _ _) rfl zc_2 q1282 q1284 qs62 q109 q1285 dv_X3_product rfl (Nat.le_refl _) (Nat.le_of_ble_eq_true rfl) (Nat.le_of_ble_eq_true rfl) dX3_sum_58 fun x10 σ => ?_
        refine g_istore dX3_sum_61 (lt_b rfl) ?_
        refine g_iload_n 3 dX3_sum_63 rfl rfl ?_
        refine g_jn (fun j12 => ∀ (a11 : Int32) (σ : Hp), GG X (mi_X3_sum (n + 1)) (QM X rI) 78 [(0, vA v0), (1, vI v1)] [vI a11] σ (j12 a11 σ)) ?_ ?_
        · intro a11 σ
          refine g_istore_n 2 dX3_sum_78 rfl (lt_b rfl) ?_
          refine g_goto 6 dX3_sum_79 (by decide) ?_
          exact g_jmp (hag _ _) rfl
        · intro j12 hj12
          refine g_if_eq 74 dX3_sum_64 (by decide) ?_ ?_
          · refine g_iload_n 2 dX3_sum_74 rfl rfl ?_
            refine g_iload dX3_sum_75 rfl ?_
            refine g_isub dX3_sum_77 ?_
            exact g_jmp (hj12 _ _) rfl
          · refine g_iload_n 2 dX3_sum_67 rfl rfl ?_
            refine g_iload dX3_sum_68 rfl ?_
            refine g_iadd dX3_sum_70 ?_
            refine g_goto 78 dX3_sum_71 (by decide) ?_
            exact g_jmp (hj12 _ _) rfl
      · intro j8 hj8
        refine g_icmp_ne 44 dX3_sum_37 (by decide) ?_ ?_
        · refine g_iconst 0 dX3_sum_44 (by decide) ?_
          exact g_jmp (hj8 _ _) rfl
        · refine g_iconst 1 dX3_sum_40 (by decide) ?_
          refine g_goto 45 dX3_sum_41 (by decide) ?_
          exact g_jmp (hj8 _ _) rfl
    · intro j5 hj5
      refine g_icmp_eq 31 dX3_sum_19 (by decide) ?_ ?_
      · exact g_jmp (hj5 _ _) rfl
      · refine g_aload_n 0 dX3_sum_22 rfl rfl ?_
        refine g_callV_I (mm_X3_here _ _) rfl zc_2 q1254 q1256 qs56 q109 q1257 dv_X3_here rfl (by show 0 + 1 ≤ 3 + (n + 1); omega) (Nat.le_of_ble_eq_true rfl) (Nat.le_of_ble_eq_true rfl) dX3_sum_23 fun x13 σ => ?_
        refine g_bipush 45 dX3_sum_26 (by decide) ?_
        refine g_icmp_ne 82 dX3_sum_28 (by decide) ?_ ?_
        · exact g_jmp (hk0 _ _) rfl
        · exact g_jmp (hj5 _ _) rfl
theorem mb_X3_sum (n : Nat) (rc0 : (Option Nat) → Int32 → Hp → Option (Int32 × Hp)) (rc1 : (Option Nat) → Int32 → Hp → Option (Int32 × Hp)) (rc2 : (Option Nat) → Int32 → Hp → Option (Int32 × Hp)) (rc3 : (Option Nat) → Int32 → Hp → Option (Int32 × Hp)) (ih0 : ∀ (v0 : Option Nat) (v1 : Int32) (σ : Hp), MM yX3_heldBy (mi_X3_heldBy n) rI [vA v0, vI v1] σ (rc0 v0 v1 σ)) (ih1 : ∀ (v0 : Option Nat) (v1 : Int32) (σ : Hp), MM yX3_sum (mi_X3_sum n) rI [vA v0, vI v1] σ (rc1 v0 v1 σ)) (ih2 : ∀ (v0 : Option Nat) (v1 : Int32) (σ : Hp), MM yX3_product (mi_X3_product n) rI [vA v0, vI v1] σ (rc2 v0 v1 σ)) (ih3 : ∀ (v0 : Option Nat) (v1 : Int32) (σ : Hp), MM yX3_thing (mi_X3_thing n) rI [vA v0, vI v1] σ (rc3 v0 v1 σ)) : ∀ (v0 : Option Nat) (v1 : Int32) (σ : Hp), MM yX3_sum (mi_X3_sum (n + 1)) rI [vA v0, vI v1] σ (fb_X3_sum rc0 rc1 rc2 rc3 v0 v1 σ) := by
  intro v0 v1 σ
  refine mm_of (by decide +kernel) rfl rfl (Nat.le_of_ble_eq_true rfl) ?_
  intro X
  unfold fb_X3_sum
  refine g_aload_n 0 dX3_sum_0 rfl rfl ?_
  refine g_iload_n 1 dX3_sum_1 rfl rfl ?_
  refine g_callV_I (ih2 _ _ _) rfl zc_2 q1282 q1284 qs62 q109 q1285 dv_X3_product rfl (Nat.le_refl _) (Nat.le_of_ble_eq_true rfl) (Nat.le_of_ble_eq_true rfl) dX3_sum_2 fun x1 σ => ?_
  refine g_istore_n 2 dX3_sum_5 rfl (lt_b rfl) ?_
  refine g_jmp (ok_X3_sum_b6 n rc0 rc1 rc2 rc3 ih0 ih1 ih2 ih3 X v0 v1 ?_ _ _ _) rfl
  · intro a14 σ
    refine g_iload_n 2 dX3_sum_82 rfl rfl ?_
    exact g_iret rfl dX3_sum_83
/-! RockingHorseModel.product(I)I -/
def f_X3_product_b6 (rc0 : (Option Nat) → Int32 → Hp → Option (Int32 × Hp)) (rc1 : (Option Nat) → Int32 → Hp → Option (Int32 × Hp)) (rc2 : (Option Nat) → Int32 → Hp → Option (Int32 × Hp)) (rc3 : (Option Nat) → Int32 → Hp → Option (Int32 × Hp)) (v0 : Option Nat) (v1 : Int32) (k0 : Int32 → Hp → Option (Int32 × Hp)) (ag : Int32 → Hp → Option (Int32 × Hp)) (a : Int32) (σ : Hp) : Option (Int32 × Hp) :=
  ob 2 σ v0 fun _ => bnd (f_X3_fine v0 σ) fun x2 σ =>
  if x2 = 0 then
    k0 a σ
  else
    ob 2 σ v0 fun _ => bnd (f_X3_here v0 σ) fun x3 σ =>
    jn (fun (a4 : Unit) σ =>
        ob 2 σ v0 fun _ => bnd (f_X3_here v0 σ) fun x6 σ =>
        jn (fun (a7 : Int32) σ =>
            gI 2 15 σ v0 fun x9 =>
            pI 0 2 15 σ v0 (x9 + 1) fun σ =>
            ob 2 σ v0 fun _ => bnd (rc3 v0 v1 σ) fun x10 σ =>
            jn (fun (a11 : Int32) σ =>
                ag a11 σ) fun j12 =>
            if a7 = 0 then
              if x10 = 0 then
                j12 0 σ
              else
                idv x10 <|
                j12 (a / x10) σ
            else
              j12 (a * x10) σ) fun j8 =>
        if x6 = 42 then
          j8 1 σ
        else
          j8 0 σ) fun j5 =>
    if x3 = 42 then
      j5 () σ
    else
      ob 2 σ v0 fun _ => bnd (f_X3_here v0 σ) fun x13 σ =>
      if x13 = 47 then
        j5 () σ
      else
        k0 a σ
def fb_X3_product (rc0 : (Option Nat) → Int32 → Hp → Option (Int32 × Hp)) (rc1 : (Option Nat) → Int32 → Hp → Option (Int32 × Hp)) (rc2 : (Option Nat) → Int32 → Hp → Option (Int32 × Hp)) (rc3 : (Option Nat) → Int32 → Hp → Option (Int32 × Hp)) (v0 : Option Nat) (v1 : Int32) (σ : Hp) : Option (Int32 × Hp) :=
  ob 2 σ v0 fun _ => bnd (rc3 v0 v1 σ) fun x1 σ =>
  lp 2000 (f_X3_product_b6 rc0 rc1 rc2 rc3 v0 v1 (fun (a14 : Int32) σ =>
      some (a14, σ))) x1 σ
theorem ok_X3_product_b6 (n : Nat) (rc0 : (Option Nat) → Int32 → Hp → Option (Int32 × Hp)) (rc1 : (Option Nat) → Int32 → Hp → Option (Int32 × Hp)) (rc2 : (Option Nat) → Int32 → Hp → Option (Int32 × Hp)) (rc3 : (Option Nat) → Int32 → Hp → Option (Int32 × Hp)) (ih0 : ∀ (v0 : Option Nat) (v1 : Int32) (σ : Hp), MM yX3_heldBy (mi_X3_heldBy n) rI [vA v0, vI v1] σ (rc0 v0 v1 σ)) (ih1 : ∀ (v0 : Option Nat) (v1 : Int32) (σ : Hp), MM yX3_sum (mi_X3_sum n) rI [vA v0, vI v1] σ (rc1 v0 v1 σ)) (ih2 : ∀ (v0 : Option Nat) (v1 : Int32) (σ : Hp), MM yX3_product (mi_X3_product n) rI [vA v0, vI v1] σ (rc2 v0 v1 σ)) (ih3 : ∀ (v0 : Option Nat) (v1 : Int32) (σ : Hp), MM yX3_thing (mi_X3_thing n) rI [vA v0, vI v1] σ (rc3 v0 v1 σ)) (X : Mx) (v0 : Option Nat) (v1 : Int32) {k0 : Int32 → Hp → Option (Int32 × Hp)} (hk0 : ∀ (a : Int32) (σ : Hp), GG X (mi_X3_product (n + 1)) (QM X rI) 91 [(2, vI a)] [] σ (k0 a σ)) : ∀ (m : Nat) (a : Int32) (σ : Hp), GG X (mi_X3_product (n + 1)) (QM X rI) 6 [(0, vA v0), (1, vI v1), (2, vI a)] [] σ (lp m (f_X3_product_b6 rc0 rc1 rc2 rc3 v0 v1 k0) a σ) := by
  refine g_lp (fun (a : Int32) => [(0, vA v0), (1, vI v1), (2, vI a)]) ?_
  intro ag hag a σ
  unfold f_X3_product_b6
  refine g_aload_n 0 dX3_product_6 rfl rfl ?_
  refine g_callV_I (mm_X3_fine _ _) rfl zc_2 q1238 q1240 qs52 q109 q1241 dv_X3_fine rfl (by show 0 + 1 ≤ 3 + (n + 1); omega) (Nat.le_of_ble_eq_true rfl) (Nat.le_of_ble_eq_true rfl) dX3_product_7 fun x2 σ => ?_
  refine g_if_eq 91 dX3_product_10 (by decide) ?_ ?_
  · exact g_jmp (hk0 _ _) rfl
  · refine g_aload_n 0 dX3_product_13 rfl rfl ?_
    refine g_callV_I (mm_X3_here _ _) rfl zc_2 q1254 q1256 qs56 q109 q1257 dv_X3_here rfl (by show 0 + 1 ≤ 3 + (n + 1); omega) (Nat.le_of_ble_eq_true rfl) (Nat.le_of_ble_eq_true rfl) dX3_product_14 fun x3 σ => ?_
    refine g_bipush 42 dX3_product_17 (by decide) ?_
    refine g_jn (fun j5 => ∀ (a4 : Unit) (σ : Hp), GG X (mi_X3_product (n + 1)) (QM X rI) 31 [(0, vA v0), (1, vI v1), (2, vI a)] [] σ (j5 a4 σ)) ?_ ?_
    · intro a4 σ
      refine g_aload_n 0 dX3_product_31 rfl rfl ?_
      refine g_callV_I (mm_X3_here _ _) rfl zc_2 q1254 q1256 qs56 q109 q1257 dv_X3_here rfl (by show 0 + 1 ≤ 3 + (n + 1); omega) (Nat.le_of_ble_eq_true rfl) (Nat.le_of_ble_eq_true rfl) dX3_product_32 fun x6 σ => ?_
      refine g_bipush 42 dX3_product_35 (by decide) ?_
      refine g_jn (fun j8 => ∀ (a7 : Int32) (σ : Hp), GG X (mi_X3_product (n + 1)) (QM X rI) 45 [(0, vA v0), (1, vI v1), (2, vI a)] [vI a7] σ (j8 a7 σ)) ?_ ?_
      · intro a7 σ
        refine g_istore_n 3 dX3_product_45 rfl (lt_b rfl) ?_
        refine g_aload_n 0 dX3_product_46 rfl rfl ?_
        refine g_dup dX3_product_47 rfl ?_
        refine g_getI fo_2_15 (by decide) q1071 dX3_product_48 fun x9 => ?_
        refine g_iconst 1 dX3_product_51 (by decide) ?_
        refine g_iadd dX3_product_52 ?_
        refine g_putI fo_2_15 (by decide) rfl q1071 dX3_product_53 fun σ => ?_
        refine g_aload_n 0 dX3_product_56 rfl rfl ?_
        refine g_iload_n 1 dX3_product_57 rfl rfl ?_
        refine g_callV_I (ih3 _ _ _) rfl zc_2 q1286 q1288 qs63 q109 q1289 dv_X3_thing rfl (Nat.le_refl _) (Nat.le_of_ble_eq_true rfl) (Nat.le_of_ble_eq_true rfl) dX3_product_58 fun x10 σ => ?_
        refine g_istore dX3_product_61 (lt_b rfl) ?_
        refine g_iload_n 3 dX3_product_63 rfl rfl ?_
        refine g_jn (fun j12 => ∀ (a11 : Int32) (σ : Hp), GG X (mi_X3_product (n + 1)) (QM X rI) 87 [(0, vA v0), (1, vI v1)] [vI a11] σ (j12 a11 σ)) ?_ ?_
        · intro a11 σ
          refine g_istore_n 2 dX3_product_87 rfl (lt_b rfl) ?_
          refine g_goto 6 dX3_product_88 (by decide) ?_
          exact g_jmp (hag _ _) rfl
        · intro j12 hj12
          refine g_if_eq 74 dX3_product_64 (by decide) ?_ ?_
          · refine g_iload dX3_product_74 rfl ?_
            refine g_if_ne 83 dX3_product_76 (by decide) ?_ ?_
            · refine g_iload_n 2 dX3_product_83 rfl rfl ?_
              refine g_iload dX3_product_84 rfl ?_
              refine g_idiv dX3_product_86 ?_
              exact g_jmp (hj12 _ _) rfl
            · refine g_iconst 0 dX3_product_79 (by decide) ?_
              refine g_goto 87 dX3_product_80 (by decide) ?_
              exact g_jmp (hj12 _ _) rfl
          · refine g_iload_n 2 dX3_product_67 rfl rfl ?_
            refine g_iload dX3_product_68 rfl ?_
            refine g_imul dX3_product_70 ?_
            refine g_goto 87 dX3_product_71 (by decide) ?_
            exact g_jmp (hj12 _ _) rfl
      · intro j8 hj8
        refine g_icmp_ne 44 dX3_product_37 (by decide) ?_ ?_
        · refine g_iconst 0 dX3_product_44 (by decide) ?_
          exact g_jmp (hj8 _ _) rfl
        · refine g_iconst 1 dX3_product_40 (by decide) ?_
          refine g_goto 45 dX3_product_41 (by decide) ?_
          exact g_jmp (hj8 _ _) rfl
    · intro j5 hj5
      refine g_icmp_eq 31 dX3_product_19 (by decide) ?_ ?_
      · exact g_jmp (hj5 _ _) rfl
      · refine g_aload_n 0 dX3_product_22 rfl rfl ?_
        refine g_callV_I (mm_X3_here _ _) rfl zc_2 q1254 q1256 qs56 q109 q1257 dv_X3_here rfl (by show 0 + 1 ≤ 3 + (n + 1); omega) (Nat.le_of_ble_eq_true rfl) (Nat.le_of_ble_eq_true rfl) dX3_product_23 fun x13 σ => ?_
        refine g_bipush 47 dX3_product_26 (by decide) ?_
        refine g_icmp_ne 91 dX3_product_28 (by decide) ?_ ?_
        · exact g_jmp (hk0 _ _) rfl
        · exact g_jmp (hj5 _ _) rfl
theorem mb_X3_product (n : Nat) (rc0 : (Option Nat) → Int32 → Hp → Option (Int32 × Hp)) (rc1 : (Option Nat) → Int32 → Hp → Option (Int32 × Hp)) (rc2 : (Option Nat) → Int32 → Hp → Option (Int32 × Hp)) (rc3 : (Option Nat) → Int32 → Hp → Option (Int32 × Hp)) (ih0 : ∀ (v0 : Option Nat) (v1 : Int32) (σ : Hp), MM yX3_heldBy (mi_X3_heldBy n) rI [vA v0, vI v1] σ (rc0 v0 v1 σ)) (ih1 : ∀ (v0 : Option Nat) (v1 : Int32) (σ : Hp), MM yX3_sum (mi_X3_sum n) rI [vA v0, vI v1] σ (rc1 v0 v1 σ)) (ih2 : ∀ (v0 : Option Nat) (v1 : Int32) (σ : Hp), MM yX3_product (mi_X3_product n) rI [vA v0, vI v1] σ (rc2 v0 v1 σ)) (ih3 : ∀ (v0 : Option Nat) (v1 : Int32) (σ : Hp), MM yX3_thing (mi_X3_thing n) rI [vA v0, vI v1] σ (rc3 v0 v1 σ)) : ∀ (v0 : Option Nat) (v1 : Int32) (σ : Hp), MM yX3_product (mi_X3_product (n + 1)) rI [vA v0, vI v1] σ (fb_X3_product rc0 rc1 rc2 rc3 v0 v1 σ) := by
  intro v0 v1 σ
  refine mm_of (by decide +kernel) rfl rfl (Nat.le_of_ble_eq_true rfl) ?_
  intro X
  unfold fb_X3_product
  refine g_aload_n 0 dX3_product_0 rfl rfl ?_
  refine g_iload_n 1 dX3_product_1 rfl rfl ?_
  refine g_callV_I (ih3 _ _ _) rfl zc_2 q1286 q1288 qs63 q109 q1289 dv_X3_thing rfl (Nat.le_refl _) (Nat.le_of_ble_eq_true rfl) (Nat.le_of_ble_eq_true rfl) dX3_product_2 fun x1 σ => ?_
  refine g_istore_n 2 dX3_product_5 rfl (lt_b rfl) ?_
  refine g_jmp (ok_X3_product_b6 n rc0 rc1 rc2 rc3 ih0 ih1 ih2 ih3 X v0 v1 ?_ _ _ _) rfl
  · intro a14 σ
    refine g_iload_n 2 dX3_product_91 rfl rfl ?_
    exact g_iret rfl dX3_product_92
/-! RockingHorseModel.thing(I)I -/
def fb_X3_thing (rc0 : (Option Nat) → Int32 → Hp → Option (Int32 × Hp)) (rc1 : (Option Nat) → Int32 → Hp → Option (Int32 × Hp)) (rc2 : (Option Nat) → Int32 → Hp → Option (Int32 × Hp)) (rc3 : (Option Nat) → Int32 → Hp → Option (Int32 × Hp)) (v0 : Option Nat) (v1 : Int32) (σ : Hp) : Option (Int32 × Hp) :=
  ob 2 σ v0 fun _ => bnd (f_X3_passes v0 45 σ) fun x1 σ =>
  if x1 = 0 then
    ob 2 σ v0 fun _ => bnd (f_X3_fine v0 σ) fun x2 σ =>
    if x2 = 0 then
      some (0, σ)
    else
      ob 2 σ v0 fun _ => bnd (f_X3_here v0 σ) fun x3 σ =>
      jn (fun (a4 : Unit) σ =>
          bnd (f_X3_in x3 48 57 σ) fun x6 σ =>
          if x6 = 0 then
            bnd (f_X3_letterOf x3 σ) fun x7 σ =>
            if x7 = (-1) then
              gI 2 15 σ v0 fun x13 =>
              ob 2 σ v0 fun _ => bnd (f_X3_fault v0 x13 σ) fun _ σ =>
              some (0, σ)
            else
              gI 2 15 σ v0 fun x8 =>
              pI 0 2 15 σ v0 (x8 + 1) fun σ =>
              gI 2 21 σ v0 fun x9 =>
              if x9 = 0 then
                some (0, σ)
              else
                gR 2 22 σ v0 fun y10 =>
                bnd (f_X3_letterOf x3 σ) fun x11 σ =>
                lI 100 σ y10 x11 fun x12 =>
                some (x12, σ)
          else
            ob 2 σ v0 fun _ => bnd (f_X3_number v0 3 σ) fun x14 σ =>
            some (x14, σ)) fun j5 =>
      if x3 = 40 then
        if 4 ≤ v1 then
          j5 () σ
        else
          gI 2 15 σ v0 fun x15 =>
          pI 0 2 15 σ v0 (x15 + 1) fun σ =>
          ob 2 σ v0 fun _ => bnd (rc0 v0 (v1 + 1) σ) fun x16 σ =>
          ob 2 σ v0 fun _ => bnd (f_X3_need v0 41 σ) fun _ σ =>
          some (x16, σ)
      else
        j5 () σ
  else
    ob 2 σ v0 fun _ => bnd (rc3 v0 v1 σ) fun x17 σ =>
    some ((-x17), σ)
theorem mb_X3_thing (n : Nat) (rc0 : (Option Nat) → Int32 → Hp → Option (Int32 × Hp)) (rc1 : (Option Nat) → Int32 → Hp → Option (Int32 × Hp)) (rc2 : (Option Nat) → Int32 → Hp → Option (Int32 × Hp)) (rc3 : (Option Nat) → Int32 → Hp → Option (Int32 × Hp)) (ih0 : ∀ (v0 : Option Nat) (v1 : Int32) (σ : Hp), MM yX3_heldBy (mi_X3_heldBy n) rI [vA v0, vI v1] σ (rc0 v0 v1 σ)) (ih1 : ∀ (v0 : Option Nat) (v1 : Int32) (σ : Hp), MM yX3_sum (mi_X3_sum n) rI [vA v0, vI v1] σ (rc1 v0 v1 σ)) (ih2 : ∀ (v0 : Option Nat) (v1 : Int32) (σ : Hp), MM yX3_product (mi_X3_product n) rI [vA v0, vI v1] σ (rc2 v0 v1 σ)) (ih3 : ∀ (v0 : Option Nat) (v1 : Int32) (σ : Hp), MM yX3_thing (mi_X3_thing n) rI [vA v0, vI v1] σ (rc3 v0 v1 σ)) : ∀ (v0 : Option Nat) (v1 : Int32) (σ : Hp), MM yX3_thing (mi_X3_thing (n + 1)) rI [vA v0, vI v1] σ (fb_X3_thing rc0 rc1 rc2 rc3 v0 v1 σ) := by
  intro v0 v1 σ
  refine mm_of (by decide +kernel) rfl rfl (Nat.le_of_ble_eq_true rfl) ?_
  intro X
  unfold fb_X3_thing
  refine g_aload_n 0 dX3_thing_0 rfl rfl ?_
  refine g_bipush 45 dX3_thing_1 (by decide) ?_
  refine g_callV_I (mm_X3_passes _ _ _) rfl zc_2 q1258 q1260 qs57 q109 q1261 dv_X3_passes rfl (by show 1 + 1 ≤ 3 + (n + 1); omega) (Nat.le_of_ble_eq_true rfl) (Nat.le_of_ble_eq_true rfl) dX3_thing_3 fun x1 σ => ?_
  refine g_if_eq 16 dX3_thing_6 (by decide) ?_ ?_
  · refine g_aload_n 0 dX3_thing_16 rfl rfl ?_
    refine g_callV_I (mm_X3_fine _ _) rfl zc_2 q1238 q1240 qs52 q109 q1241 dv_X3_fine rfl (by show 0 + 1 ≤ 3 + (n + 1); omega) (Nat.le_of_ble_eq_true rfl) (Nat.le_of_ble_eq_true rfl) dX3_thing_17 fun x2 σ => ?_
    refine g_if_ne 25 dX3_thing_20 (by decide) ?_ ?_
    · refine g_aload_n 0 dX3_thing_25 rfl rfl ?_
      refine g_callV_I (mm_X3_here _ _) rfl zc_2 q1254 q1256 qs56 q109 q1257 dv_X3_here rfl (by show 0 + 1 ≤ 3 + (n + 1); omega) (Nat.le_of_ble_eq_true rfl) (Nat.le_of_ble_eq_true rfl) dX3_thing_26 fun x3 σ => ?_
      refine g_istore_n 2 dX3_thing_29 rfl (lt_b rfl) ?_
      refine g_iload_n 2 dX3_thing_30 rfl rfl ?_
      refine g_bipush 40 dX3_thing_31 (by decide) ?_
      refine g_jn (fun j5 => ∀ (a4 : Unit) (σ : Hp), GG X (mi_X3_thing (n + 1)) (QM X rI) 67 [(0, vA v0), (2, vI x3)] [] σ (j5 a4 σ)) ?_ ?_
      · intro a4 σ
        refine g_iload_n 2 dX3_thing_67 rfl rfl ?_
        refine g_bipush 48 dX3_thing_68 (by decide) ?_
        refine g_bipush 57 dX3_thing_70 (by decide) ?_
        refine g_callS_I (mm_X3_in _ _ _ _) rfl q1223 q1224 q109 q1225 dd_X3_in rfl (by show 0 + 1 ≤ 3 + (n + 1); omega) (Nat.le_of_ble_eq_true rfl) (Nat.le_of_ble_eq_true rfl) dX3_thing_72 fun x6 σ => ?_
        refine g_if_eq 84 dX3_thing_75 (by decide) ?_ ?_
        · refine g_iload_n 2 dX3_thing_84 rfl rfl ?_
          refine g_callS_I (mm_X3_letterOf _ _) rfl q1298 q1299 q109 q1300 dd_X3_letterOf rfl (by show 0 + 1 ≤ 3 + (n + 1); omega) (Nat.le_of_ble_eq_true rfl) (Nat.le_of_ble_eq_true rfl) dX3_thing_85 fun x7 σ => ?_
          refine g_iconst (-1) dX3_thing_88 (by decide) ?_
          refine g_icmp_ne 102 dX3_thing_89 (by decide) ?_ ?_
          · refine g_aload_n 0 dX3_thing_102 rfl rfl ?_
            refine g_dup dX3_thing_103 rfl ?_
            refine g_getI fo_2_15 (by decide) q1071 dX3_thing_104 fun x8 => ?_
            refine g_iconst 1 dX3_thing_107 (by decide) ?_
            refine g_iadd dX3_thing_108 ?_
            refine g_putI fo_2_15 (by decide) rfl q1071 dX3_thing_109 fun σ => ?_
            refine g_aload_n 0 dX3_thing_112 rfl rfl ?_
            refine g_getI fo_2_21 (by decide) q1077 dX3_thing_113 fun x9 => ?_
            refine g_if_eq 131 dX3_thing_116 (by decide) ?_ ?_
            · refine g_iconst 0 dX3_thing_131 (by decide) ?_
              exact g_iret rfl dX3_thing_132
            · refine g_aload_n 0 dX3_thing_119 rfl rfl ?_
              refine g_getR fo_2_22 q1078 dX3_thing_120 fun y10 => ?_
              refine g_iload_n 2 dX3_thing_123 rfl rfl ?_
              refine g_callS_I (mm_X3_letterOf _ _) rfl q1298 q1299 q109 q1300 dd_X3_letterOf rfl (by show 0 + 1 ≤ 3 + (n + 1); omega) (Nat.le_of_ble_eq_true rfl) (Nat.le_of_ble_eq_true rfl) dX3_thing_124 fun x11 σ => ?_
              refine g_iaload dX3_thing_127 fun x12 => ?_
              refine g_goto 132 dX3_thing_128 (by decide) ?_
              exact g_iret rfl dX3_thing_132
          · refine g_aload_n 0 dX3_thing_92 rfl rfl ?_
            refine g_aload_n 0 dX3_thing_93 rfl rfl ?_
            refine g_getI fo_2_15 (by decide) q1071 dX3_thing_94 fun x13 => ?_
            refine g_callV_V (mm_X3_fault _ _ _) rfl zc_2 q1242 q1244 qs53 q109 q1245 dv_X3_fault rfl (by show 1 + 1 ≤ 3 + (n + 1); omega) (Nat.le_of_ble_eq_true rfl) (Nat.le_of_ble_eq_true rfl) dX3_thing_97 fun _ σ => ?_
            refine g_iconst 0 dX3_thing_100 (by decide) ?_
            exact g_iret rfl dX3_thing_101
        · refine g_aload_n 0 dX3_thing_78 rfl rfl ?_
          refine g_iconst 3 dX3_thing_79 (by decide) ?_
          refine g_callV_I (mm_X3_number _ _ _) rfl zc_2 q1294 q1296 qs65 q109 q1297 dv_X3_number rfl (by show 3 + 1 ≤ 3 + (n + 1); omega) (Nat.le_of_ble_eq_true rfl) (Nat.le_of_ble_eq_true rfl) dX3_thing_80 fun x14 σ => ?_
          exact g_iret rfl dX3_thing_83
      · intro j5 hj5
        refine g_icmp_ne 67 dX3_thing_33 (by decide) ?_ ?_
        · exact g_jmp (hj5 _ _) rfl
        · refine g_iload_n 1 dX3_thing_36 rfl rfl ?_
          refine g_iconst 4 dX3_thing_37 (by decide) ?_
          refine g_icmp_ge 67 dX3_thing_38 (by decide) ?_ ?_
          · exact g_jmp (hj5 _ _) rfl
          · refine g_aload_n 0 dX3_thing_41 rfl rfl ?_
            refine g_dup dX3_thing_42 rfl ?_
            refine g_getI fo_2_15 (by decide) q1071 dX3_thing_43 fun x15 => ?_
            refine g_iconst 1 dX3_thing_46 (by decide) ?_
            refine g_iadd dX3_thing_47 ?_
            refine g_putI fo_2_15 (by decide) rfl q1071 dX3_thing_48 fun σ => ?_
            refine g_aload_n 0 dX3_thing_51 rfl rfl ?_
            refine g_iload_n 1 dX3_thing_52 rfl rfl ?_
            refine g_iconst 1 dX3_thing_53 (by decide) ?_
            refine g_iadd dX3_thing_54 ?_
            refine g_callV_I (ih0 _ _ _) rfl zc_2 q1274 q1276 qs60 q109 q1277 dv_X3_heldBy rfl (Nat.le_refl _) (Nat.le_of_ble_eq_true rfl) (Nat.le_of_ble_eq_true rfl) dX3_thing_55 fun x16 σ => ?_
            refine g_istore_n 3 dX3_thing_58 rfl (lt_b rfl) ?_
            refine g_aload_n 0 dX3_thing_59 rfl rfl ?_
            refine g_bipush 41 dX3_thing_60 (by decide) ?_
            refine g_callV_V (mm_X3_need _ _ _) rfl zc_2 q1290 q1292 qs64 q109 q1293 dv_X3_need rfl (by show 2 + 1 ≤ 3 + (n + 1); omega) (Nat.le_of_ble_eq_true rfl) (Nat.le_of_ble_eq_true rfl) dX3_thing_62 fun _ σ => ?_
            refine g_iload_n 3 dX3_thing_65 rfl rfl ?_
            exact g_iret rfl dX3_thing_66
    · refine g_iconst 0 dX3_thing_23 (by decide) ?_
      exact g_iret rfl dX3_thing_24
  · refine g_aload_n 0 dX3_thing_9 rfl rfl ?_
    refine g_iload_n 1 dX3_thing_10 rfl rfl ?_
    refine g_callV_I (ih3 _ _ _) rfl zc_2 q1286 q1288 qs63 q109 q1289 dv_X3_thing rfl (Nat.le_refl _) (Nat.le_of_ble_eq_true rfl) (Nat.le_of_ble_eq_true rfl) dX3_thing_11 fun x17 σ => ?_
    refine g_ineg dX3_thing_14 ?_
    exact g_iret rfl dX3_thing_15
def g_held : Nat → ((Option Nat) → Int32 → Hp → Option (Int32 × Hp)) × ((Option Nat) → Int32 → Hp → Option (Int32 × Hp)) × ((Option Nat) → Int32 → Hp → Option (Int32 × Hp)) × ((Option Nat) → Int32 → Hp → Option (Int32 × Hp))
  | 0 => (fun _ _ _ => none, fun _ _ _ => none, fun _ _ _ => none, fun _ _ _ => none)
  | n + 1 => (fb_X3_heldBy (g_held n).1 (g_held n).2.1 (g_held n).2.2.1 (g_held n).2.2.2, fb_X3_sum (g_held n).1 (g_held n).2.1 (g_held n).2.2.1 (g_held n).2.2.2, fb_X3_product (g_held n).1 (g_held n).2.1 (g_held n).2.2.1 (g_held n).2.2.2, fb_X3_thing (g_held n).1 (g_held n).2.1 (g_held n).2.2.1 (g_held n).2.2.2)
def f_X3_heldBy (n : Nat) (v0 : Option Nat) (v1 : Int32) (σ : Hp) : Option (Int32 × Hp) := (g_held n).1 v0 v1 σ
def f_X3_sum (n : Nat) (v0 : Option Nat) (v1 : Int32) (σ : Hp) : Option (Int32 × Hp) := (g_held n).2.1 v0 v1 σ
def f_X3_product (n : Nat) (v0 : Option Nat) (v1 : Int32) (σ : Hp) : Option (Int32 × Hp) := (g_held n).2.2.1 v0 v1 σ
def f_X3_thing (n : Nat) (v0 : Option Nat) (v1 : Int32) (σ : Hp) : Option (Int32 × Hp) := (g_held n).2.2.2 v0 v1 σ
theorem gm_held : ∀ n : Nat, (∀ (v0 : Option Nat) (v1 : Int32) (σ : Hp), MM yX3_heldBy (mi_X3_heldBy n) rI [vA v0, vI v1] σ (f_X3_heldBy n v0 v1 σ)) ∧ (∀ (v0 : Option Nat) (v1 : Int32) (σ : Hp), MM yX3_sum (mi_X3_sum n) rI [vA v0, vI v1] σ (f_X3_sum n v0 v1 σ)) ∧ (∀ (v0 : Option Nat) (v1 : Int32) (σ : Hp), MM yX3_product (mi_X3_product n) rI [vA v0, vI v1] σ (f_X3_product n v0 v1 σ)) ∧ (∀ (v0 : Option Nat) (v1 : Int32) (σ : Hp), MM yX3_thing (mi_X3_thing n) rI [vA v0, vI v1] σ (f_X3_thing n v0 v1 σ)) := by
  intro n
  induction n with
  | zero => exact ⟨(fun _ _ σ r σf h => (nomatch (show (none : Option (Int32 × Hp)) = some (r, σf) from h))), (fun _ _ σ r σf h => (nomatch (show (none : Option (Int32 × Hp)) = some (r, σf) from h))), (fun _ _ σ r σf h => (nomatch (show (none : Option (Int32 × Hp)) = some (r, σf) from h))), (fun _ _ σ r σf h => (nomatch (show (none : Option (Int32 × Hp)) = some (r, σf) from h)))⟩
  | succ n ih => exact ⟨mb_X3_heldBy n _ _ _ _ ih.1 ih.2.1 ih.2.2.1 ih.2.2.2, mb_X3_sum n _ _ _ _ ih.1 ih.2.1 ih.2.2.1 ih.2.2.2, mb_X3_product n _ _ _ _ ih.1 ih.2.1 ih.2.2.1 ih.2.2.2, mb_X3_thing n _ _ _ _ ih.1 ih.2.1 ih.2.2.1 ih.2.2.2⟩
theorem mm_X3_heldBy (n : Nat) (v0 : Option Nat) (v1 : Int32) (σ : Hp) : MM yX3_heldBy (mi_X3_heldBy n) rI [vA v0, vI v1] σ (f_X3_heldBy n v0 v1 σ) := (gm_held n).1 v0 v1 σ
theorem mm_X3_sum (n : Nat) (v0 : Option Nat) (v1 : Int32) (σ : Hp) : MM yX3_sum (mi_X3_sum n) rI [vA v0, vI v1] σ (f_X3_sum n v0 v1 σ) := (gm_held n).2.1 v0 v1 σ
theorem mm_X3_product (n : Nat) (v0 : Option Nat) (v1 : Int32) (σ : Hp) : MM yX3_product (mi_X3_product n) rI [vA v0, vI v1] σ (f_X3_product n v0 v1 σ) := (gm_held n).2.2.1 v0 v1 σ
theorem mm_X3_thing (n : Nat) (v0 : Option Nat) (v1 : Int32) (σ : Hp) : MM yX3_thing (mi_X3_thing n) rI [vA v0, vI v1] σ (f_X3_thing n v0 v1 σ) := (gm_held n).2.2.2 v0 v1 σ
/-! RockingHorseLaw.rider(LRockingHorse;II[J)I -/
abbrev mi_X0_rider : Mi := (cX0_rider, 5, "RockingHorseLaw", 7, some .int, "rider")
def f_X0_rider (v0 : Option Nat) (v1 : Int32) (v2 : Int32) (v3 : Option Nat) (σ : Hp) : Option (Int32 × Hp) :=
  ob 0 σ v0 fun _ => bndX (f_X1_rider v0 v1 v2 σ) (fun x1 σ =>
      sL σ v3 0 (Int32.toInt64 x1) fun σ =>
      some (0, σ)) (fun σ =>
      some (1, σ))
theorem mm_X0_rider (v0 : Option Nat) (v1 : Int32) (v2 : Int32) (v3 : Option Nat) (σ : Hp) : MMW yX0_rider mi_X0_rider [(0, 10, 13, 13)] rI [vA v0, vI v1, vI v2, vA v3] σ (f_X0_rider v0 v1 v2 v3 σ) := by
  refine mmw_of (by decide +kernel) rfl rfl (Nat.le_of_ble_eq_true rfl) ?_
  intro X htab
  unfold f_X0_rider
  refine g_aload_n 3 dX0_rider_0 rfl rfl ?_
  refine g_iconst 0 dX0_rider_1 (by decide) ?_
  refine g_aload_n 0 dX0_rider_2 rfl rfl ?_
  refine g_iload_n 1 dX0_rider_3 rfl rfl ?_
  refine g_iload_n 2 dX0_rider_4 rfl rfl ?_
  refine g_callX_I (i := 4) htab (by decide) (by decide) q972 (Or.inl ⟨dX0_rider_13, rfl⟩) (lt_b rfl) rfl (mm_X1_rider _ _ _ _) rfl zc_0 q973 q974 q975 q107 q976 dv_X1_rider rfl (by decide) (Nat.le_of_ble_eq_true rfl) (Nat.le_of_ble_eq_true rfl) dX0_rider_5 (fun x1 σ => ?_) (fun σ => ?_)
  · refine g_i2l dX0_rider_8 ?_
    refine g_lastore dX0_rider_9 fun σ => ?_
    refine g_goto 17 dX0_rider_10 (by decide) ?_
    refine g_iconst 0 dX0_rider_17 (by decide) ?_
    exact g_iret rfl dX0_rider_18
  · refine g_iconst 1 dX0_rider_15 (by decide) ?_
    exact g_iret rfl dX0_rider_16
theorem dd_X0_rider : yX0_rider.cls ≠ "java/lang/invoke/MethodHandle" ∧ yX0_rider.cls ≠ "java/lang/invoke/VarHandle" ∧ (parseMethodDescriptor yX0_rider.desc).map (fun d => d.parameters.length) = some 4 := by decide +kernel
/-! RockingHorse.hard(II)I -/
abbrev mi_X1_hard : Mi := (cX1_hard, 3, "RockingHorse", 102, some .int, "hard")
def f_X1_hard (v0 : Option Nat) (v1 : Int32) (v2 : Int32) (σ : Hp) : Option (Int32 × Hp) :=
  ob 0 σ v0 fun _ => bnd (f_X1_isRider v0 v1 σ) fun x1 σ =>
  if x1 = 0 then
    some ((-1), σ)
  else
    bnd (f_X1_in (Int32.toInt64 v2) 0 7 σ) fun x2 σ =>
    if x2 = 0 then
      some ((-1), σ)
    else
      gR 0 0 σ v0 fun y3 =>
      ob 0 σ v0 fun _ => bnd (f_X1_hardOf v0 y3 v1 v2 σ) fun x4 σ =>
      some (x4, σ)
theorem mm_X1_hard (v0 : Option Nat) (v1 : Int32) (v2 : Int32) (σ : Hp) : MM yX1_hard mi_X1_hard rI [vA v0, vI v1, vI v2] σ (f_X1_hard v0 v1 v2 σ) := by
  refine mm_of (by decide +kernel) rfl rfl (Nat.le_of_ble_eq_true rfl) ?_
  intro X
  unfold f_X1_hard
  refine g_aload_n 0 dX1_hard_0 rfl rfl ?_
  refine g_iload_n 1 dX1_hard_1 rfl rfl ?_
  refine g_callV_I (mm_X1_isRider _ _ _) rfl zc_0 q576 q578 qs12 q107 q579 dv_X1_isRider rfl (Nat.le_of_ble_eq_true rfl) (Nat.le_of_ble_eq_true rfl) (Nat.le_of_ble_eq_true rfl) dX1_hard_2 fun x1 σ => ?_
  refine g_if_eq 33 dX1_hard_5 (by decide) ?_ ?_
  · refine g_iconst (-1) dX1_hard_33 (by decide) ?_
    exact g_iret rfl dX1_hard_34
  · refine g_iload_n 2 dX1_hard_8 rfl rfl ?_
    refine g_i2l dX1_hard_9 ?_
    refine g_lconst 0 dX1_hard_10 (by decide) ?_
    refine g_ldc2_w dX1_hard_11 q580 ?_
    refine g_callS_I (mm_X1_in _ _ _ _) rfl q346 q347 q107 q348 dd_X1_in rfl (Nat.le_of_ble_eq_true rfl) (Nat.le_of_ble_eq_true rfl) (Nat.le_of_ble_eq_true rfl) dX1_hard_14 fun x2 σ => ?_
    refine g_if_eq 33 dX1_hard_17 (by decide) ?_ ?_
    · refine g_iconst (-1) dX1_hard_33 (by decide) ?_
      exact g_iret rfl dX1_hard_34
    · refine g_aload_n 0 dX1_hard_20 rfl rfl ?_
      refine g_aload_n 0 dX1_hard_21 rfl rfl ?_
      refine g_getR fo_0_0 q171 dX1_hard_22 fun y3 => ?_
      refine g_iload_n 1 dX1_hard_25 rfl rfl ?_
      refine g_iload_n 2 dX1_hard_26 rfl rfl ?_
      refine g_callV_I (mm_X1_hardOf _ _ _ _ _) rfl zc_0 q581 q583 qs13 q107 q584 dv_X1_hardOf rfl (Nat.le_of_ble_eq_true rfl) (Nat.le_of_ble_eq_true rfl) (Nat.le_of_ble_eq_true rfl) dX1_hard_27 fun x4 σ => ?_
      refine g_goto 34 dX1_hard_30 (by decide) ?_
      exact g_iret rfl dX1_hard_34
theorem dd_X1_hard : yX1_hard.cls ≠ "java/lang/invoke/MethodHandle" ∧ yX1_hard.cls ≠ "java/lang/invoke/VarHandle" ∧ (parseMethodDescriptor yX1_hard.desc).map (fun d => d.parameters.length) = some 2 := by decide +kernel
theorem dv_X1_hard : yX1_hard.cls = RX1 ∧ yX1_hard.cls ≠ "java/lang/invoke/MethodHandle" ∧ yX1_hard.cls ≠ "java/lang/invoke/VarHandle" ∧ (parseMethodDescriptor yX1_hard.desc).map (fun d => d.parameters.length) = some 2 := ⟨rfl, dd_X1_hard⟩
/-! RockingHorse.rota()I -/
abbrev mi_X1_rota : Mi := (cX1_rota, 4, "RockingHorse", 3, some .int, "rota")
def f_X1_rota_b11 (v0 : Option Nat) (k0 : Int32 → Hp → Option (Int32 × Hp)) (k1 : Unit → Hp → Option (Int32 × Hp)) (ag : (Int32 × Int32) → Hp → Option (Int32 × Hp)) (a : Int32 × Int32) (σ : Hp) : Option (Int32 × Hp) :=
  gI 0 6 σ v0 fun x2 =>
  if x2 ≤ a.2 then
    k0 a.1 σ
  else
    ob 0 σ v0 fun _ => bnd (f_X1_takes v0 45 σ) fun x3 σ =>
    jn (fun (a4 : Unit) σ =>
        gR 0 30 σ v0 fun y6 =>
        jn (fun (a7 : Int32) σ =>
            sI σ y6 a.2 a7 fun σ =>
            jn (fun (a9 : Int32) σ =>
                ag ((a.1 + a9), (a.2 + 1)) σ) fun j10 =>
            if x3 = 0 then
              j10 1 σ
            else
              j10 0 σ) fun j8 =>
        if x3 = 0 then
          ob 0 σ v0 fun _ => bnd (f_X1_number v0 1 σ) fun x11 σ =>
          j8 x11 σ
        else
          j8 (-1) σ) fun j5 =>
    if x3 = 0 then
      ob 0 σ v0 fun _ => bnd (f_X1_isDigit v0 σ) fun x12 σ =>
      if x12 = 0 then
        k1 () σ
      else
        gR 0 9 σ v0 fun y13 =>
        gI 0 11 σ v0 fun x14 =>
        lI 100 σ y13 x14 fun x15 =>
        ob 0 σ v0 fun _ => bnd (f_X1_isRider v0 (x15 - 48) σ) fun x16 σ =>
        if x16 = 0 then
          k1 () σ
        else
          j5 () σ
    else
      j5 () σ
def f_X1_rota_b128 (v0 : Option Nat) (k0 : Unit → Hp → Option (Int32 × Hp)) (ag : Int32 → Hp → Option (Int32 × Hp)) (a : Int32) (σ : Hp) : Option (Int32 × Hp) :=
  if 8 ≤ a then
    k0 () σ
  else
    gR 0 0 σ v0 fun y21 =>
    gR 1 0 σ y21 fun y22 =>
    gI 0 6 σ v0 fun x23 =>
    jn (fun (a24 : Int32) σ =>
        sI σ y22 a a24 fun σ =>
        ag (a + 1) σ) fun j25 =>
    if x23 ≤ a then
      j25 (-1) σ
    else
      gR 0 30 σ v0 fun y26 =>
      lI 100 σ y26 a fun x27 =>
      j25 x27 σ
def f_X1_rota (v0 : Option Nat) (σ : Hp) : Option (Int32 × Hp) :=
  ob 0 σ v0 fun _ => bnd (f_X1_begins v0 80 σ) fun x1 σ =>
  lp 2000 (f_X1_rota_b11 v0 (fun (a17 : Int32) σ =>
      gI 0 11 σ v0 fun x18 =>
      gI 0 12 σ v0 fun x19 =>
      if x19 ≤ x18 then
        gR 0 0 σ v0 fun y20 =>
        ob 0 σ v0 fun _ => bnd (f_X1_putsBy v0 y20 σ) fun _ σ =>
        lp 2000 (f_X1_rota_b128 v0 (fun (a28 : Unit) σ =>
            some (a17, σ))) 0 σ
      else
        gI 0 11 σ v0 fun x29 =>
        some (((-1) - x29), σ)) (fun (a30 : Unit) σ =>
      gI 0 11 σ v0 fun x31 =>
      some (((-1) - x31), σ))) (0, 0) σ
theorem ok_X1_rota_b11 (X : Mx) (v0 : Option Nat) {k0 : Int32 → Hp → Option (Int32 × Hp)} {k1 : Unit → Hp → Option (Int32 × Hp)} (hk0 : ∀ (a : Int32) (σ : Hp), GG X mi_X1_rota (QM X rI) 100 [(0, vA v0), (1, vI a)] [] σ (k0 a σ)) (hk1 : ∀ (a : Unit) (σ : Hp), GG X mi_X1_rota (QM X rI) 56 [(0, vA v0)] [] σ (k1 a σ)) : ∀ (m : Nat) (a : Int32 × Int32) (σ : Hp), GG X mi_X1_rota (QM X rI) 11 [(0, vA v0), (1, vI a.1), (2, vI a.2)] [] σ (lp m (f_X1_rota_b11 v0 k0 k1) a σ) := by
  refine g_lp (fun (a : Int32 × Int32) => [(0, vA v0), (1, vI a.1), (2, vI a.2)]) ?_
  intro ag hag a σ
  unfold f_X1_rota_b11
  refine g_iload_n 2 dX1_rota_11 rfl rfl ?_
  refine g_aload_n 0 dX1_rota_12 rfl rfl ?_
  refine g_getI fo_0_6 (by decide) q180 dX1_rota_13 fun x2 => ?_
  refine g_icmp_ge 100 dX1_rota_16 (by decide) ?_ ?_
  · exact g_jmp (hk0 _ _) rfl
  · refine g_aload_n 0 dX1_rota_19 rfl rfl ?_
    refine g_bipush 45 dX1_rota_20 (by decide) ?_
    refine g_callV_I (mm_X1_takes _ _ _) rfl zc_0 q459 q461 qs4 q107 q462 dv_X1_takes rfl (Nat.le_of_ble_eq_true rfl) (Nat.le_of_ble_eq_true rfl) (Nat.le_of_ble_eq_true rfl) dX1_rota_22 fun x3 σ => ?_
    refine g_istore_n 3 dX1_rota_25 rfl (lt_b rfl) ?_
    refine g_iload_n 3 dX1_rota_26 rfl rfl ?_
    refine g_jn (fun j5 => ∀ (a4 : Unit) (σ : Hp), GG X mi_X1_rota (QM X rI) 63 [(0, vA v0), (1, vI a.1), (2, vI a.2), (3, vI x3)] [] σ (j5 a4 σ)) ?_ ?_
    · intro a4 σ
      refine g_aload_n 0 dX1_rota_63 rfl rfl ?_
      refine g_getR fo_0_30 q207 dX1_rota_64 fun y6 => ?_
      refine g_iload_n 2 dX1_rota_67 rfl rfl ?_
      refine g_iload_n 3 dX1_rota_68 rfl rfl ?_
      refine g_jn (fun j8 => ∀ (a7 : Int32) (σ : Hp), GG X mi_X1_rota (QM X rI) 81 [(0, vA v0), (1, vI a.1), (2, vI a.2), (3, vI x3)] [vI a7, vI a.2, vA y6] σ (j8 a7 σ)) ?_ ?_
      · intro a7 σ
        refine g_iastore dX1_rota_81 fun σ => ?_
        refine g_iload_n 1 dX1_rota_82 rfl rfl ?_
        refine g_iload_n 3 dX1_rota_83 rfl rfl ?_
        refine g_jn (fun j10 => ∀ (a9 : Int32) (σ : Hp), GG X mi_X1_rota (QM X rI) 92 [(0, vA v0), (2, vI a.2)] [vI a9, vI a.1] σ (j10 a9 σ)) ?_ ?_
        · intro a9 σ
          refine g_iadd dX1_rota_92 ?_
          refine g_istore_n 1 dX1_rota_93 rfl (lt_b rfl) ?_
          refine g_iinc 1 dX1_rota_94 (by decide) rfl (lt_b rfl) ?_
          refine g_goto 11 dX1_rota_97 (by decide) ?_
          exact g_jmp (hag _ _) rfl
        · intro j10 hj10
          refine g_if_eq 91 dX1_rota_84 (by decide) ?_ ?_
          · refine g_iconst 1 dX1_rota_91 (by decide) ?_
            exact g_jmp (hj10 _ _) rfl
          · refine g_iconst 0 dX1_rota_87 (by decide) ?_
            refine g_goto 92 dX1_rota_88 (by decide) ?_
            exact g_jmp (hj10 _ _) rfl
      · intro j8 hj8
        refine g_if_eq 76 dX1_rota_69 (by decide) ?_ ?_
        · refine g_aload_n 0 dX1_rota_76 rfl rfl ?_
          refine g_iconst 1 dX1_rota_77 (by decide) ?_
          refine g_callV_I (mm_X1_number _ _ _) rfl zc_0 q515 q517 qs11 q107 q518 dv_X1_number rfl (Nat.le_of_ble_eq_true rfl) (Nat.le_of_ble_eq_true rfl) (Nat.le_of_ble_eq_true rfl) dX1_rota_78 fun x11 σ => ?_
          exact g_jmp (hj8 _ _) rfl
        · refine g_iconst (-1) dX1_rota_72 (by decide) ?_
          refine g_goto 81 dX1_rota_73 (by decide) ?_
          exact g_jmp (hj8 _ _) rfl
    · intro j5 hj5
      refine g_if_ne 63 dX1_rota_27 (by decide) ?_ ?_
      · exact g_jmp (hj5 _ _) rfl
      · refine g_aload_n 0 dX1_rota_30 rfl rfl ?_
        refine g_callV_I (mm_X1_isDigit _ _) rfl zc_0 q507 q509 qs10 q107 q510 dv_X1_isDigit rfl (Nat.le_of_ble_eq_true rfl) (Nat.le_of_ble_eq_true rfl) (Nat.le_of_ble_eq_true rfl) dX1_rota_31 fun x12 σ => ?_
        refine g_if_eq 56 dX1_rota_34 (by decide) ?_ ?_
        · exact g_jmp (hk1 _ _) rfl
        · refine g_aload_n 0 dX1_rota_37 rfl rfl ?_
          refine g_aload_n 0 dX1_rota_38 rfl rfl ?_
          refine g_getR fo_0_9 q183 dX1_rota_39 fun y13 => ?_
          refine g_aload_n 0 dX1_rota_42 rfl rfl ?_
          refine g_getI fo_0_11 (by decide) q185 dX1_rota_43 fun x14 => ?_
          refine g_iaload dX1_rota_46 fun x15 => ?_
          refine g_bipush 48 dX1_rota_47 (by decide) ?_
          refine g_isub dX1_rota_49 ?_
          refine g_callV_I (mm_X1_isRider _ _ _) rfl zc_0 q576 q578 qs12 q107 q579 dv_X1_isRider rfl (Nat.le_of_ble_eq_true rfl) (Nat.le_of_ble_eq_true rfl) (Nat.le_of_ble_eq_true rfl) dX1_rota_50 fun x16 σ => ?_
          refine g_if_ne 63 dX1_rota_53 (by decide) ?_ ?_
          · exact g_jmp (hj5 _ _) rfl
          · exact g_jmp (hk1 _ _) rfl
theorem ok_X1_rota_b128 (X : Mx) (v0 : Option Nat) (v1 : Int32) {k0 : Unit → Hp → Option (Int32 × Hp)} (hk0 : ∀ (a : Unit) (σ : Hp), GG X mi_X1_rota (QM X rI) 167 [(1, vI v1)] [] σ (k0 a σ)) : ∀ (m : Nat) (a : Int32) (σ : Hp), GG X mi_X1_rota (QM X rI) 128 [(0, vA v0), (1, vI v1), (2, vI a)] [] σ (lp m (f_X1_rota_b128 v0 k0) a σ) := by
  refine g_lp (fun (a : Int32) => [(0, vA v0), (1, vI v1), (2, vI a)]) ?_
  intro ag hag a σ
  unfold f_X1_rota_b128
  refine g_iload_n 2 dX1_rota_128 rfl rfl ?_
  refine g_bipush 8 dX1_rota_129 (by decide) ?_
  refine g_icmp_ge 167 dX1_rota_131 (by decide) ?_ ?_
  · exact g_jmp (hk0 _ _) rfl
  · refine g_aload_n 0 dX1_rota_134 rfl rfl ?_
    refine g_getR fo_0_0 q171 dX1_rota_135 fun y21 => ?_
    refine g_getRN fo_1_0 nf_142 dX1_rota_138 fun y22 => ?_
    refine g_iload_n 2 dX1_rota_141 rfl rfl ?_
    refine g_iload_n 2 dX1_rota_142 rfl rfl ?_
    refine g_aload_n 0 dX1_rota_143 rfl rfl ?_
    refine g_getI fo_0_6 (by decide) q180 dX1_rota_144 fun x23 => ?_
    refine g_jn (fun j25 => ∀ (a24 : Int32) (σ : Hp), GG X mi_X1_rota (QM X rI) 160 [(0, vA v0), (1, vI v1), (2, vI a)] [vI a24, vI a, vA y22] σ (j25 a24 σ)) ?_ ?_
    · intro a24 σ
      refine g_iastore dX1_rota_160 fun σ => ?_
      refine g_iinc 1 dX1_rota_161 (by decide) rfl (lt_b rfl) ?_
      refine g_goto 128 dX1_rota_164 (by decide) ?_
      exact g_jmp (hag _ _) rfl
    · intro j25 hj25
      refine g_icmp_ge 159 dX1_rota_147 (by decide) ?_ ?_
      · refine g_iconst (-1) dX1_rota_159 (by decide) ?_
        exact g_jmp (hj25 _ _) rfl
      · refine g_aload_n 0 dX1_rota_150 rfl rfl ?_
        refine g_getR fo_0_30 q207 dX1_rota_151 fun y26 => ?_
        refine g_iload_n 2 dX1_rota_154 rfl rfl ?_
        refine g_iaload dX1_rota_155 fun x27 => ?_
        refine g_goto 160 dX1_rota_156 (by decide) ?_
        exact g_jmp (hj25 _ _) rfl
theorem mm_X1_rota (v0 : Option Nat) (σ : Hp) : MM yX1_rota mi_X1_rota rI [vA v0] σ (f_X1_rota v0 σ) := by
  refine mm_of (by decide +kernel) rfl rfl (Nat.le_of_ble_eq_true rfl) ?_
  intro X
  unfold f_X1_rota
  refine g_aload_n 0 dX1_rota_0 rfl rfl ?_
  refine g_bipush 80 dX1_rota_1 (by decide) ?_
  refine g_callV_I (mm_X1_begins _ _ _) rfl zc_0 q353 q355 qs0 q107 q356 dv_X1_begins rfl (Nat.le_of_ble_eq_true rfl) (Nat.le_of_ble_eq_true rfl) (Nat.le_of_ble_eq_true rfl) dX1_rota_3 fun x1 σ => ?_
  refine g_pop dX1_rota_6 rfl ?_
  refine g_iconst 0 dX1_rota_7 (by decide) ?_
  refine g_istore_n 1 dX1_rota_8 rfl (lt_b rfl) ?_
  refine g_iconst 0 dX1_rota_9 (by decide) ?_
  refine g_istore_n 2 dX1_rota_10 rfl (lt_b rfl) ?_
  refine g_jmp (ok_X1_rota_b11 X v0 ?_ ?_ _ _ _) rfl
  · intro a17 σ
    refine g_aload_n 0 dX1_rota_100 rfl rfl ?_
    refine g_getI fo_0_11 (by decide) q185 dX1_rota_101 fun x18 => ?_
    refine g_aload_n 0 dX1_rota_104 rfl rfl ?_
    refine g_getI fo_0_12 (by decide) q186 dX1_rota_105 fun x19 => ?_
    refine g_icmp_ge 118 dX1_rota_108 (by decide) ?_ ?_
    · refine g_aload_n 0 dX1_rota_118 rfl rfl ?_
      refine g_aload_n 0 dX1_rota_119 rfl rfl ?_
      refine g_getR fo_0_0 q171 dX1_rota_120 fun y20 => ?_
      refine g_callV_V (mm_X1_putsBy _ _ _) rfl zc_0 q639 q641 qs15 q107 q642 dv_X1_putsBy rfl (Nat.le_of_ble_eq_true rfl) (Nat.le_of_ble_eq_true rfl) (Nat.le_of_ble_eq_true rfl) dX1_rota_123 fun _ σ => ?_
      refine g_iconst 0 dX1_rota_126 (by decide) ?_
      refine g_istore_n 2 dX1_rota_127 rfl (lt_b rfl) ?_
      refine g_jmp (ok_X1_rota_b128 X v0 a17 ?_ _ _ _) rfl
      · intro a28 σ
        refine g_iload_n 1 dX1_rota_167 rfl rfl ?_
        exact g_iret rfl dX1_rota_168
    · refine g_iconst (-1) dX1_rota_111 (by decide) ?_
      refine g_aload_n 0 dX1_rota_112 rfl rfl ?_
      refine g_getI fo_0_11 (by decide) q185 dX1_rota_113 fun x29 => ?_
      refine g_isub dX1_rota_116 ?_
      exact g_iret rfl dX1_rota_117
  · intro a30 σ
    refine g_iconst (-1) dX1_rota_56 (by decide) ?_
    refine g_aload_n 0 dX1_rota_57 rfl rfl ?_
    refine g_getI fo_0_11 (by decide) q185 dX1_rota_58 fun x31 => ?_
    refine g_isub dX1_rota_61 ?_
    exact g_iret rfl dX1_rota_62
theorem dd_X1_rota : yX1_rota.cls ≠ "java/lang/invoke/MethodHandle" ∧ yX1_rota.cls ≠ "java/lang/invoke/VarHandle" ∧ (parseMethodDescriptor yX1_rota.desc).map (fun d => d.parameters.length) = some 0 := by decide +kernel
theorem dv_X1_rota : yX1_rota.cls = RX1 ∧ yX1_rota.cls ≠ "java/lang/invoke/MethodHandle" ∧ yX1_rota.cls ≠ "java/lang/invoke/VarHandle" ∧ (parseMethodDescriptor yX1_rota.desc).map (fun d => d.parameters.length) = some 0 := ⟨rfl, dd_X1_rota⟩
/-! RockingHorse.ill(I)I -/
abbrev mi_X1_ill : Mi := (cX1_ill, 2, "RockingHorse", 3, some .int, "ill")
def f_X1_ill (v0 : Option Nat) (v1 : Int32) (σ : Hp) : Option (Int32 × Hp) :=
  ob 0 σ v0 fun _ => bnd (f_X1_isRider v0 v1 σ) fun x1 σ =>
  if x1 = 0 then
    some ((-1), σ)
  else
    gR 0 0 σ v0 fun y2 =>
    ob 0 σ v0 fun _ => bnd (f_X1_putsBy v0 y2 σ) fun _ σ =>
    gR 0 0 σ v0 fun y3 =>
    ob 0 σ v0 fun _ => bnd (f_X1_falls v0 y3 v1 σ) fun x4 σ =>
    some (x4, σ)
theorem mm_X1_ill (v0 : Option Nat) (v1 : Int32) (σ : Hp) : MM yX1_ill mi_X1_ill rI [vA v0, vI v1] σ (f_X1_ill v0 v1 σ) := by
  refine mm_of (by decide +kernel) rfl rfl (Nat.le_of_ble_eq_true rfl) ?_
  intro X
  unfold f_X1_ill
  refine g_aload_n 0 dX1_ill_0 rfl rfl ?_
  refine g_iload_n 1 dX1_ill_1 rfl rfl ?_
  refine g_callV_I (mm_X1_isRider _ _ _) rfl zc_0 q576 q578 qs12 q107 q579 dv_X1_isRider rfl (Nat.le_of_ble_eq_true rfl) (Nat.le_of_ble_eq_true rfl) (Nat.le_of_ble_eq_true rfl) dX1_ill_2 fun x1 σ => ?_
  refine g_if_ne 10 dX1_ill_5 (by decide) ?_ ?_
  · refine g_aload_n 0 dX1_ill_10 rfl rfl ?_
    refine g_aload_n 0 dX1_ill_11 rfl rfl ?_
    refine g_getR fo_0_0 q171 dX1_ill_12 fun y2 => ?_
    refine g_callV_V (mm_X1_putsBy _ _ _) rfl zc_0 q639 q641 qs15 q107 q642 dv_X1_putsBy rfl (Nat.le_of_ble_eq_true rfl) (Nat.le_of_ble_eq_true rfl) (Nat.le_of_ble_eq_true rfl) dX1_ill_15 fun _ σ => ?_
    refine g_aload_n 0 dX1_ill_18 rfl rfl ?_
    refine g_aload_n 0 dX1_ill_19 rfl rfl ?_
    refine g_getR fo_0_0 q171 dX1_ill_20 fun y3 => ?_
    refine g_iload_n 1 dX1_ill_23 rfl rfl ?_
    refine g_callV_I (mm_X1_falls _ _ _ _) rfl zc_0 q655 q657 qs17 q107 q658 dv_X1_falls rfl (Nat.le_of_ble_eq_true rfl) (Nat.le_of_ble_eq_true rfl) (Nat.le_of_ble_eq_true rfl) dX1_ill_24 fun x4 σ => ?_
    exact g_iret rfl dX1_ill_27
  · refine g_iconst (-1) dX1_ill_8 (by decide) ?_
    exact g_iret rfl dX1_ill_9
theorem dd_X1_ill : yX1_ill.cls ≠ "java/lang/invoke/MethodHandle" ∧ yX1_ill.cls ≠ "java/lang/invoke/VarHandle" ∧ (parseMethodDescriptor yX1_ill.desc).map (fun d => d.parameters.length) = some 1 := by decide +kernel
theorem dv_X1_ill : yX1_ill.cls = RX1 ∧ yX1_ill.cls ≠ "java/lang/invoke/MethodHandle" ∧ yX1_ill.cls ≠ "java/lang/invoke/VarHandle" ∧ (parseMethodDescriptor yX1_ill.desc).map (fun d => d.parameters.length) = some 1 := ⟨rfl, dd_X1_ill⟩
/-! RockingHorse.nightGoes(LRockingHorse$Horse;)V -/
abbrev mi_X1_nightGoes : Mi := (cX1_nightGoes, 3, "RockingHorse", 103, none, "nightGoes")
def f_X1_nightGoes_b39 (v0 : Option Nat) (v1 : Option Nat) (k0 : Unit → Hp → Option (Unit × Hp)) (ag : Int32 → Hp → Option (Unit × Hp)) (a : Int32) (σ : Hp) : Option (Unit × Hp) :=
  gI 0 5 σ v0 fun x7 =>
  if x7 ≤ a then
    k0 () σ
  else
    gR 1 1 σ v1 fun y8 =>
    gR 0 26 σ v0 fun y9 =>
    lI 100 σ y9 a fun x10 =>
    jn (fun (a11 : Int32) σ =>
        sI σ y8 a a11 fun σ =>
        ag (a + 1) σ) fun j12 =>
    if x10 ≤ 0 then
      gR 1 1 σ v1 fun y13 =>
      lI 100 σ y13 a fun x14 =>
      j12 (imax 0 (x14 - 5)) σ
    else
      gR 1 1 σ v1 fun y15 =>
      lI 100 σ y15 a fun x16 =>
      gR 0 27 σ v0 fun y17 =>
      lI 100 σ y17 a fun x18 =>
      j12 (imin 99 (x16 + x18)) σ
def f_X1_nightGoes (v0 : Option Nat) (v1 : Option Nat) (σ : Hp) : Option (Unit × Hp) :=
  ob 0 σ v0 fun _ => bnd (f_X1_rides v0 v1 σ) fun _ σ =>
  gI 1 4 σ v1 fun x1 =>
  gI 0 28 σ v0 fun x2 =>
  bnd (f_J10_bitCount x2 σ) fun x3 σ =>
  pI 0 1 4 σ v1 (x1 + x3) fun σ =>
  gI 1 5 σ v1 fun x4 =>
  gI 0 29 σ v0 fun x5 =>
  bnd (f_J10_bitCount x5 σ) fun x6 σ =>
  pI 0 1 5 σ v1 (x4 + x6) fun σ =>
  lp 2000 (f_X1_nightGoes_b39 v0 v1 (fun (a19 : Unit) σ =>
      gI 1 3 σ v1 fun x20 =>
      pI 0 1 3 σ v1 (x20 + 1) fun σ =>
      some ((), σ))) 0 σ
theorem ok_X1_nightGoes_b39 (X : Mx) (v0 : Option Nat) (v1 : Option Nat) {k0 : Unit → Hp → Option (Unit × Hp)} (hk0 : ∀ (a : Unit) (σ : Hp), GG X mi_X1_nightGoes (QM X rV) 101 [(1, vA v1)] [] σ (k0 a σ)) : ∀ (m : Nat) (a : Int32) (σ : Hp), GG X mi_X1_nightGoes (QM X rV) 39 [(0, vA v0), (1, vA v1), (2, vI a)] [] σ (lp m (f_X1_nightGoes_b39 v0 v1 k0) a σ) := by
  refine g_lp (fun (a : Int32) => [(0, vA v0), (1, vA v1), (2, vI a)]) ?_
  intro ag hag a σ
  unfold f_X1_nightGoes_b39
  refine g_iload_n 2 dX1_nightGoes_39 rfl rfl ?_
  refine g_aload_n 0 dX1_nightGoes_40 rfl rfl ?_
  refine g_getI fo_0_5 (by decide) q179 dX1_nightGoes_41 fun x7 => ?_
  refine g_icmp_ge 101 dX1_nightGoes_44 (by decide) ?_ ?_
  · exact g_jmp (hk0 _ _) rfl
  · refine g_aload_n 1 dX1_nightGoes_47 rfl rfl ?_
    refine g_getRN fo_1_1 nf_145 dX1_nightGoes_48 fun y8 => ?_
    refine g_iload_n 2 dX1_nightGoes_51 rfl rfl ?_
    refine g_aload_n 0 dX1_nightGoes_52 rfl rfl ?_
    refine g_getR fo_0_26 q203 dX1_nightGoes_53 fun y9 => ?_
    refine g_iload_n 2 dX1_nightGoes_56 rfl rfl ?_
    refine g_iaload dX1_nightGoes_57 fun x10 => ?_
    refine g_jn (fun j12 => ∀ (a11 : Int32) (σ : Hp), GG X mi_X1_nightGoes (QM X rV) 94 [(0, vA v0), (1, vA v1), (2, vI a)] [vI a11, vI a, vA y8] σ (j12 a11 σ)) ?_ ?_
    · intro a11 σ
      refine g_iastore dX1_nightGoes_94 fun σ => ?_
      refine g_iinc 1 dX1_nightGoes_95 (by decide) rfl (lt_b rfl) ?_
      refine g_goto 39 dX1_nightGoes_98 (by decide) ?_
      exact g_jmp (hag _ _) rfl
    · intro j12 hj12
      refine g_if_le 82 dX1_nightGoes_58 (by decide) ?_ ?_
      · refine g_iconst 0 dX1_nightGoes_82 (by decide) ?_
        refine g_aload_n 1 dX1_nightGoes_83 rfl rfl ?_
        refine g_getRN fo_1_1 nf_145 dX1_nightGoes_84 fun y13 => ?_
        refine g_iload_n 2 dX1_nightGoes_87 rfl rfl ?_
        refine g_iaload dX1_nightGoes_88 fun x14 => ?_
        refine g_iconst 5 dX1_nightGoes_89 (by decide) ?_
        refine g_isub dX1_nightGoes_90 ?_
        refine g_mmax q608 (by decide) (Nat.le_of_ble_eq_true rfl) dX1_nightGoes_91 ?_
        exact g_jmp (hj12 _ _) rfl
      · refine g_bipush 99 dX1_nightGoes_61 (by decide) ?_
        refine g_aload_n 1 dX1_nightGoes_63 rfl rfl ?_
        refine g_getRN fo_1_1 nf_145 dX1_nightGoes_64 fun y15 => ?_
        refine g_iload_n 2 dX1_nightGoes_67 rfl rfl ?_
        refine g_iaload dX1_nightGoes_68 fun x16 => ?_
        refine g_aload_n 0 dX1_nightGoes_69 rfl rfl ?_
        refine g_getR fo_0_27 q204 dX1_nightGoes_70 fun y17 => ?_
        refine g_iload_n 2 dX1_nightGoes_73 rfl rfl ?_
        refine g_iaload dX1_nightGoes_74 fun x18 => ?_
        refine g_iadd dX1_nightGoes_75 ?_
        refine g_mmin q357 (by decide) (Nat.le_of_ble_eq_true rfl) dX1_nightGoes_76 ?_
        refine g_goto 94 dX1_nightGoes_79 (by decide) ?_
        exact g_jmp (hj12 _ _) rfl
theorem mm_X1_nightGoes (v0 : Option Nat) (v1 : Option Nat) (σ : Hp) : MM yX1_nightGoes mi_X1_nightGoes rV [vA v0, vA v1] σ (f_X1_nightGoes v0 v1 σ) := by
  refine mm_of (by decide +kernel) rfl rfl (Nat.le_of_ble_eq_true rfl) ?_
  intro X
  unfold f_X1_nightGoes
  refine g_aload_n 0 dX1_nightGoes_0 rfl rfl ?_
  refine g_aload_n 1 dX1_nightGoes_1 rfl rfl ?_
  refine g_callV_V (mm_X1_rides _ _ _) rfl zc_0 q673 q675 qs20 q107 q676 dv_X1_rides rfl (Nat.le_of_ble_eq_true rfl) (Nat.le_of_ble_eq_true rfl) (Nat.le_of_ble_eq_true rfl) dX1_nightGoes_2 fun _ σ => ?_
  refine g_aload_n 1 dX1_nightGoes_5 rfl rfl ?_
  refine g_dup dX1_nightGoes_6 rfl ?_
  refine g_getIN fo_1_4 (by decide) nf_152 dX1_nightGoes_7 fun x1 => ?_
  refine g_aload_n 0 dX1_nightGoes_10 rfl rfl ?_
  refine g_getI fo_0_28 (by decide) q205 dX1_nightGoes_11 fun x2 => ?_
  refine g_callS_I (mm_J10_bitCount _ _) rfl q659 q600 q125 q601 dd_J10_bitCount rfl (Nat.le_of_ble_eq_true rfl) (Nat.le_of_ble_eq_true rfl) (Nat.le_of_ble_eq_true rfl) dX1_nightGoes_14 fun x3 σ => ?_
  refine g_iadd dX1_nightGoes_17 ?_
  refine g_putIN fo_1_4 (by decide) rfl nf_152 dX1_nightGoes_18 fun σ => ?_
  refine g_aload_n 1 dX1_nightGoes_21 rfl rfl ?_
  refine g_dup dX1_nightGoes_22 rfl ?_
  refine g_getIN fo_1_5 (by decide) nf_154 dX1_nightGoes_23 fun x4 => ?_
  refine g_aload_n 0 dX1_nightGoes_26 rfl rfl ?_
  refine g_getI fo_0_29 (by decide) q206 dX1_nightGoes_27 fun x5 => ?_
  refine g_callS_I (mm_J10_bitCount _ _) rfl q659 q600 q125 q601 dd_J10_bitCount rfl (Nat.le_of_ble_eq_true rfl) (Nat.le_of_ble_eq_true rfl) (Nat.le_of_ble_eq_true rfl) dX1_nightGoes_30 fun x6 σ => ?_
  refine g_iadd dX1_nightGoes_33 ?_
  refine g_putIN fo_1_5 (by decide) rfl nf_154 dX1_nightGoes_34 fun σ => ?_
  refine g_iconst 0 dX1_nightGoes_37 (by decide) ?_
  refine g_istore_n 2 dX1_nightGoes_38 rfl (lt_b rfl) ?_
  refine g_jmp (ok_X1_nightGoes_b39 X v0 v1 ?_ _ _ _) rfl
  · intro a19 σ
    refine g_aload_n 1 dX1_nightGoes_101 rfl rfl ?_
    refine g_dup dX1_nightGoes_102 rfl ?_
    refine g_getIN fo_1_3 (by decide) nf_150 dX1_nightGoes_103 fun x20 => ?_
    refine g_iconst 1 dX1_nightGoes_106 (by decide) ?_
    refine g_iadd dX1_nightGoes_107 ?_
    refine g_putIN fo_1_3 (by decide) rfl nf_150 dX1_nightGoes_108 fun σ => ?_
    exact g_vret rfl dX1_nightGoes_111
theorem dd_X1_nightGoes : yX1_nightGoes.cls ≠ "java/lang/invoke/MethodHandle" ∧ yX1_nightGoes.cls ≠ "java/lang/invoke/VarHandle" ∧ (parseMethodDescriptor yX1_nightGoes.desc).map (fun d => d.parameters.length) = some 1 := by decide +kernel
theorem dv_X1_nightGoes : yX1_nightGoes.cls = RX1 ∧ yX1_nightGoes.cls ≠ "java/lang/invoke/MethodHandle" ∧ yX1_nightGoes.cls ≠ "java/lang/invoke/VarHandle" ∧ (parseMethodDescriptor yX1_nightGoes.desc).map (fun d => d.parameters.length) = some 1 := ⟨rfl, dd_X1_nightGoes⟩
