set_option maxRecDepth 100000
/-! RockingHorse.riders()I -/
abbrev mi_X1_riders : Mi := (cX1_riders, 6, "RockingHorse", 7, some .int, "riders")
def f_X1_riders_b25 (v0 : Option Nat) (k0 : Int32 → Hp → Option (Int32 × Hp)) (ag : (Int32 × Int32) → Hp → Option (Int32 × Hp)) (a : Int32 × Int32) (σ : Hp) : Option (Int32 × Hp) :=
  if a.2 = 0 then
    k0 a.1 σ
  else
    ob 0 σ v0 fun _ => bnd (f_X1_readsRider v0 σ) fun x3 σ =>
    jn (fun (a4 : Int32) σ =>
        ag (x3, a4) σ) fun j5 =>
    if x3 = 0 then
      j5 0 σ
    else
      ob 0 σ v0 fun _ => bnd (f_X1_takes v0 59 σ) fun x6 σ =>
      if x6 = 0 then
        j5 0 σ
      else
        j5 1 σ
def f_X1_riders_b83 (v0 : Option Nat) (k0 : Unit → Hp → Option (Int32 × Hp)) (ag : Unit → Hp → Option (Int32 × Hp)) (a : Unit) (σ : Hp) : Option (Int32 × Hp) :=
  gI 0 5 σ v0 fun x11 =>
  gI 0 17 σ v0 fun x12 =>
  if x12 ≤ x11 then
    k0 () σ
  else
    gR 0 2 σ v0 fun y13 =>
    gI 0 5 σ v0 fun x14 =>
    gR 0 14 σ v0 fun y15 =>
    gI 0 5 σ v0 fun x16 =>
    lI 100 σ y15 x16 fun x17 =>
    sI σ y13 x14 x17 fun σ =>
    gR 0 3 σ v0 fun y18 =>
    gI 0 5 σ v0 fun x19 =>
    gR 0 15 σ v0 fun y20 =>
    gI 0 5 σ v0 fun x21 =>
    lI 100 σ y20 x21 fun x22 =>
    sI σ y18 x19 x22 fun σ =>
    gR 0 4 σ v0 fun y23 =>
    gI 0 5 σ v0 fun x24 =>
    gR 0 16 σ v0 fun y25 =>
    gI 0 5 σ v0 fun x26 =>
    lI 100 σ y25 x26 fun x27 =>
    sI σ y23 x24 x27 fun σ =>
    gR 0 0 σ v0 fun y28 =>
    gR 1 1 σ y28 fun y29 =>
    gI 0 5 σ v0 fun x30 =>
    sI σ y29 x30 0 fun σ =>
    gR 0 0 σ v0 fun y31 =>
    gI 1 2 σ y31 fun x32 =>
    gI 0 5 σ v0 fun x33 =>
    pI 0 1 2 σ y31 (x32 &&& ((shl 1 x33) ^^^ (-1))) fun σ =>
    gI 0 5 σ v0 fun x34 =>
    pI 0 0 5 σ v0 (x34 + 1) fun σ =>
    ag () σ
def f_X1_riders (v0 : Option Nat) (σ : Hp) : Option (Int32 × Hp) :=
  ob 0 σ v0 fun _ => bnd (f_X1_begins v0 76 σ) fun x1 σ =>
  if x1 = 0 then
    some (0, σ)
  else
    gI 0 5 σ v0 fun x2 =>
    pI 0 0 17 σ v0 x2 fun σ =>
    lp 2000 (f_X1_riders_b25 v0 (fun (a7 : Int32) σ =>
        ob 0 σ v0 fun _ => bnd (f_X1_faultOf v0 x1 a7 σ) fun x8 σ =>
        if 0 ≤ x8 then
          gI 0 17 σ v0 fun x9 =>
          gI 0 5 σ v0 fun x10 =>
          lp 2000 (f_X1_riders_b83 v0 (fun (a35 : Unit) σ =>
              pI 0 0 25 σ v0 0 fun σ =>
              gI 0 8 σ v0 fun x36 =>
              pI 0 0 8 σ v0 (x36 + 1) fun σ =>
              some ((x9 - x10), σ))) () σ
        else
          some (x8, σ))) (1, 1) σ
theorem ok_X1_riders_b25 (X : Mx) (v0 : Option Nat) (v1 : Int32) {k0 : Int32 → Hp → Option (Int32 × Hp)} (hk0 : ∀ (a : Int32) (σ : Hp), GG X mi_X1_riders (QM X rI) 56 [(0, vA v0), (1, vI v1), (2, vI a)] [] σ (k0 a σ)) : ∀ (m : Nat) (a : Int32 × Int32) (σ : Hp), GG X mi_X1_riders (QM X rI) 25 [(0, vA v0), (1, vI v1), (2, vI a.1), (3, vI a.2)] [] σ (lp m (f_X1_riders_b25 v0 k0) a σ) := by
  refine g_lp (fun (a : Int32 × Int32) => [(0, vA v0), (1, vI v1), (2, vI a.1), (3, vI a.2)]) ?_
  intro ag hag a σ
  unfold f_X1_riders_b25
  refine g_iload_n 3 dX1_riders_25 rfl rfl ?_
  refine g_if_eq 56 dX1_riders_26 (by decide) ?_ ?_
  · exact g_jmp (hk0 _ _) rfl
  · refine g_aload_n 0 dX1_riders_29 rfl rfl ?_
    refine g_callV_I (mm_X1_readsRider _ _) rfl zc_0 q360 q362 qs1 q107 q363 dv_X1_readsRider rfl (Nat.le_of_ble_eq_true rfl) (Nat.le_of_ble_eq_true rfl) (Nat.le_of_ble_eq_true rfl) dX1_riders_30 fun x3 σ => ?_
    refine g_istore_n 2 dX1_riders_33 rfl (lt_b rfl) ?_
    refine g_iload_n 2 dX1_riders_34 rfl rfl ?_
    refine g_jn (fun j5 => ∀ (a4 : Int32) (σ : Hp), GG X mi_X1_riders (QM X rI) 52 [(0, vA v0), (1, vI v1), (2, vI x3)] [vI a4] σ (j5 a4 σ)) ?_ ?_
    · intro a4 σ
      refine g_istore_n 3 dX1_riders_52 rfl (lt_b rfl) ?_
      refine g_goto 25 dX1_riders_53 (by decide) ?_
      exact g_jmp (hag _ _) rfl
    · intro j5 hj5
      refine g_if_eq 51 dX1_riders_35 (by decide) ?_ ?_
      · refine g_iconst 0 dX1_riders_51 (by decide) ?_
        exact g_jmp (hj5 _ _) rfl
      · refine g_aload_n 0 dX1_riders_38 rfl rfl ?_
        refine g_bipush 59 dX1_riders_39 (by decide) ?_
        refine g_callV_I (mm_X1_takes _ _ _) rfl zc_0 q459 q461 qs4 q107 q462 dv_X1_takes rfl (Nat.le_of_ble_eq_true rfl) (Nat.le_of_ble_eq_true rfl) (Nat.le_of_ble_eq_true rfl) dX1_riders_41 fun x6 σ => ?_
        refine g_if_eq 51 dX1_riders_44 (by decide) ?_ ?_
        · refine g_iconst 0 dX1_riders_51 (by decide) ?_
          exact g_jmp (hj5 _ _) rfl
        · refine g_iconst 1 dX1_riders_47 (by decide) ?_
          refine g_goto 52 dX1_riders_48 (by decide) ?_
          exact g_jmp (hj5 _ _) rfl
theorem ok_X1_riders_b83 (X : Mx) (v0 : Option Nat) (v5 : Int32) {k0 : Unit → Hp → Option (Int32 × Hp)} (hk0 : ∀ (a : Unit) (σ : Hp), GG X mi_X1_riders (QM X rI) 194 [(0, vA v0), (5, vI v5)] [] σ (k0 a σ)) : ∀ (m : Nat) (a : Unit) (σ : Hp), GG X mi_X1_riders (QM X rI) 83 [(0, vA v0), (5, vI v5)] [] σ (lp m (f_X1_riders_b83 v0 k0) a σ) := by
  refine g_lp (fun (a : Unit) => [(0, vA v0), (5, vI v5)]) ?_
  intro ag hag a σ
  unfold f_X1_riders_b83
  refine g_aload_n 0 dX1_riders_83 rfl rfl ?_
  refine g_getI fo_0_5 (by decide) q179 dX1_riders_84 fun x11 => ?_
  refine g_aload_n 0 dX1_riders_87 rfl rfl ?_
  refine g_getI fo_0_17 (by decide) q191 dX1_riders_88 fun x12 => ?_
  refine g_icmp_ge 194 dX1_riders_91 (by decide) ?_ ?_
  · exact g_jmp (hk0 _ _) rfl
  · refine g_aload_n 0 dX1_riders_94 rfl rfl ?_
    refine g_getR fo_0_2 q173 dX1_riders_95 fun y13 => ?_
    refine g_aload_n 0 dX1_riders_98 rfl rfl ?_
    refine g_getI fo_0_5 (by decide) q179 dX1_riders_99 fun x14 => ?_
    refine g_aload_n 0 dX1_riders_102 rfl rfl ?_
    refine g_getR fo_0_14 q188 dX1_riders_103 fun y15 => ?_
    refine g_aload_n 0 dX1_riders_106 rfl rfl ?_
    refine g_getI fo_0_5 (by decide) q179 dX1_riders_107 fun x16 => ?_
    refine g_iaload dX1_riders_110 fun x17 => ?_
    refine g_iastore dX1_riders_111 fun σ => ?_
    refine g_aload_n 0 dX1_riders_112 rfl rfl ?_
    refine g_getR fo_0_3 q175 dX1_riders_113 fun y18 => ?_
    refine g_aload_n 0 dX1_riders_116 rfl rfl ?_
    refine g_getI fo_0_5 (by decide) q179 dX1_riders_117 fun x19 => ?_
    refine g_aload_n 0 dX1_riders_120 rfl rfl ?_
    refine g_getR fo_0_15 q189 dX1_riders_121 fun y20 => ?_
    refine g_aload_n 0 dX1_riders_124 rfl rfl ?_
    refine g_getI fo_0_5 (by decide) q179 dX1_riders_125 fun x21 => ?_
    refine g_iaload dX1_riders_128 fun x22 => ?_
    refine g_iastore dX1_riders_129 fun σ => ?_
    refine g_aload_n 0 dX1_riders_130 rfl rfl ?_
    refine g_getR fo_0_4 q177 dX1_riders_131 fun y23 => ?_
    refine g_aload_n 0 dX1_riders_134 rfl rfl ?_
    refine g_getI fo_0_5 (by decide) q179 dX1_riders_135 fun x24 => ?_
    refine g_aload_n 0 dX1_riders_138 rfl rfl ?_
    refine g_getR fo_0_16 q190 dX1_riders_139 fun y25 => ?_
    refine g_aload_n 0 dX1_riders_142 rfl rfl ?_
    refine g_getI fo_0_5 (by decide) q179 dX1_riders_143 fun x26 => ?_
    refine g_iaload dX1_riders_146 fun x27 => ?_
    refine g_iastore dX1_riders_147 fun σ => ?_
    refine g_aload_n 0 dX1_riders_148 rfl rfl ?_
    refine g_getR fo_0_0 q171 dX1_riders_149 fun y28 => ?_
    refine g_getRN fo_1_1 nf_145 dX1_riders_152 fun y29 => ?_
    refine g_aload_n 0 dX1_riders_155 rfl rfl ?_
    refine g_getI fo_0_5 (by decide) q179 dX1_riders_156 fun x30 => ?_
    refine g_iconst 0 dX1_riders_159 (by decide) ?_
    refine g_iastore dX1_riders_160 fun σ => ?_
    refine g_aload_n 0 dX1_riders_161 rfl rfl ?_
    refine g_getR fo_0_0 q171 dX1_riders_162 fun y31 => ?_
    refine g_dup dX1_riders_165 rfl ?_
    refine g_getIN fo_1_2 (by decide) nf_147 dX1_riders_166 fun x32 => ?_
    refine g_iconst 1 dX1_riders_169 (by decide) ?_
    refine g_aload_n 0 dX1_riders_170 rfl rfl ?_
    refine g_getI fo_0_5 (by decide) q179 dX1_riders_171 fun x33 => ?_
    refine g_ishl dX1_riders_174 ?_
    refine g_iconst (-1) dX1_riders_175 (by decide) ?_
    refine g_ixor dX1_riders_176 ?_
    refine g_iand dX1_riders_177 ?_
    refine g_putIN fo_1_2 (by decide) rfl nf_147 dX1_riders_178 fun σ => ?_
    refine g_aload_n 0 dX1_riders_181 rfl rfl ?_
    refine g_dup dX1_riders_182 rfl ?_
    refine g_getI fo_0_5 (by decide) q179 dX1_riders_183 fun x34 => ?_
    refine g_iconst 1 dX1_riders_186 (by decide) ?_
    refine g_iadd dX1_riders_187 ?_
    refine g_putI fo_0_5 (by decide) rfl q179 dX1_riders_188 fun σ => ?_
    refine g_goto 83 dX1_riders_191 (by decide) ?_
    exact g_jmp (hag _ _) rfl
theorem mm_X1_riders (v0 : Option Nat) (σ : Hp) : MM yX1_riders mi_X1_riders rI [vA v0] σ (f_X1_riders v0 σ) := by
  refine mm_of (by decide +kernel) rfl rfl (Nat.le_of_ble_eq_true rfl) ?_
  intro X
  unfold f_X1_riders
  refine g_aload_n 0 dX1_riders_0 rfl rfl ?_
  refine g_bipush 76 dX1_riders_1 (by decide) ?_
  refine g_callV_I (mm_X1_begins _ _ _) rfl zc_0 q353 q355 qs0 q107 q356 dv_X1_begins rfl (Nat.le_of_ble_eq_true rfl) (Nat.le_of_ble_eq_true rfl) (Nat.le_of_ble_eq_true rfl) dX1_riders_3 fun x1 σ => ?_
  refine g_istore_n 1 dX1_riders_6 rfl (lt_b rfl) ?_
  refine g_iload_n 1 dX1_riders_7 rfl rfl ?_
  refine g_if_ne 13 dX1_riders_8 (by decide) ?_ ?_
  · refine g_aload_n 0 dX1_riders_13 rfl rfl ?_
    refine g_aload_n 0 dX1_riders_14 rfl rfl ?_
    refine g_getI fo_0_5 (by decide) q179 dX1_riders_15 fun x2 => ?_
    refine g_putI fo_0_17 (by decide) rfl q191 dX1_riders_18 fun σ => ?_
    refine g_iconst 1 dX1_riders_21 (by decide) ?_
    refine g_istore_n 2 dX1_riders_22 rfl (lt_b rfl) ?_
    refine g_iconst 1 dX1_riders_23 (by decide) ?_
    refine g_istore_n 3 dX1_riders_24 rfl (lt_b rfl) ?_
    refine g_jmp (ok_X1_riders_b25 X v0 x1 ?_ _ _ _) rfl
    · intro a7 σ
      refine g_aload_n 0 dX1_riders_56 rfl rfl ?_
      refine g_iload_n 1 dX1_riders_57 rfl rfl ?_
      refine g_iload_n 2 dX1_riders_58 rfl rfl ?_
      refine g_callV_I (mm_X1_faultOf _ _ _ _) rfl zc_0 q467 q469 qs6 q107 q470 dv_X1_faultOf rfl (Nat.le_of_ble_eq_true rfl) (Nat.le_of_ble_eq_true rfl) (Nat.le_of_ble_eq_true rfl) dX1_riders_59 fun x8 σ => ?_
      refine g_istore dX1_riders_62 (lt_b rfl) ?_
      refine g_iload dX1_riders_64 rfl ?_
      refine g_if_ge 72 dX1_riders_66 (by decide) ?_ ?_
      · refine g_aload_n 0 dX1_riders_72 rfl rfl ?_
        refine g_getI fo_0_17 (by decide) q191 dX1_riders_73 fun x9 => ?_
        refine g_aload_n 0 dX1_riders_76 rfl rfl ?_
        refine g_getI fo_0_5 (by decide) q179 dX1_riders_77 fun x10 => ?_
        refine g_isub dX1_riders_80 ?_
        refine g_istore dX1_riders_81 (lt_b rfl) ?_
        refine g_jmp (ok_X1_riders_b83 X v0 (x9 - x10) ?_ _ _ _) rfl
        · intro a35 σ
          refine g_aload_n 0 dX1_riders_194 rfl rfl ?_
          refine g_iconst 0 dX1_riders_195 (by decide) ?_
          refine g_putI fo_0_25 (by decide) rfl q202 dX1_riders_196 fun σ => ?_
          refine g_aload_n 0 dX1_riders_199 rfl rfl ?_
          refine g_dup dX1_riders_200 rfl ?_
          refine g_getI fo_0_8 (by decide) q182 dX1_riders_201 fun x36 => ?_
          refine g_iconst 1 dX1_riders_204 (by decide) ?_
          refine g_iadd dX1_riders_205 ?_
          refine g_putI fo_0_8 (by decide) rfl q182 dX1_riders_206 fun σ => ?_
          refine g_iload dX1_riders_209 rfl ?_
          exact g_iret rfl dX1_riders_211
      · refine g_iload dX1_riders_69 rfl ?_
        exact g_iret rfl dX1_riders_71
  · refine g_iconst 0 dX1_riders_11 (by decide) ?_
    exact g_iret rfl dX1_riders_12
theorem dd_X1_riders : yX1_riders.cls ≠ "java/lang/invoke/MethodHandle" ∧ yX1_riders.cls ≠ "java/lang/invoke/VarHandle" ∧ (parseMethodDescriptor yX1_riders.desc).map (fun d => d.parameters.length) = some 0 := by decide +kernel
theorem dv_X1_riders : yX1_riders.cls = RX1 ∧ yX1_riders.cls ≠ "java/lang/invoke/MethodHandle" ∧ yX1_riders.cls ≠ "java/lang/invoke/VarHandle" ∧ (parseMethodDescriptor yX1_riders.desc).map (fun d => d.parameters.length) = some 0 := ⟨rfl, dd_X1_riders⟩
/-! RockingHorseLaw.law([I)Z -/
abbrev mi_L_law (nm : String) : Mi := (cL_law, 8, "RockingHorseLaw", 209, ret, nm)
def f_L_law_b23 (L : Nat) (xs : Nat → Int32) (v1 : Option Nat) (v2 : Option Nat) (v3 : Option Nat) (k0 : Unit → Hp → Option (Int32 × Hp)) (ag : Int32 → Hp → Option (Int32 × Hp)) (a : Int32) (σ : Hp) : Option (Int32 × Hp) :=
  if ((Int32.ofNat L) - 5) < a then
    k0 () σ
  else
    lX L xs a fun x4 =>
    jn (fun (a5 : Unit) σ =>
        ag (a + 5) σ) fun j6 =>
    if (x4 &&& 63) = 0 then
      lX L xs (a + 1) fun x195 =>
      ob 0 σ v1 fun _ => bnd (f_X1_sign v1 x195 σ) fun x196 σ =>
      lX L xs (a + 1) fun x197 =>
      ob 2 σ v2 fun _ => bnd (f_X3_sign v2 x197 σ) fun x198 σ =>
      if x196 = x198 then
        j6 () σ
      else
        lwr 0 σ
    else
    if (x4 &&& 63) = 1 then
      lX L xs (a + 1) fun x191 =>
      ob 0 σ v1 fun _ => bnd (f_X1_end v1 x191 σ) fun x192 σ =>
      lX L xs (a + 1) fun x193 =>
      ob 2 σ v2 fun _ => bnd (f_X3_end v2 x193 σ) fun x194 σ =>
      if x192 = x194 then
        j6 () σ
      else
        lwr 0 σ
    else
    if (x4 &&& 63) = 2 then
      ob 0 σ v1 fun _ => bnd (f_X1_riders v1 σ) fun x189 σ =>
      ob 2 σ v2 fun _ => bnd (f_X3_riders v2 σ) fun x190 σ =>
      if x189 = x190 then
        j6 () σ
      else
        lwr 0 σ
    else
    if (x4 &&& 63) = 3 then
      ob 0 σ v1 fun _ => bnd (f_X1_rule v1 σ) fun x187 σ =>
      ob 2 σ v2 fun _ => bnd (f_X3_rule v2 σ) fun x188 σ =>
      if x187 = x188 then
        j6 () σ
      else
        lwr 0 σ
    else
    if (x4 &&& 63) = 4 then
      lX L xs (a + 1) fun x179 =>
      lX L xs (a + 2) fun x180 =>
      bnd (f_X0_rider v1 x179 x180 v3 σ) fun x181 σ =>
      lX L xs (a + 1) fun x182 =>
      lX L xs (a + 2) fun x183 =>
      ob 2 σ v2 fun _ => bnd (f_X3_rider v2 x182 x183 σ) fun x184 σ =>
      ob 2 σ v2 fun _ => bnd (f_X3_thrown v2 σ) fun x185 σ =>
      if x185 = x181 then
        if x181 = 0 then
          lL σ v3 0 fun x186 =>
          if (lg_cmp x186 (Int32.toInt64 x184)) = 0 then
            j6 () σ
          else
            lwr 0 σ
        else
          j6 () σ
      else
        lwr 0 σ
    else
    if (x4 &&& 63) = 5 then
      lX L xs (a + 1) fun x173 =>
      lX L xs (a + 2) fun x174 =>
      ob 0 σ v1 fun _ => bnd (f_X1_hard v1 x173 x174 σ) fun x175 σ =>
      lX L xs (a + 1) fun x176 =>
      lX L xs (a + 2) fun x177 =>
      ob 2 σ v2 fun _ => bnd (f_X3_hard v2 x176 x177 σ) fun x178 σ =>
      if x175 = x178 then
        j6 () σ
      else
        lwr 0 σ
    else
    if (x4 &&& 63) = 6 then
      lX L xs (a + 1) fun x167 =>
      lX L xs (a + 2) fun x168 =>
      ob 0 σ v1 fun _ => bnd (f_X1_set v1 x167 x168 σ) fun x169 σ =>
      lX L xs (a + 1) fun x170 =>
      lX L xs (a + 2) fun x171 =>
      ob 2 σ v2 fun _ => bnd (f_X3_set v2 x170 x171 σ) fun x172 σ =>
      if x169 = x172 then
        j6 () σ
      else
        lwr 0 σ
    else
    if (x4 &&& 63) = 7 then
      lX L xs (a + 1) fun x157 =>
      lX L xs (a + 2) fun x158 =>
      lX L xs (a + 3) fun x159 =>
      lX L xs (a + 4) fun x160 =>
      ob 0 σ v1 fun _ => bnd (f_X1_sheet v1 x157 x158 x159 x160 σ) fun x161 σ =>
      lX L xs (a + 1) fun x162 =>
      lX L xs (a + 2) fun x163 =>
      lX L xs (a + 3) fun x164 =>
      lX L xs (a + 4) fun x165 =>
      ob 2 σ v2 fun _ => bnd (f_X3_sheet v2 x162 x163 x164 x165 σ) fun x166 σ =>
      if x161 = x166 then
        j6 () σ
      else
        lwr 0 σ
    else
    if (x4 &&& 63) = 8 then
      ob 0 σ v1 fun _ => bnd (f_X1_rota v1 σ) fun x155 σ =>
      ob 2 σ v2 fun _ => bnd (f_X3_rota v2 σ) fun x156 σ =>
      if x155 = x156 then
        j6 () σ
      else
        lwr 0 σ
    else
    if (x4 &&& 63) = 9 then
      lX L xs (a + 1) fun x149 =>
      lX L xs (a + 2) fun x150 =>
      ob 0 σ v1 fun _ => bnd (f_X1_give v1 x149 x150 σ) fun x151 σ =>
      lX L xs (a + 1) fun x152 =>
      lX L xs (a + 2) fun x153 =>
      ob 2 σ v2 fun _ => bnd (f_X3_give v2 x152 x153 σ) fun x154 σ =>
      if x151 = x154 then
        j6 () σ
      else
        lwr 0 σ
    else
    if (x4 &&& 63) = 10 then
      lX L xs (a + 1) fun x145 =>
      ob 0 σ v1 fun _ => bnd (f_X1_ill v1 x145 σ) fun x146 σ =>
      lX L xs (a + 1) fun x147 =>
      ob 2 σ v2 fun _ => bnd (f_X3_ill v2 x147 σ) fun x148 σ =>
      if x146 = x148 then
        j6 () σ
      else
        lwr 0 σ
    else
    if (x4 &&& 63) = 11 then
      lX L xs (a + 1) fun x141 =>
      ob 0 σ v1 fun _ => bnd (f_X1_nights v1 x141 σ) fun x142 σ =>
      lX L xs (a + 1) fun x143 =>
      ob 2 σ v2 fun _ => bnd (f_X3_nights v2 x143 σ) fun x144 σ =>
      if x142 = x144 then
        j6 () σ
      else
        lwr 0 σ
    else
    if (x4 &&& 63) = 12 then
      ob 0 σ v1 fun _ => bnd (f_X1_year v1 σ) fun x139 σ =>
      ob 2 σ v2 fun _ => bnd (f_X3_year v2 σ) fun x140 σ =>
      if x139 = x140 then
        j6 () σ
      else
        lwr 0 σ
    else
    if (x4 &&& 63) = 13 then
      ob 0 σ v1 fun _ => bnd (f_X1_undo v1 σ) fun x137 σ =>
      ob 2 σ v2 fun _ => bnd (f_X3_undo v2 σ) fun x138 σ =>
      if x137 = x138 then
        j6 () σ
      else
        lwr 0 σ
    else
    if (x4 &&& 63) = 14 then
      ob 0 σ v1 fun _ => bnd (f_X1_gaps v1 σ) fun x135 σ =>
      ob 2 σ v2 fun _ => bnd (f_X3_gaps v2 σ) fun x136 σ =>
      if x135 = x136 then
        j6 () σ
      else
        lwr 0 σ
    else
    if (x4 &&& 63) = 15 then
      lX L xs (a + 1) fun x131 =>
      ob 0 σ v1 fun _ => bnd (f_X1_first v1 x131 σ) fun x132 σ =>
      lX L xs (a + 1) fun x133 =>
      ob 2 σ v2 fun _ => bnd (f_X3_first v2 x133 σ) fun x134 σ =>
      if x132 = x134 then
        j6 () σ
      else
        lwr 0 σ
    else
    if (x4 &&& 63) = 16 then
      lX L xs (a + 1) fun x127 =>
      ob 0 σ v1 fun _ => bnd (f_X1_later v1 x127 σ) fun x128 σ =>
      lX L xs (a + 1) fun x129 =>
      ob 2 σ v2 fun _ => bnd (f_X3_later v2 x129 σ) fun x130 σ =>
      if x128 = x130 then
        j6 () σ
      else
        lwr 0 σ
    else
    if (x4 &&& 63) = 17 then
      lX L xs (a + 1) fun x123 =>
      ob 0 σ v1 fun _ => bnd (f_X1_vigil v1 x123 σ) fun x124 σ =>
      lX L xs (a + 1) fun x125 =>
      ob 2 σ v2 fun _ => bnd (f_X3_vigil v2 x125 σ) fun x126 σ =>
      if x124 = x126 then
        j6 () σ
      else
        lwr 0 σ
    else
    if (x4 &&& 63) = 18 then
      ob 0 σ v1 fun _ => bnd (f_X1_trade v1 σ) fun x121 σ =>
      ob 2 σ v2 fun _ => bnd (f_X3_trade v2 σ) fun x122 σ =>
      if x121 = x122 then
        j6 () σ
      else
        lwr 0 σ
    else
    if (x4 &&& 63) = 19 then
      ob 0 σ v1 fun _ => bnd (f_X1_easiest v1 σ) fun x119 σ =>
      ob 2 σ v2 fun _ => bnd (f_X3_easiest v2 σ) fun x120 σ =>
      if x119 = x120 then
        j6 () σ
      else
        lwr 0 σ
    else
    if (x4 &&& 63) = 20 then
      ob 0 σ v1 fun _ => bnd (f_X1_fewest v1 σ) fun x117 σ =>
      ob 2 σ v2 fun _ => bnd (f_X3_fewest v2 σ) fun x118 σ =>
      if x117 = x118 then
        j6 () σ
      else
        lwr 0 σ
    else
    if (x4 &&& 63) = 21 then
      ob 0 σ v1 fun _ => bnd (f_X1_bare v1 σ) fun x115 σ =>
      ob 2 σ v2 fun _ => bnd (f_X3_bare v2 σ) fun x116 σ =>
      if x115 = x116 then
        j6 () σ
      else
        lwr 0 σ
    else
    if (x4 &&& 63) = 22 then
      ob 0 σ v1 fun _ => bnd (f_X1_rotas v1 σ) fun x113 σ =>
      ob 2 σ v2 fun _ => bnd (f_X3_rotas v2 σ) fun x114 σ =>
      if x113 = x114 then
        j6 () σ
      else
        lwr 0 σ
    else
    if (x4 &&& 63) = 23 then
      lX L xs (a + 1) fun x109 =>
      ob 0 σ v1 fun _ => bnd (f_X1_mended v1 x109 σ) fun x110 σ =>
      lX L xs (a + 1) fun x111 =>
      ob 2 σ v2 fun _ => bnd (f_X3_mended v2 x111 σ) fun x112 σ =>
      if x110 = x112 then
        j6 () σ
      else
        lwr 0 σ
    else
    if (x4 &&& 63) = 24 then
      ob 0 σ v1 fun _ => bnd (f_X1_takes_2 v1 σ) fun x107 σ =>
      ob 2 σ v2 fun _ => bnd (f_X3_takes v2 σ) fun x108 σ =>
      if x107 = x108 then
        j6 () σ
      else
        lwr 0 σ
    else
    if (x4 &&& 63) = 25 then
      lX L xs (a + 1) fun x103 =>
      ob 0 σ v1 fun _ => bnd (f_X1_missed v1 x103 σ) fun x104 σ =>
      lX L xs (a + 1) fun x105 =>
      ob 2 σ v2 fun _ => bnd (f_X3_missed v2 x105 σ) fun x106 σ =>
      if x104 = x106 then
        j6 () σ
      else
        lwr 0 σ
    else
    if (x4 &&& 63) = 26 then
      lX L xs (a + 1) fun x99 =>
      ob 0 σ v1 fun _ => bnd (f_X1_paid v1 x99 σ) fun x100 σ =>
      lX L xs (a + 1) fun x101 =>
      ob 2 σ v2 fun _ => bnd (f_X3_paid v2 x101 σ) fun x102 σ =>
      if x100 = x102 then
        j6 () σ
      else
        lwr 0 σ
    else
    if (x4 &&& 63) = 27 then
      ob 0 σ v1 fun _ => bnd (f_X1_fairest v1 σ) fun x97 σ =>
      ob 2 σ v2 fun _ => bnd (f_X3_fairest v2 σ) fun x98 σ =>
      if x97 = x98 then
        j6 () σ
      else
        lwr 0 σ
    else
    if (x4 &&& 63) = 28 then
      ob 0 σ v1 fun _ => bnd (f_X1_away v1 σ) fun x95 σ =>
      ob 2 σ v2 fun _ => bnd (f_X3_away v2 σ) fun x96 σ =>
      if x95 = x96 then
        j6 () σ
      else
        lwr 0 σ
    else
    if (x4 &&& 63) = 29 then
      lX L xs (a + 1) fun x91 =>
      ob 0 σ v1 fun _ => bnd (f_X1_able v1 x91 σ) fun x92 σ =>
      lX L xs (a + 1) fun x93 =>
      ob 2 σ v2 fun _ => bnd (f_X3_able v2 x93 σ) fun x94 σ =>
      if x92 = x94 then
        j6 () σ
      else
        lwr 0 σ
    else
    if (x4 &&& 63) = 30 then
      lX L xs (a + 1) fun x87 =>
      ob 0 σ v1 fun _ => bnd (f_X1_spent v1 x87 σ) fun x88 σ =>
      lX L xs (a + 1) fun x89 =>
      ob 2 σ v2 fun _ => bnd (f_X3_spent v2 x89 σ) fun x90 σ =>
      if x88 = x90 then
        j6 () σ
      else
        lwr 0 σ
    else
    if (x4 &&& 63) = 31 then
      lX L xs (a + 1) fun x81 =>
      lX L xs (a + 2) fun x82 =>
      ob 0 σ v1 fun _ => bnd (f_X1_shared v1 x81 x82 σ) fun x83 σ =>
      lX L xs (a + 1) fun x84 =>
      lX L xs (a + 2) fun x85 =>
      ob 2 σ v2 fun _ => bnd (f_X3_shared v2 x84 x85 σ) fun x86 σ =>
      if x83 = x86 then
        j6 () σ
      else
        lwr 0 σ
    else
    if (x4 &&& 63) = 32 then
      ob 0 σ v1 fun _ => bnd (f_X1_thin v1 σ) fun x79 σ =>
      ob 2 σ v2 fun _ => bnd (f_X3_thin v2 σ) fun x80 σ =>
      if x79 = x80 then
        j6 () σ
      else
        lwr 0 σ
    else
    if (x4 &&& 63) = 33 then
      ob 0 σ v1 fun _ => bnd (f_X1_changes v1 σ) fun x77 σ =>
      ob 2 σ v2 fun _ => bnd (f_X3_changes v2 σ) fun x78 σ =>
      if x77 = x78 then
        j6 () σ
      else
        lwr 0 σ
    else
    if (x4 &&& 63) = 34 then
      ob 0 σ v1 fun _ => bnd (f_X1_smoothest v1 σ) fun x75 σ =>
      ob 2 σ v2 fun _ => bnd (f_X3_smoothest v2 σ) fun x76 σ =>
      if x75 = x76 then
        j6 () σ
      else
        lwr 0 σ
    else
    if (x4 &&& 63) = 35 then
      lX L xs (a + 1) fun x67 =>
      lX L xs (a + 2) fun x68 =>
      lX L xs (a + 3) fun x69 =>
      ob 0 σ v1 fun _ => bnd (f_X1_meets v1 x67 x68 x69 σ) fun x70 σ =>
      lX L xs (a + 1) fun x71 =>
      lX L xs (a + 2) fun x72 =>
      lX L xs (a + 3) fun x73 =>
      ob 2 σ v2 fun _ => bnd (f_X3_meets v2 x71 x72 x73 σ) fun x74 σ =>
      if x70 = x74 then
        j6 () σ
      else
        lwr 0 σ
    else
    if (x4 &&& 63) = 36 then
      lX L xs (a + 1) fun x59 =>
      lX L xs (a + 2) fun x60 =>
      lX L xs (a + 3) fun x61 =>
      ob 0 σ v1 fun _ => bnd (f_X1_found v1 x59 x60 x61 σ) fun x62 σ =>
      lX L xs (a + 1) fun x63 =>
      lX L xs (a + 2) fun x64 =>
      lX L xs (a + 3) fun x65 =>
      ob 2 σ v2 fun _ => bnd (f_X3_found v2 x63 x64 x65 σ) fun x66 σ =>
      if x62 = x66 then
        j6 () σ
      else
        lwr 0 σ
    else
    if (x4 &&& 63) = 37 then
      ob 0 σ v1 fun _ => bnd (f_X1_forget v1 σ) fun x57 σ =>
      ob 2 σ v2 fun _ => bnd (f_X3_forget v2 σ) fun x58 σ =>
      if x57 = x58 then
        j6 () σ
      else
        lwr 0 σ
    else
    if (x4 &&& 63) = 38 then
      ob 0 σ v1 fun _ => bnd (f_X1_fits v1 σ) fun x55 σ =>
      ob 2 σ v2 fun _ => bnd (f_X3_fits v2 σ) fun x56 σ =>
      if x55 = x56 then
        j6 () σ
      else
        lwr 0 σ
    else
    if (x4 &&& 63) = 39 then
      lX L xs (a + 1) fun x49 =>
      lX L xs (a + 2) fun x50 =>
      ob 0 σ v1 fun _ => bnd (f_X1_sure v1 x49 x50 σ) fun x51 σ =>
      lX L xs (a + 1) fun x52 =>
      lX L xs (a + 2) fun x53 =>
      ob 2 σ v2 fun _ => bnd (f_X3_sure v2 x52 x53 σ) fun x54 σ =>
      if x51 = x54 then
        j6 () σ
      else
        lwr 0 σ
    else
    if (x4 &&& 63) = 40 then
      ob 0 σ v1 fun _ => bnd (f_X1_ask v1 σ) fun x47 σ =>
      ob 2 σ v2 fun _ => bnd (f_X3_ask v2 σ) fun x48 σ =>
      if x47 = x48 then
        j6 () σ
      else
        lwr 0 σ
    else
    if (x4 &&& 63) = 41 then
      lX L xs (a + 1) fun x43 =>
      ob 0 σ v1 fun _ => bnd (f_X1_held v1 x43 σ) fun x44 σ =>
      lX L xs (a + 1) fun x45 =>
      ob 2 σ v2 fun _ => bnd (f_X3_held v2 x45 σ) fun x46 σ =>
      if x44 = x46 then
        j6 () σ
      else
        lwr 0 σ
    else
    if (x4 &&& 63) = 42 then
      lX L xs (a + 1) fun x39 =>
      ob 0 σ v1 fun _ => bnd (f_X1_keystone v1 x39 σ) fun x40 σ =>
      lX L xs (a + 1) fun x41 =>
      ob 2 σ v2 fun _ => bnd (f_X3_keystone v2 x41 σ) fun x42 σ =>
      if x40 = x42 then
        j6 () σ
      else
        lwr 0 σ
    else
    if (x4 &&& 63) = 43 then
      lX L xs (a + 1) fun x33 =>
      lX L xs (a + 2) fun x34 =>
      ob 0 σ v1 fun _ => bnd (f_X1_rests v1 x33 x34 σ) fun x35 σ =>
      lX L xs (a + 1) fun x36 =>
      lX L xs (a + 2) fun x37 =>
      ob 2 σ v2 fun _ => bnd (f_X3_rests v2 x36 x37 σ) fun x38 σ =>
      if x35 = x38 then
        j6 () σ
      else
        lwr 0 σ
    else
    if (x4 &&& 63) = 44 then
      ob 0 σ v1 fun _ => bnd (f_X1_law v1 σ) fun x31 σ =>
      ob 2 σ v2 fun _ => bnd (f_X3_law v2 σ) fun x32 σ =>
      if x31 = x32 then
        j6 () σ
      else
        lwr 0 σ
    else
    if (x4 &&& 63) = 45 then
      lX L xs (a + 1) fun x25 =>
      lX L xs (a + 2) fun x26 =>
      ob 0 σ v1 fun _ => bnd (f_X1_years v1 x25 x26 σ) fun x27 σ =>
      lX L xs (a + 1) fun x28 =>
      lX L xs (a + 2) fun x29 =>
      ob 2 σ v2 fun _ => bnd (f_X3_years v2 x28 x29 σ) fun x30 σ =>
      if x27 = x30 then
        j6 () σ
      else
        lwr 0 σ
    else
    if (x4 &&& 63) = 46 then
      lX L xs (a + 1) fun x21 =>
      ob 0 σ v1 fun _ => bnd (f_X1_keep v1 x21 σ) fun x22 σ =>
      lX L xs (a + 1) fun x23 =>
      ob 2 σ v2 fun _ => bnd (f_X3_keep v2 x23 σ) fun x24 σ =>
      if x22 = x24 then
        j6 () σ
      else
        lwr 0 σ
    else
    if (x4 &&& 63) = 47 then
      lX L xs (a + 1) fun x17 =>
      ob 0 σ v1 fun _ => bnd (f_X1_again v1 x17 σ) fun x18 σ =>
      lX L xs (a + 1) fun x19 =>
      ob 2 σ v2 fun _ => bnd (f_X3_again v2 x19 σ) fun x20 σ =>
      if x18 = x20 then
        j6 () σ
      else
        lwr 0 σ
    else
    if (x4 &&& 63) = 48 then
      lX L xs (a + 1) fun x13 =>
      ob 0 σ v1 fun _ => bnd (f_X1_count v1 x13 σ) fun x14 σ =>
      lX L xs (a + 1) fun x15 =>
      ob 2 σ v2 fun _ => bnd (f_X3_count v2 x15 σ) fun x16 σ =>
      if x14 = x16 then
        j6 () σ
      else
        lwr 0 σ
    else
    if (x4 &&& 63) = 49 then
      lX L xs (a + 1) fun x7 =>
      bnd (f_X0_row v1 x7 v3 σ) fun x8 σ =>
      lX L xs (a + 1) fun x9 =>
      ob 2 σ v2 fun _ => bnd (f_X3_row v2 x9 σ) fun x10 σ =>
      ob 2 σ v2 fun _ => bnd (f_X3_thrown v2 σ) fun x11 σ =>
      if x11 = x8 then
        if x8 = 0 then
          lL σ v3 0 fun x12 =>
          if (lg_cmp x12 x10) = 0 then
            j6 () σ
          else
            lwr 0 σ
        else
          j6 () σ
      else
        lwr 0 σ
    else
    j6 () σ
def f_L_law (L : Nat) (xs : Nat → Int32) (σ : Hp) : Option (Int32 × Hp) :=
  nO 0 53 σ fun y1 σ =>
  nn y1 <| bnd (f_X1_init y1 σ) fun _ σ =>
  nO 2 51 σ fun y2 σ =>
  nn y2 <| bnd (f_X3_init y2 σ) fun _ σ =>
  nA 103 σ 1 fun y3 σ =>
  lp 2000 (f_L_law_b23 L xs y1 y2 y3 (fun (a199 : Unit) σ =>
      lwr 1 σ)) 0 σ
theorem ok_L_law_b23 (X : Mx) (L : Nat) (xs : Nat → Int32) (hw : LwX X L xs) (b : Nat) (ha : xa X = #[Value.ref b]) (hR : xR X = room_1) (hz : (Jvm.Pilot.CRockingHorseLaw_law_r1955_07140d.xs X).heap.size = (xY X).1) (h00 : hn (x0 X) = 0 ∧ hu (x0 X) = 0) (nm : String) (v1 : Option Nat) (v2 : Option Nat) (v3 : Option Nat) {k0 : Unit → Hp → Option (Int32 × Hp)} (hk0 : ∀ (a : Unit) (σ : Hp), GG X (mi_L_law nm) (QL X) 1497 [] [] σ (k0 a σ)) : ∀ (m : Nat) (a : Int32) (σ : Hp), GG X (mi_L_law nm) (QL X) 23 [(0, vS 16), (1, vA v1), (2, vA v2), (3, vA v3), (4, vI a)] [] σ (lp m (f_L_law_b23 L xs v1 v2 v3 k0) a σ) := by
  refine g_lp (fun (a : Int32) => [(0, vS 16), (1, vA v1), (2, vA v2), (3, vA v3), (4, vI a)]) ?_
  intro ag hag a σ
  unfold f_L_law_b23
  refine g_iload dL_law_23 rfl ?_
  refine g_aload_nS 0 dL_law_25 rfl rfl ?_
  refine g_slen hw dL_law_26 ?_
  refine g_iconst 5 dL_law_27 (by decide) ?_
  refine g_isub dL_law_28 ?_
  refine g_icmp_gt 1497 dL_law_29 (by decide) ?_ ?_
  · exact g_jmp (hk0 _ _) rfl
  · refine g_aload_nS 0 dL_law_32 rfl rfl ?_
    refine g_iload dL_law_33 rfl ?_
    refine g_sload hw dL_law_35 fun x4 => ?_
    refine g_bipush 63 dL_law_36 (by decide) ?_
    refine g_iand dL_law_38 ?_
    refine g_jn (fun j6 => ∀ (a5 : Unit) (σ : Hp), GG X (mi_L_law nm) (QL X) 1491 [(0, vS 16), (1, vA v1), (2, vA v2), (3, vA v3), (4, vI a)] [] σ (j6 a5 σ)) ?_ ?_
    · intro a5 σ
      refine g_iinc 5 dL_law_1491 (by decide) rfl (lt_b rfl) ?_
      refine g_goto 23 dL_law_1494 (by decide) ?_
      exact g_jmp (hag _ _) rfl
    · intro j6 hj6
      refine g_case (fun h1 => ?_) (fun h1 => ?_)
      · refine g_tableIn (off := 213) 252 dL_law_39 (by rw [h1]; decide) (by rw [h1]; decide) (by rw [h1]; try rfl) (by decide) ?_
        refine g_aload_n 1 dL_law_252 rfl rfl ?_
        refine g_aload_nS 0 dL_law_253 rfl rfl ?_
        refine g_iload dL_law_254 rfl ?_
        refine g_iconst 1 dL_law_256 (by decide) ?_
        refine g_iadd dL_law_257 ?_
        refine g_sload hw dL_law_258 fun x195 => ?_
        refine g_callV_I (mm_X1_sign _ _ _) rfl zc_0 q338 q339 q340 q107 q341 dv_X1_sign rfl (Nat.le_of_ble_eq_true rfl) (Nat.le_of_ble_eq_true rfl) (Nat.le_of_ble_eq_true rfl) dL_law_259 fun x196 σ => ?_
        refine g_aload_n 2 dL_law_262 rfl rfl ?_
        refine g_aload_nS 0 dL_law_263 rfl rfl ?_
        refine g_iload dL_law_264 rfl ?_
        refine g_iconst 1 dL_law_266 (by decide) ?_
        refine g_iadd dL_law_267 ?_
        refine g_sload hw dL_law_268 fun x197 => ?_
        refine g_callV_I (mm_X3_sign _ _ _) rfl zc_2 q1215 q1216 q1217 q109 q1218 dv_X3_sign rfl (Nat.le_of_ble_eq_true rfl) (Nat.le_of_ble_eq_true rfl) (Nat.le_of_ble_eq_true rfl) dL_law_269 fun x198 σ => ?_
        refine g_icmp_eq 1491 dL_law_272 (by decide) ?_ ?_
        · exact g_jmp (hj6 _ _) rfl
        · refine g_iconst 0 dL_law_275 (by decide) ?_
          exact g_lwr rfl rfl ha hR hz h00 dL_law_276
      · refine g_case (fun h2 => ?_) (fun h2 => ?_)
        · refine g_tableIn (off := 238) 277 dL_law_39 (by rw [h2]; decide) (by rw [h2]; decide) (by rw [h2]; try rfl) (by decide) ?_
          refine g_aload_n 1 dL_law_277 rfl rfl ?_
          refine g_aload_nS 0 dL_law_278 rfl rfl ?_
          refine g_iload dL_law_279 rfl ?_
          refine g_iconst 1 dL_law_281 (by decide) ?_
          refine g_iadd dL_law_282 ?_
          refine g_sload hw dL_law_283 fun x191 => ?_
          refine g_callV_I (mm_X1_end _ _ _) rfl zc_0 q342 q343 q344 q107 q345 dv_X1_end rfl (Nat.le_of_ble_eq_true rfl) (Nat.le_of_ble_eq_true rfl) (Nat.le_of_ble_eq_true rfl) dL_law_284 fun x192 σ => ?_
          refine g_aload_n 2 dL_law_287 rfl rfl ?_
          refine g_aload_nS 0 dL_law_288 rfl rfl ?_
          refine g_iload dL_law_289 rfl ?_
          refine g_iconst 1 dL_law_291 (by decide) ?_
          refine g_iadd dL_law_292 ?_
          refine g_sload hw dL_law_293 fun x193 => ?_
          refine g_callV_I (mm_X3_end _ _ _) rfl zc_2 q1219 q1220 q1221 q109 q1222 dv_X3_end rfl (Nat.le_of_ble_eq_true rfl) (Nat.le_of_ble_eq_true rfl) (Nat.le_of_ble_eq_true rfl) dL_law_294 fun x194 σ => ?_
          refine g_icmp_eq 1491 dL_law_297 (by decide) ?_ ?_
          · exact g_jmp (hj6 _ _) rfl
          · refine g_iconst 0 dL_law_300 (by decide) ?_
            exact g_lwr rfl rfl ha hR hz h00 dL_law_301
        · refine g_case (fun h3 => ?_) (fun h3 => ?_)
          · refine g_tableIn (off := 263) 302 dL_law_39 (by rw [h3]; decide) (by rw [h3]; decide) (by rw [h3]; try rfl) (by decide) ?_
            refine g_aload_n 1 dL_law_302 rfl rfl ?_
            refine g_callV_I (mm_X1_riders _ _) rfl zc_0 q349 q350 q351 q107 q352 dv_X1_riders rfl (Nat.le_of_ble_eq_true rfl) (Nat.le_of_ble_eq_true rfl) (Nat.le_of_ble_eq_true rfl) dL_law_303 fun x189 σ => ?_
            refine g_aload_n 2 dL_law_306 rfl rfl ?_
            refine g_callV_I (mm_X3_riders _ _) rfl zc_2 q1226 q1227 q1228 q109 q1229 dv_X3_riders rfl (Nat.le_of_ble_eq_true rfl) (Nat.le_of_ble_eq_true rfl) (Nat.le_of_ble_eq_true rfl) dL_law_307 fun x190 σ => ?_
            refine g_icmp_eq 1491 dL_law_310 (by decide) ?_ ?_
            · exact g_jmp (hj6 _ _) rfl
            · refine g_iconst 0 dL_law_313 (by decide) ?_
              exact g_lwr rfl rfl ha hR hz h00 dL_law_314
          · refine g_case (fun h4 => ?_) (fun h4 => ?_)
            · refine g_tableIn (off := 276) 315 dL_law_39 (by rw [h4]; decide) (by rw [h4]; decide) (by rw [h4]; try rfl) (by decide) ?_
              refine g_aload_n 1 dL_law_315 rfl rfl ?_
              refine g_callV_I (mm_X1_rule _ _) rfl zc_0 q472 q473 q474 q107 q475 dv_X1_rule rfl (Nat.le_of_ble_eq_true rfl) (Nat.le_of_ble_eq_true rfl) (Nat.le_of_ble_eq_true rfl) dL_law_316 fun x187 σ => ?_
              refine g_aload_n 2 dL_law_319 rfl rfl ?_
              refine g_callV_I (mm_X3_rule _ _) rfl zc_2 q1266 q1267 q1268 q109 q1269 dv_X3_rule rfl (Nat.le_of_ble_eq_true rfl) (Nat.le_of_ble_eq_true rfl) (Nat.le_of_ble_eq_true rfl) dL_law_320 fun x188 σ => ?_
              refine g_icmp_eq 1491 dL_law_323 (by decide) ?_ ?_
              · exact g_jmp (hj6 _ _) rfl
              · refine g_iconst 0 dL_law_326 (by decide) ?_
                exact g_lwr rfl rfl ha hR hz h00 dL_law_327
            · refine g_case (fun h5 => ?_) (fun h5 => ?_)
              · refine g_tableIn (off := 289) 328 dL_law_39 (by rw [h5]; decide) (by rw [h5]; decide) (by rw [h5]; try rfl) (by decide) ?_
                refine g_aload_n 1 dL_law_328 rfl rfl ?_
                refine g_aload_nS 0 dL_law_329 rfl rfl ?_
                refine g_iload dL_law_330 rfl ?_
                refine g_iconst 1 dL_law_332 (by decide) ?_
                refine g_iadd dL_law_333 ?_
                refine g_sload hw dL_law_334 fun x179 => ?_
                refine g_aload_nS 0 dL_law_335 rfl rfl ?_
                refine g_iload dL_law_336 rfl ?_
                refine g_iconst 2 dL_law_338 (by decide) ?_
                refine g_iadd dL_law_339 ?_
                refine g_sload hw dL_law_340 fun x180 => ?_
                refine g_aload_n 3 dL_law_341 rfl rfl ?_
                refine g_callSW_I (mm_X0_rider _ _ _ _ _) rfl q969 q970 q106 q971 dd_X0_rider rfl (Nat.le_of_ble_eq_true rfl) (Nat.le_of_ble_eq_true rfl) (Nat.le_of_ble_eq_true rfl) dL_law_342 fun x181 σ => ?_
                refine g_istore dL_law_345 (lt_b rfl) ?_
                refine g_aload_n 2 dL_law_347 rfl rfl ?_
                refine g_aload_nS 0 dL_law_348 rfl rfl ?_
                refine g_iload dL_law_349 rfl ?_
                refine g_iconst 1 dL_law_351 (by decide) ?_
                refine g_iadd dL_law_352 ?_
                refine g_sload hw dL_law_353 fun x182 => ?_
                refine g_aload_nS 0 dL_law_354 rfl rfl ?_
                refine g_iload dL_law_355 rfl ?_
                refine g_iconst 2 dL_law_357 (by decide) ?_
                refine g_iadd dL_law_358 ?_
                refine g_sload hw dL_law_359 fun x183 => ?_
                refine g_callV_I (mm_X3_rider _ _ _ _) rfl zc_2 q1301 q1302 q1303 q109 q1304 dv_X3_rider rfl (Nat.le_of_ble_eq_true rfl) (Nat.le_of_ble_eq_true rfl) (Nat.le_of_ble_eq_true rfl) dL_law_360 fun x184 σ => ?_
                refine g_istore dL_law_363 (lt_b rfl) ?_
                refine g_aload_n 2 dL_law_365 rfl rfl ?_
                refine g_callV_I (mm_X3_thrown _ _) rfl zc_2 q1211 q1212 q1213 q109 q1214 dv_X3_thrown rfl (Nat.le_of_ble_eq_true rfl) (Nat.le_of_ble_eq_true rfl) (Nat.le_of_ble_eq_true rfl) dL_law_366 fun x185 σ => ?_
                refine g_iload dL_law_369 rfl ?_
                refine g_icmp_eq 376 dL_law_371 (by decide) ?_ ?_
                · refine g_iload dL_law_376 rfl ?_
                  refine g_if_ne 393 dL_law_378 (by decide) ?_ ?_
                  · refine g_goto 1491 dL_law_393 (by decide) ?_
                    exact g_jmp (hj6 _ _) rfl
                  · refine g_aload_n 3 dL_law_381 rfl rfl ?_
                    refine g_iconst 0 dL_law_382 (by decide) ?_
                    refine g_laload dL_law_383 fun x186 => ?_
                    refine g_iload dL_law_384 rfl ?_
                    refine g_i2l dL_law_386 ?_
                    refine g_lcmp dL_law_387 ?_
                    refine g_if_eq 393 dL_law_388 (by decide) ?_ ?_
                    · refine g_goto 1491 dL_law_393 (by decide) ?_
                      exact g_jmp (hj6 _ _) rfl
                    · refine g_iconst 0 dL_law_391 (by decide) ?_
                      exact g_lwr rfl rfl ha hR hz h00 dL_law_392
                · refine g_iconst 0 dL_law_374 (by decide) ?_
                  exact g_lwr rfl rfl ha hR hz h00 dL_law_375
              · refine g_case (fun h6 => ?_) (fun h6 => ?_)
                · refine g_tableIn (off := 357) 396 dL_law_39 (by rw [h6]; decide) (by rw [h6]; decide) (by rw [h6]; try rfl) (by decide) ?_
                  refine g_aload_n 1 dL_law_396 rfl rfl ?_
                  refine g_aload_nS 0 dL_law_397 rfl rfl ?_
                  refine g_iload dL_law_398 rfl ?_
                  refine g_iconst 1 dL_law_400 (by decide) ?_
                  refine g_iadd dL_law_401 ?_
                  refine g_sload hw dL_law_402 fun x173 => ?_
                  refine g_aload_nS 0 dL_law_403 rfl rfl ?_
                  refine g_iload dL_law_404 rfl ?_
                  refine g_iconst 2 dL_law_406 (by decide) ?_
                  refine g_iadd dL_law_407 ?_
                  refine g_sload hw dL_law_408 fun x174 => ?_
                  refine g_callV_I (mm_X1_hard _ _ _ _) rfl zc_0 q572 q573 q574 q107 q575 dv_X1_hard rfl (Nat.le_of_ble_eq_true rfl) (Nat.le_of_ble_eq_true rfl) (Nat.le_of_ble_eq_true rfl) dL_law_409 fun x175 σ => ?_
                  refine g_aload_n 2 dL_law_412 rfl rfl ?_
                  refine g_aload_nS 0 dL_law_413 rfl rfl ?_
                  refine g_iload dL_law_414 rfl ?_
                  refine g_iconst 1 dL_law_416 (by decide) ?_
                  refine g_iadd dL_law_417 ?_
                  refine g_sload hw dL_law_418 fun x176 => ?_
                  refine g_aload_nS 0 dL_law_419 rfl rfl ?_
                  refine g_iload dL_law_420 rfl ?_
                  refine g_iconst 2 dL_law_422 (by decide) ?_
                  refine g_iadd dL_law_423 ?_
                  refine g_sload hw dL_law_424 fun x177 => ?_
                  refine g_callV_I (mm_X3_hard _ _ _ _) rfl zc_2 q1317 q1318 q1319 q109 q1320 dv_X3_hard rfl (Nat.le_of_ble_eq_true rfl) (Nat.le_of_ble_eq_true rfl) (Nat.le_of_ble_eq_true rfl) dL_law_425 fun x178 σ => ?_
                  refine g_icmp_eq 1491 dL_law_428 (by decide) ?_ ?_
                  · exact g_jmp (hj6 _ _) rfl
                  · refine g_iconst 0 dL_law_431 (by decide) ?_
                    exact g_lwr rfl rfl ha hR hz h00 dL_law_432
                · refine g_case (fun h7 => ?_) (fun h7 => ?_)
                  · refine g_tableIn (off := 394) 433 dL_law_39 (by rw [h7]; decide) (by rw [h7]; decide) (by rw [h7]; try rfl) (by decide) ?_
                    refine g_aload_n 1 dL_law_433 rfl rfl ?_
                    refine g_aload_nS 0 dL_law_434 rfl rfl ?_
                    refine g_iload dL_law_435 rfl ?_
                    refine g_iconst 1 dL_law_437 (by decide) ?_
                    refine g_iadd dL_law_438 ?_
                    refine g_sload hw dL_law_439 fun x167 => ?_
                    refine g_aload_nS 0 dL_law_440 rfl rfl ?_
                    refine g_iload dL_law_441 rfl ?_
                    refine g_iconst 2 dL_law_443 (by decide) ?_
                    refine g_iadd dL_law_444 ?_
                    refine g_sload hw dL_law_445 fun x168 => ?_
                    refine g_callV_I (mm_X1_set _ _ _ _) rfl zc_0 q609 q610 q611 q107 q612 dv_X1_set rfl (Nat.le_of_ble_eq_true rfl) (Nat.le_of_ble_eq_true rfl) (Nat.le_of_ble_eq_true rfl) dL_law_446 fun x169 σ => ?_
                    refine g_aload_n 2 dL_law_449 rfl rfl ?_
                    refine g_aload_nS 0 dL_law_450 rfl rfl ?_
                    refine g_iload dL_law_451 rfl ?_
                    refine g_iconst 1 dL_law_453 (by decide) ?_
                    refine g_iadd dL_law_454 ?_
                    refine g_sload hw dL_law_455 fun x170 => ?_
                    refine g_aload_nS 0 dL_law_456 rfl rfl ?_
                    refine g_iload dL_law_457 rfl ?_
                    refine g_iconst 2 dL_law_459 (by decide) ?_
                    refine g_iadd dL_law_460 ?_
                    refine g_sload hw dL_law_461 fun x171 => ?_
                    refine g_callV_I (mm_X3_set _ _ _ _) rfl zc_2 q1331 q1332 q1333 q109 q1334 dv_X3_set rfl (Nat.le_of_ble_eq_true rfl) (Nat.le_of_ble_eq_true rfl) (Nat.le_of_ble_eq_true rfl) dL_law_462 fun x172 σ => ?_
                    refine g_icmp_eq 1491 dL_law_465 (by decide) ?_ ?_
                    · exact g_jmp (hj6 _ _) rfl
                    · refine g_iconst 0 dL_law_468 (by decide) ?_
                      exact g_lwr rfl rfl ha hR hz h00 dL_law_469
                  · refine g_case (fun h8 => ?_) (fun h8 => ?_)
                    · refine g_tableIn (off := 431) 470 dL_law_39 (by rw [h8]; decide) (by rw [h8]; decide) (by rw [h8]; try rfl) (by decide) ?_
                      refine g_aload_n 1 dL_law_470 rfl rfl ?_
                      refine g_aload_nS 0 dL_law_471 rfl rfl ?_
                      refine g_iload dL_law_472 rfl ?_
                      refine g_iconst 1 dL_law_474 (by decide) ?_
                      refine g_iadd dL_law_475 ?_
                      refine g_sload hw dL_law_476 fun x157 => ?_
                      refine g_aload_nS 0 dL_law_477 rfl rfl ?_
                      refine g_iload dL_law_478 rfl ?_
                      refine g_iconst 2 dL_law_480 (by decide) ?_
                      refine g_iadd dL_law_481 ?_
                      refine g_sload hw dL_law_482 fun x158 => ?_
                      refine g_aload_nS 0 dL_law_483 rfl rfl ?_
                      refine g_iload dL_law_484 rfl ?_
                      refine g_iconst 3 dL_law_486 (by decide) ?_
                      refine g_iadd dL_law_487 ?_
                      refine g_sload hw dL_law_488 fun x159 => ?_
                      refine g_aload_nS 0 dL_law_489 rfl rfl ?_
                      refine g_iload dL_law_490 rfl ?_
                      refine g_iconst 4 dL_law_492 (by decide) ?_
                      refine g_iadd dL_law_493 ?_
                      refine g_sload hw dL_law_494 fun x160 => ?_
                      refine g_callV_I (mm_X1_sheet _ _ _ _ _ _) rfl zc_0 q615 q616 q617 q107 q618 dv_X1_sheet rfl (Nat.le_of_ble_eq_true rfl) (Nat.le_of_ble_eq_true rfl) (Nat.le_of_ble_eq_true rfl) dL_law_495 fun x161 σ => ?_
                      refine g_aload_n 2 dL_law_498 rfl rfl ?_
                      refine g_aload_nS 0 dL_law_499 rfl rfl ?_
                      refine g_iload dL_law_500 rfl ?_
                      refine g_iconst 1 dL_law_502 (by decide) ?_
                      refine g_iadd dL_law_503 ?_
                      refine g_sload hw dL_law_504 fun x162 => ?_
                      refine g_aload_nS 0 dL_law_505 rfl rfl ?_
                      refine g_iload dL_law_506 rfl ?_
                      refine g_iconst 2 dL_law_508 (by decide) ?_
                      refine g_iadd dL_law_509 ?_
                      refine g_sload hw dL_law_510 fun x163 => ?_
                      refine g_aload_nS 0 dL_law_511 rfl rfl ?_
                      refine g_iload dL_law_512 rfl ?_
                      refine g_iconst 3 dL_law_514 (by decide) ?_
                      refine g_iadd dL_law_515 ?_
                      refine g_sload hw dL_law_516 fun x164 => ?_
                      refine g_aload_nS 0 dL_law_517 rfl rfl ?_
                      refine g_iload dL_law_518 rfl ?_
                      refine g_iconst 4 dL_law_520 (by decide) ?_
                      refine g_iadd dL_law_521 ?_
                      refine g_sload hw dL_law_522 fun x165 => ?_
                      refine g_callV_I (mm_X3_sheet _ _ _ _ _ _) rfl zc_2 q1335 q1336 q1337 q109 q1338 dv_X3_sheet rfl (Nat.le_of_ble_eq_true rfl) (Nat.le_of_ble_eq_true rfl) (Nat.le_of_ble_eq_true rfl) dL_law_523 fun x166 σ => ?_
                      refine g_icmp_eq 1491 dL_law_526 (by decide) ?_ ?_
                      · exact g_jmp (hj6 _ _) rfl
                      · refine g_iconst 0 dL_law_529 (by decide) ?_
                        exact g_lwr rfl rfl ha hR hz h00 dL_law_530
                    · refine g_case (fun h9 => ?_) (fun h9 => ?_)
                      · refine g_tableIn (off := 492) 531 dL_law_39 (by rw [h9]; decide) (by rw [h9]; decide) (by rw [h9]; try rfl) (by decide) ?_
                        refine g_aload_n 1 dL_law_531 rfl rfl ?_
                        refine g_callV_I (mm_X1_rota _ _) rfl zc_0 q635 q636 q637 q107 q638 dv_X1_rota rfl (Nat.le_of_ble_eq_true rfl) (Nat.le_of_ble_eq_true rfl) (Nat.le_of_ble_eq_true rfl) dL_law_532 fun x155 σ => ?_
                        refine g_aload_n 2 dL_law_535 rfl rfl ?_
                        refine g_callV_I (mm_X3_rota _ _) rfl zc_2 q1339 q1340 q1341 q109 q1342 dv_X3_rota rfl (Nat.le_of_ble_eq_true rfl) (Nat.le_of_ble_eq_true rfl) (Nat.le_of_ble_eq_true rfl) dL_law_536 fun x156 σ => ?_
                        refine g_icmp_eq 1491 dL_law_539 (by decide) ?_ ?_
                        · exact g_jmp (hj6 _ _) rfl
                        · refine g_iconst 0 dL_law_542 (by decide) ?_
                          exact g_lwr rfl rfl ha hR hz h00 dL_law_543
                      · refine g_case (fun h10 => ?_) (fun h10 => ?_)
                        · refine g_tableIn (off := 505) 544 dL_law_39 (by rw [h10]; decide) (by rw [h10]; decide) (by rw [h10]; try rfl) (by decide) ?_
                          refine g_aload_n 1 dL_law_544 rfl rfl ?_
                          refine g_aload_nS 0 dL_law_545 rfl rfl ?_
                          refine g_iload dL_law_546 rfl ?_
                          refine g_iconst 1 dL_law_548 (by decide) ?_
                          refine g_iadd dL_law_549 ?_
                          refine g_sload hw dL_law_550 fun x149 => ?_
                          refine g_aload_nS 0 dL_law_551 rfl rfl ?_
                          refine g_iload dL_law_552 rfl ?_
                          refine g_iconst 2 dL_law_554 (by decide) ?_
                          refine g_iadd dL_law_555 ?_
                          refine g_sload hw dL_law_556 fun x150 => ?_
                          refine g_callV_I (mm_X1_give _ _ _ _) rfl zc_0 q643 q644 q645 q107 q646 dv_X1_give rfl (Nat.le_of_ble_eq_true rfl) (Nat.le_of_ble_eq_true rfl) (Nat.le_of_ble_eq_true rfl) dL_law_557 fun x151 σ => ?_
                          refine g_aload_n 2 dL_law_560 rfl rfl ?_
                          refine g_aload_nS 0 dL_law_561 rfl rfl ?_
                          refine g_iload dL_law_562 rfl ?_
                          refine g_iconst 1 dL_law_564 (by decide) ?_
                          refine g_iadd dL_law_565 ?_
                          refine g_sload hw dL_law_566 fun x152 => ?_
                          refine g_aload_nS 0 dL_law_567 rfl rfl ?_
                          refine g_iload dL_law_568 rfl ?_
                          refine g_iconst 2 dL_law_570 (by decide) ?_
                          refine g_iadd dL_law_571 ?_
                          refine g_sload hw dL_law_572 fun x153 => ?_
                          refine g_callV_I (mm_X3_give _ _ _ _) rfl zc_2 q1350 q1351 q1352 q109 q1353 dv_X3_give rfl (Nat.le_of_ble_eq_true rfl) (Nat.le_of_ble_eq_true rfl) (Nat.le_of_ble_eq_true rfl) dL_law_573 fun x154 σ => ?_
                          refine g_icmp_eq 1491 dL_law_576 (by decide) ?_ ?_
                          · exact g_jmp (hj6 _ _) rfl
                          · refine g_iconst 0 dL_law_579 (by decide) ?_
                            exact g_lwr rfl rfl ha hR hz h00 dL_law_580
                        · refine g_case (fun h11 => ?_) (fun h11 => ?_)
                          · refine g_tableIn (off := 542) 581 dL_law_39 (by rw [h11]; decide) (by rw [h11]; decide) (by rw [h11]; try rfl) (by decide) ?_
                            refine g_aload_n 1 dL_law_581 rfl rfl ?_
                            refine g_aload_nS 0 dL_law_582 rfl rfl ?_
                            refine g_iload dL_law_583 rfl ?_
                            refine g_iconst 1 dL_law_585 (by decide) ?_
                            refine g_iadd dL_law_586 ?_
                            refine g_sload hw dL_law_587 fun x145 => ?_
                            refine g_callV_I (mm_X1_ill _ _ _) rfl zc_0 q651 q652 q653 q107 q654 dv_X1_ill rfl (Nat.le_of_ble_eq_true rfl) (Nat.le_of_ble_eq_true rfl) (Nat.le_of_ble_eq_true rfl) dL_law_588 fun x146 σ => ?_
                            refine g_aload_n 2 dL_law_591 rfl rfl ?_
                            refine g_aload_nS 0 dL_law_592 rfl rfl ?_
                            refine g_iload dL_law_593 rfl ?_
                            refine g_iconst 1 dL_law_595 (by decide) ?_
                            refine g_iadd dL_law_596 ?_
                            refine g_sload hw dL_law_597 fun x147 => ?_
                            refine g_callV_I (mm_X3_ill _ _ _) rfl zc_2 q1358 q1359 q1360 q109 q1361 dv_X3_ill rfl (Nat.le_of_ble_eq_true rfl) (Nat.le_of_ble_eq_true rfl) (Nat.le_of_ble_eq_true rfl) dL_law_598 fun x148 σ => ?_
                            refine g_icmp_eq 1491 dL_law_601 (by decide) ?_ ?_
                            · exact g_jmp (hj6 _ _) rfl
                            · refine g_iconst 0 dL_law_604 (by decide) ?_
                              exact g_lwr rfl rfl ha hR hz h00 dL_law_605
                          · refine g_case (fun h12 => ?_) (fun h12 => ?_)
                            · refine g_tableIn (off := 567) 606 dL_law_39 (by rw [h12]; decide) (by rw [h12]; decide) (by rw [h12]; try rfl) (by decide) ?_
                              refine g_aload_n 1 dL_law_606 rfl rfl ?_
                              refine g_aload_nS 0 dL_law_607 rfl rfl ?_
                              refine g_iload dL_law_608 rfl ?_
                              refine g_iconst 1 dL_law_610 (by decide) ?_
                              refine g_iadd dL_law_611 ?_
                              refine g_sload hw dL_law_612 fun x141 => ?_
                              refine g_callV_I (mm_X1_nights _ _ _) rfl zc_0 q660 q661 q662 q107 q663 dv_X1_nights rfl (Nat.le_of_ble_eq_true rfl) (Nat.le_of_ble_eq_true rfl) (Nat.le_of_ble_eq_true rfl) dL_law_613 fun x142 σ => ?_
                              refine g_aload_n 2 dL_law_616 rfl rfl ?_
                              refine g_aload_nS 0 dL_law_617 rfl rfl ?_
                              refine g_iload dL_law_618 rfl ?_
                              refine g_iconst 1 dL_law_620 (by decide) ?_
                              refine g_iadd dL_law_621 ?_
                              refine g_sload hw dL_law_622 fun x143 => ?_
                              refine g_callV_I (mm_X3_nights _ _ _) rfl zc_2 q1366 q1367 q1368 q109 q1369 dv_X3_nights rfl (Nat.le_of_ble_eq_true rfl) (Nat.le_of_ble_eq_true rfl) (Nat.le_of_ble_eq_true rfl) dL_law_623 fun x144 σ => ?_
                              refine g_icmp_eq 1491 dL_law_626 (by decide) ?_ ?_
                              · exact g_jmp (hj6 _ _) rfl
                              · refine g_iconst 0 dL_law_629 (by decide) ?_
                                exact g_lwr rfl rfl ha hR hz h00 dL_law_630
                            · refine g_case (fun h13 => ?_) (fun h13 => ?_)
                              · refine g_tableIn (off := 592) 631 dL_law_39 (by rw [h13]; decide) (by rw [h13]; decide) (by rw [h13]; try rfl) (by decide) ?_
                                refine g_aload_n 1 dL_law_631 rfl rfl ?_
                                refine g_callV_I (mm_X1_year _ _) rfl zc_0 q687 q688 q689 q107 q690 dv_X1_year rfl (Nat.le_of_ble_eq_true rfl) (Nat.le_of_ble_eq_true rfl) (Nat.le_of_ble_eq_true rfl) dL_law_632 fun x139 σ => ?_
                                refine g_aload_n 2 dL_law_635 rfl rfl ?_
                                refine g_callV_I (mm_X3_year _ _) rfl zc_2 q1390 q1391 q1392 q109 q1393 dv_X3_year rfl (Nat.le_of_ble_eq_true rfl) (Nat.le_of_ble_eq_true rfl) (Nat.le_of_ble_eq_true rfl) dL_law_636 fun x140 σ => ?_
                                refine g_icmp_eq 1491 dL_law_639 (by decide) ?_ ?_
                                · exact g_jmp (hj6 _ _) rfl
                                · refine g_iconst 0 dL_law_642 (by decide) ?_
                                  exact g_lwr rfl rfl ha hR hz h00 dL_law_643
                              · refine g_case (fun h14 => ?_) (fun h14 => ?_)
                                · refine g_tableIn (off := 605) 644 dL_law_39 (by rw [h14]; decide) (by rw [h14]; decide) (by rw [h14]; try rfl) (by decide) ?_
                                  refine g_aload_n 1 dL_law_644 rfl rfl ?_
                                  refine g_callV_I (mm_X1_undo _ _) rfl zc_0 q624 q625 q626 q107 q627 dv_X1_undo rfl (Nat.le_of_ble_eq_true rfl) (Nat.le_of_ble_eq_true rfl) (Nat.le_of_ble_eq_true rfl) dL_law_645 fun x137 σ => ?_
                                  refine g_aload_n 2 dL_law_648 rfl rfl ?_
                                  refine g_callV_I (mm_X3_undo _ _) rfl zc_2 q1410 q1411 q1412 q109 q1413 dv_X3_undo rfl (Nat.le_of_ble_eq_true rfl) (Nat.le_of_ble_eq_true rfl) (Nat.le_of_ble_eq_true rfl) dL_law_649 fun x138 σ => ?_
                                  refine g_icmp_eq 1491 dL_law_652 (by decide) ?_ ?_
                                  · exact g_jmp (hj6 _ _) rfl
                                  · refine g_iconst 0 dL_law_655 (by decide) ?_
                                    exact g_lwr rfl rfl ha hR hz h00 dL_law_656
                                · refine g_case (fun h15 => ?_) (fun h15 => ?_)
                                  · refine g_tableIn (off := 618) 657 dL_law_39 (by rw [h15]; decide) (by rw [h15]; decide) (by rw [h15]; try rfl) (by decide) ?_
                                    refine g_aload_n 1 dL_law_657 rfl rfl ?_
                                    refine g_callV_I (mm_X1_gaps _ _) rfl zc_0 q708 q709 q710 q107 q711 dv_X1_gaps rfl (Nat.le_of_ble_eq_true rfl) (Nat.le_of_ble_eq_true rfl) (Nat.le_of_ble_eq_true rfl) dL_law_658 fun x135 σ => ?_
                                    refine g_aload_n 2 dL_law_661 rfl rfl ?_
                                    refine g_callV_I (mm_X3_gaps _ _) rfl zc_2 q1414 q1415 q1416 q109 q1417 dv_X3_gaps rfl (Nat.le_of_ble_eq_true rfl) (Nat.le_of_ble_eq_true rfl) (Nat.le_of_ble_eq_true rfl) dL_law_662 fun x136 σ => ?_
                                    refine g_icmp_eq 1491 dL_law_665 (by decide) ?_ ?_
                                    · exact g_jmp (hj6 _ _) rfl
                                    · refine g_iconst 0 dL_law_668 (by decide) ?_
                                      exact g_lwr rfl rfl ha hR hz h00 dL_law_669
                                  · refine g_case (fun h16 => ?_) (fun h16 => ?_)
                                    · refine g_tableIn (off := 631) 670 dL_law_39 (by rw [h16]; decide) (by rw [h16]; decide) (by rw [h16]; try rfl) (by decide) ?_
                                      refine g_aload_n 1 dL_law_670 rfl rfl ?_
                                      refine g_aload_nS 0 dL_law_671 rfl rfl ?_
                                      refine g_iload dL_law_672 rfl ?_
                                      refine g_iconst 1 dL_law_674 (by decide) ?_
                                      refine g_iadd dL_law_675 ?_
                                      refine g_sload hw dL_law_676 fun x131 => ?_
                                      refine g_callV_I (mm_X1_first _ _ _) rfl zc_0 q712 q713 q714 q107 q715 dv_X1_first rfl (Nat.le_of_ble_eq_true rfl) (Nat.le_of_ble_eq_true rfl) (Nat.le_of_ble_eq_true rfl) dL_law_677 fun x132 σ => ?_
                                      refine g_aload_n 2 dL_law_680 rfl rfl ?_
                                      refine g_aload_nS 0 dL_law_681 rfl rfl ?_
                                      refine g_iload dL_law_682 rfl ?_
                                      refine g_iconst 1 dL_law_684 (by decide) ?_
                                      refine g_iadd dL_law_685 ?_
                                      refine g_sload hw dL_law_686 fun x133 => ?_
                                      refine g_callV_I (mm_X3_first _ _ _) rfl zc_2 q1418 q1419 q1420 q109 q1421 dv_X3_first rfl (Nat.le_of_ble_eq_true rfl) (Nat.le_of_ble_eq_true rfl) (Nat.le_of_ble_eq_true rfl) dL_law_687 fun x134 σ => ?_
                                      refine g_icmp_eq 1491 dL_law_690 (by decide) ?_ ?_
                                      · exact g_jmp (hj6 _ _) rfl
                                      · refine g_iconst 0 dL_law_693 (by decide) ?_
                                        exact g_lwr rfl rfl ha hR hz h00 dL_law_694
                                    · refine g_case (fun h17 => ?_) (fun h17 => ?_)
                                      · refine g_tableIn (off := 656) 695 dL_law_39 (by rw [h17]; decide) (by rw [h17]; decide) (by rw [h17]; try rfl) (by decide) ?_
                                        refine g_aload_n 1 dL_law_695 rfl rfl ?_
                                        refine g_aload_nS 0 dL_law_696 rfl rfl ?_
                                        refine g_iload dL_law_697 rfl ?_
                                        refine g_iconst 1 dL_law_699 (by decide) ?_
                                        refine g_iadd dL_law_700 ?_
                                        refine g_sload hw dL_law_701 fun x127 => ?_
                                        refine g_callV_I (mm_X1_later _ _ _) rfl zc_0 q721 q722 q723 q107 q724 dv_X1_later rfl (Nat.le_of_ble_eq_true rfl) (Nat.le_of_ble_eq_true rfl) (Nat.le_of_ble_eq_true rfl) dL_law_702 fun x128 σ => ?_
                                        refine g_aload_n 2 dL_law_705 rfl rfl ?_
                                        refine g_aload_nS 0 dL_law_706 rfl rfl ?_
                                        refine g_iload dL_law_707 rfl ?_
                                        refine g_iconst 1 dL_law_709 (by decide) ?_
                                        refine g_iadd dL_law_710 ?_
                                        refine g_sload hw dL_law_711 fun x129 => ?_
                                        refine g_callV_I (mm_X3_later _ _ _) rfl zc_2 q1423 q1424 q1425 q109 q1426 dv_X3_later rfl (Nat.le_of_ble_eq_true rfl) (Nat.le_of_ble_eq_true rfl) (Nat.le_of_ble_eq_true rfl) dL_law_712 fun x130 σ => ?_
                                        refine g_icmp_eq 1491 dL_law_715 (by decide) ?_ ?_
                                        · exact g_jmp (hj6 _ _) rfl
                                        · refine g_iconst 0 dL_law_718 (by decide) ?_
                                          exact g_lwr rfl rfl ha hR hz h00 dL_law_719
                                      · refine g_case (fun h18 => ?_) (fun h18 => ?_)
                                        · refine g_tableIn (off := 681) 720 dL_law_39 (by rw [h18]; decide) (by rw [h18]; decide) (by rw [h18]; try rfl) (by decide) ?_
                                          refine g_aload_n 1 dL_law_720 rfl rfl ?_
                                          refine g_aload_nS 0 dL_law_721 rfl rfl ?_
                                          refine g_iload dL_law_722 rfl ?_
                                          refine g_iconst 1 dL_law_724 (by decide) ?_
                                          refine g_iadd dL_law_725 ?_
                                          refine g_sload hw dL_law_726 fun x123 => ?_
                                          refine g_callV_I (mm_X1_vigil _ _ _) rfl zc_0 q725 q726 q727 q107 q728 dv_X1_vigil rfl (Nat.le_of_ble_eq_true rfl) (Nat.le_of_ble_eq_true rfl) (Nat.le_of_ble_eq_true rfl) dL_law_727 fun x124 σ => ?_
                                          refine g_aload_n 2 dL_law_730 rfl rfl ?_
                                          refine g_aload_nS 0 dL_law_731 rfl rfl ?_
                                          refine g_iload dL_law_732 rfl ?_
                                          refine g_iconst 1 dL_law_734 (by decide) ?_
                                          refine g_iadd dL_law_735 ?_
                                          refine g_sload hw dL_law_736 fun x125 => ?_
                                          refine g_callV_I (mm_X3_vigil _ _ _) rfl zc_2 q1427 q1428 q1429 q109 q1430 dv_X3_vigil rfl (Nat.le_of_ble_eq_true rfl) (Nat.le_of_ble_eq_true rfl) (Nat.le_of_ble_eq_true rfl) dL_law_737 fun x126 σ => ?_
                                          refine g_icmp_eq 1491 dL_law_740 (by decide) ?_ ?_
                                          · exact g_jmp (hj6 _ _) rfl
                                          · refine g_iconst 0 dL_law_743 (by decide) ?_
                                            exact g_lwr rfl rfl ha hR hz h00 dL_law_744
                                        · refine g_case (fun h19 => ?_) (fun h19 => ?_)
                                          · refine g_tableIn (off := 706) 745 dL_law_39 (by rw [h19]; decide) (by rw [h19]; decide) (by rw [h19]; try rfl) (by decide) ?_
                                            refine g_aload_n 1 dL_law_745 rfl rfl ?_
                                            refine g_callV_I (mm_X1_trade _ _) rfl zc_0 q729 q730 q731 q107 q732 dv_X1_trade rfl (Nat.le_of_ble_eq_true rfl) (Nat.le_of_ble_eq_true rfl) (Nat.le_of_ble_eq_true rfl) dL_law_746 fun x121 σ => ?_
                                            refine g_aload_n 2 dL_law_749 rfl rfl ?_
                                            refine g_callV_I (mm_X3_trade _ _) rfl zc_2 q1431 q1432 q1433 q109 q1434 dv_X3_trade rfl (Nat.le_of_ble_eq_true rfl) (Nat.le_of_ble_eq_true rfl) (Nat.le_of_ble_eq_true rfl) dL_law_750 fun x122 σ => ?_
                                            refine g_icmp_eq 1491 dL_law_753 (by decide) ?_ ?_
                                            · exact g_jmp (hj6 _ _) rfl
                                            · refine g_iconst 0 dL_law_756 (by decide) ?_
                                              exact g_lwr rfl rfl ha hR hz h00 dL_law_757
                                          · refine g_case (fun h20 => ?_) (fun h20 => ?_)
                                            · refine g_tableIn (off := 719) 758 dL_law_39 (by rw [h20]; decide) (by rw [h20]; decide) (by rw [h20]; try rfl) (by decide) ?_
                                              refine g_aload_n 1 dL_law_758 rfl rfl ?_
                                              refine g_callV_I (mm_X1_easiest _ _) rfl zc_0 q733 q734 q735 q107 q736 dv_X1_easiest rfl (Nat.le_of_ble_eq_true rfl) (Nat.le_of_ble_eq_true rfl) (Nat.le_of_ble_eq_true rfl) dL_law_759 fun x119 σ => ?_
                                              refine g_aload_n 2 dL_law_762 rfl rfl ?_
                                              refine g_callV_I (mm_X3_easiest _ _) rfl zc_2 q1435 q1436 q1437 q109 q1438 dv_X3_easiest rfl (Nat.le_of_ble_eq_true rfl) (Nat.le_of_ble_eq_true rfl) (Nat.le_of_ble_eq_true rfl) dL_law_763 fun x120 σ => ?_
                                              refine g_icmp_eq 1491 dL_law_766 (by decide) ?_ ?_
                                              · exact g_jmp (hj6 _ _) rfl
                                              · refine g_iconst 0 dL_law_769 (by decide) ?_
                                                exact g_lwr rfl rfl ha hR hz h00 dL_law_770
                                            · refine g_case (fun h21 => ?_) (fun h21 => ?_)
                                              · refine g_tableIn (off := 732) 771 dL_law_39 (by rw [h21]; decide) (by rw [h21]; decide) (by rw [h21]; try rfl) (by decide) ?_
                                                refine g_aload_n 1 dL_law_771 rfl rfl ?_
                                                refine g_callV_I (mm_X1_fewest _ _) rfl zc_0 q778 q779 q780 q107 q781 dv_X1_fewest rfl (Nat.le_of_ble_eq_true rfl) (Nat.le_of_ble_eq_true rfl) (Nat.le_of_ble_eq_true rfl) dL_law_772 fun x117 σ => ?_
                                                refine g_aload_n 2 dL_law_775 rfl rfl ?_
                                                refine g_callV_I (mm_X3_fewest _ _) rfl zc_2 q1491 q1492 q1493 q109 q1494 dv_X3_fewest rfl (Nat.le_of_ble_eq_true rfl) (Nat.le_of_ble_eq_true rfl) (Nat.le_of_ble_eq_true rfl) dL_law_776 fun x118 σ => ?_
                                                refine g_icmp_eq 1491 dL_law_779 (by decide) ?_ ?_
                                                · exact g_jmp (hj6 _ _) rfl
                                                · refine g_iconst 0 dL_law_782 (by decide) ?_
                                                  exact g_lwr rfl rfl ha hR hz h00 dL_law_783
                                              · refine g_case (fun h22 => ?_) (fun h22 => ?_)
                                                · refine g_tableIn (off := 745) 784 dL_law_39 (by rw [h22]; decide) (by rw [h22]; decide) (by rw [h22]; try rfl) (by decide) ?_
                                                  refine g_aload_n 1 dL_law_784 rfl rfl ?_
                                                  refine g_callV_I (mm_X1_bare _ _) rfl zc_0 q790 q791 q792 q107 q793 dv_X1_bare rfl (Nat.le_of_ble_eq_true rfl) (Nat.le_of_ble_eq_true rfl) (Nat.le_of_ble_eq_true rfl) dL_law_785 fun x115 σ => ?_
                                                  refine g_aload_n 2 dL_law_788 rfl rfl ?_
                                                  refine g_callV_I (mm_X3_bare _ _) rfl zc_2 q1499 q1500 q1501 q109 q1502 dv_X3_bare rfl (Nat.le_of_ble_eq_true rfl) (Nat.le_of_ble_eq_true rfl) (Nat.le_of_ble_eq_true rfl) dL_law_789 fun x116 σ => ?_
                                                  refine g_icmp_eq 1491 dL_law_792 (by decide) ?_ ?_
                                                  · exact g_jmp (hj6 _ _) rfl
                                                  · refine g_iconst 0 dL_law_795 (by decide) ?_
                                                    exact g_lwr rfl rfl ha hR hz h00 dL_law_796
                                                · refine g_case (fun h23 => ?_) (fun h23 => ?_)
                                                  · refine g_tableIn (off := 758) 797 dL_law_39 (by rw [h23]; decide) (by rw [h23]; decide) (by rw [h23]; try rfl) (by decide) ?_
                                                    refine g_aload_n 1 dL_law_797 rfl rfl ?_
                                                    refine g_callV_I (mm_X1_rotas _ _) rfl zc_0 q798 q799 q800 q107 q801 dv_X1_rotas rfl (Nat.le_of_ble_eq_true rfl) (Nat.le_of_ble_eq_true rfl) (Nat.le_of_ble_eq_true rfl) dL_law_798 fun x113 σ => ?_
                                                    refine g_aload_n 2 dL_law_801 rfl rfl ?_
                                                    refine g_callV_I (mm_X3_rotas _ _) rfl zc_2 q1503 q1504 q1505 q109 q1506 dv_X3_rotas rfl (Nat.le_of_ble_eq_true rfl) (Nat.le_of_ble_eq_true rfl) (Nat.le_of_ble_eq_true rfl) dL_law_802 fun x114 σ => ?_
                                                    refine g_icmp_eq 1491 dL_law_805 (by decide) ?_ ?_
                                                    · exact g_jmp (hj6 _ _) rfl
                                                    · refine g_iconst 0 dL_law_808 (by decide) ?_
                                                      exact g_lwr rfl rfl ha hR hz h00 dL_law_809
                                                  · refine g_case (fun h24 => ?_) (fun h24 => ?_)
                                                    · refine g_tableIn (off := 771) 810 dL_law_39 (by rw [h24]; decide) (by rw [h24]; decide) (by rw [h24]; try rfl) (by decide) ?_
                                                      refine g_aload_n 1 dL_law_810 rfl rfl ?_
                                                      refine g_aload_nS 0 dL_law_811 rfl rfl ?_
                                                      refine g_iload dL_law_812 rfl ?_
                                                      refine g_iconst 1 dL_law_814 (by decide) ?_
                                                      refine g_iadd dL_law_815 ?_
                                                      refine g_sload hw dL_law_816 fun x109 => ?_
                                                      refine g_callV_I (mm_X1_mended _ _ _) rfl zc_0 q810 q811 q812 q107 q813 dv_X1_mended rfl (Nat.le_of_ble_eq_true rfl) (Nat.le_of_ble_eq_true rfl) (Nat.le_of_ble_eq_true rfl) dL_law_817 fun x110 σ => ?_
                                                      refine g_aload_n 2 dL_law_820 rfl rfl ?_
                                                      refine g_aload_nS 0 dL_law_821 rfl rfl ?_
                                                      refine g_iload dL_law_822 rfl ?_
                                                      refine g_iconst 1 dL_law_824 (by decide) ?_
                                                      refine g_iadd dL_law_825 ?_
                                                      refine g_sload hw dL_law_826 fun x111 => ?_
                                                      refine g_callV_I (mm_X3_mended _ _ _) rfl zc_2 q1515 q1516 q1517 q109 q1518 dv_X3_mended rfl (Nat.le_of_ble_eq_true rfl) (Nat.le_of_ble_eq_true rfl) (Nat.le_of_ble_eq_true rfl) dL_law_827 fun x112 σ => ?_
                                                      refine g_icmp_eq 1491 dL_law_830 (by decide) ?_ ?_
                                                      · exact g_jmp (hj6 _ _) rfl
                                                      · refine g_iconst 0 dL_law_833 (by decide) ?_
                                                        exact g_lwr rfl rfl ha hR hz h00 dL_law_834
                                                    · refine g_case (fun h25 => ?_) (fun h25 => ?_)
                                                      · refine g_tableIn (off := 796) 835 dL_law_39 (by rw [h25]; decide) (by rw [h25]; decide) (by rw [h25]; try rfl) (by decide) ?_
                                                        refine g_aload_n 1 dL_law_835 rfl rfl ?_
                                                        refine g_callV_I (mm_X1_takes_2 _ _) rfl zc_0 q774 q775 q776 q107 q777 dv_X1_takes_2 rfl (Nat.le_of_ble_eq_true rfl) (Nat.le_of_ble_eq_true rfl) (Nat.le_of_ble_eq_true rfl) dL_law_836 fun x107 σ => ?_
                                                        refine g_aload_n 2 dL_law_839 rfl rfl ?_
                                                        refine g_callV_I (mm_X3_takes _ _) rfl zc_2 q1519 q1520 q1521 q109 q1522 dv_X3_takes rfl (Nat.le_of_ble_eq_true rfl) (Nat.le_of_ble_eq_true rfl) (Nat.le_of_ble_eq_true rfl) dL_law_840 fun x108 σ => ?_
                                                        refine g_icmp_eq 1491 dL_law_843 (by decide) ?_ ?_
                                                        · exact g_jmp (hj6 _ _) rfl
                                                        · refine g_iconst 0 dL_law_846 (by decide) ?_
                                                          exact g_lwr rfl rfl ha hR hz h00 dL_law_847
                                                      · refine g_case (fun h26 => ?_) (fun h26 => ?_)
                                                        · refine g_tableIn (off := 809) 848 dL_law_39 (by rw [h26]; decide) (by rw [h26]; decide) (by rw [h26]; try rfl) (by decide) ?_
                                                          refine g_aload_n 1 dL_law_848 rfl rfl ?_
                                                          refine g_aload_nS 0 dL_law_849 rfl rfl ?_
                                                          refine g_iload dL_law_850 rfl ?_
                                                          refine g_iconst 1 dL_law_852 (by decide) ?_
                                                          refine g_iadd dL_law_853 ?_
                                                          refine g_sload hw dL_law_854 fun x103 => ?_
                                                          refine g_callV_I (mm_X1_missed _ _ _) rfl zc_0 q814 q815 q816 q107 q817 dv_X1_missed rfl (Nat.le_of_ble_eq_true rfl) (Nat.le_of_ble_eq_true rfl) (Nat.le_of_ble_eq_true rfl) dL_law_855 fun x104 σ => ?_
                                                          refine g_aload_n 2 dL_law_858 rfl rfl ?_
                                                          refine g_aload_nS 0 dL_law_859 rfl rfl ?_
                                                          refine g_iload dL_law_860 rfl ?_
                                                          refine g_iconst 1 dL_law_862 (by decide) ?_
                                                          refine g_iadd dL_law_863 ?_
                                                          refine g_sload hw dL_law_864 fun x105 => ?_
                                                          refine g_callV_I (mm_X3_missed _ _ _) rfl zc_2 q1523 q1524 q1525 q109 q1526 dv_X3_missed rfl (Nat.le_of_ble_eq_true rfl) (Nat.le_of_ble_eq_true rfl) (Nat.le_of_ble_eq_true rfl) dL_law_865 fun x106 σ => ?_
                                                          refine g_icmp_eq 1491 dL_law_868 (by decide) ?_ ?_
                                                          · exact g_jmp (hj6 _ _) rfl
                                                          · refine g_iconst 0 dL_law_871 (by decide) ?_
                                                            exact g_lwr rfl rfl ha hR hz h00 dL_law_872
                                                        · refine g_case (fun h27 => ?_) (fun h27 => ?_)
                                                          · refine g_tableIn (off := 834) 873 dL_law_39 (by rw [h27]; decide) (by rw [h27]; decide) (by rw [h27]; try rfl) (by decide) ?_
                                                            refine g_aload_n 1 dL_law_873 rfl rfl ?_
                                                            refine g_aload_nS 0 dL_law_874 rfl rfl ?_
                                                            refine g_iload dL_law_875 rfl ?_
                                                            refine g_iconst 1 dL_law_877 (by decide) ?_
                                                            refine g_iadd dL_law_878 ?_
                                                            refine g_sload hw dL_law_879 fun x99 => ?_
                                                            refine g_callV_I (mm_X1_paid _ _ _) rfl zc_0 q818 q819 q820 q107 q821 dv_X1_paid rfl (Nat.le_of_ble_eq_true rfl) (Nat.le_of_ble_eq_true rfl) (Nat.le_of_ble_eq_true rfl) dL_law_880 fun x100 σ => ?_
                                                            refine g_aload_n 2 dL_law_883 rfl rfl ?_
                                                            refine g_aload_nS 0 dL_law_884 rfl rfl ?_
                                                            refine g_iload dL_law_885 rfl ?_
                                                            refine g_iconst 1 dL_law_887 (by decide) ?_
                                                            refine g_iadd dL_law_888 ?_
                                                            refine g_sload hw dL_law_889 fun x101 => ?_
                                                            refine g_callV_I (mm_X3_paid _ _ _) rfl zc_2 q1527 q1528 q1529 q109 q1530 dv_X3_paid rfl (Nat.le_of_ble_eq_true rfl) (Nat.le_of_ble_eq_true rfl) (Nat.le_of_ble_eq_true rfl) dL_law_890 fun x102 σ => ?_
                                                            refine g_icmp_eq 1491 dL_law_893 (by decide) ?_ ?_
                                                            · exact g_jmp (hj6 _ _) rfl
                                                            · refine g_iconst 0 dL_law_896 (by decide) ?_
                                                              exact g_lwr rfl rfl ha hR hz h00 dL_law_897
                                                          · refine g_case (fun h28 => ?_) (fun h28 => ?_)
                                                            · refine g_tableIn (off := 859) 898 dL_law_39 (by rw [h28]; decide) (by rw [h28]; decide) (by rw [h28]; try rfl) (by decide) ?_
                                                              refine g_aload_n 1 dL_law_898 rfl rfl ?_
                                                              refine g_callV_I (mm_X1_fairest _ _) rfl zc_0 q822 q823 q824 q107 q825 dv_X1_fairest rfl (Nat.le_of_ble_eq_true rfl) (Nat.le_of_ble_eq_true rfl) (Nat.le_of_ble_eq_true rfl) dL_law_899 fun x97 σ => ?_
                                                              refine g_aload_n 2 dL_law_902 rfl rfl ?_
                                                              refine g_callV_I (mm_X3_fairest _ _) rfl zc_2 q1531 q1532 q1533 q109 q1534 dv_X3_fairest rfl (Nat.le_of_ble_eq_true rfl) (Nat.le_of_ble_eq_true rfl) (Nat.le_of_ble_eq_true rfl) dL_law_903 fun x98 σ => ?_
                                                              refine g_icmp_eq 1491 dL_law_906 (by decide) ?_ ?_
                                                              · exact g_jmp (hj6 _ _) rfl
                                                              · refine g_iconst 0 dL_law_909 (by decide) ?_
                                                                exact g_lwr rfl rfl ha hR hz h00 dL_law_910
                                                            · refine g_case (fun h29 => ?_) (fun h29 => ?_)
                                                              · refine g_tableIn (off := 872) 911 dL_law_39 (by rw [h29]; decide) (by rw [h29]; decide) (by rw [h29]; try rfl) (by decide) ?_
                                                                refine g_aload_n 1 dL_law_911 rfl rfl ?_
                                                                refine g_callV_I (mm_X1_away _ _) rfl zc_0 q826 q827 q828 q107 q829 dv_X1_away rfl (Nat.le_of_ble_eq_true rfl) (Nat.le_of_ble_eq_true rfl) (Nat.le_of_ble_eq_true rfl) dL_law_912 fun x95 σ => ?_
                                                                refine g_aload_n 2 dL_law_915 rfl rfl ?_
                                                                refine g_callV_I (mm_X3_away _ _) rfl zc_2 q1535 q1536 q1537 q109 q1538 dv_X3_away rfl (Nat.le_of_ble_eq_true rfl) (Nat.le_of_ble_eq_true rfl) (Nat.le_of_ble_eq_true rfl) dL_law_916 fun x96 σ => ?_
                                                                refine g_icmp_eq 1491 dL_law_919 (by decide) ?_ ?_
                                                                · exact g_jmp (hj6 _ _) rfl
                                                                · refine g_iconst 0 dL_law_922 (by decide) ?_
                                                                  exact g_lwr rfl rfl ha hR hz h00 dL_law_923
                                                              · refine g_case (fun h30 => ?_) (fun h30 => ?_)
                                                                · refine g_tableIn (off := 885) 924 dL_law_39 (by rw [h30]; decide) (by rw [h30]; decide) (by rw [h30]; try rfl) (by decide) ?_
                                                                  refine g_aload_n 1 dL_law_924 rfl rfl ?_
                                                                  refine g_aload_nS 0 dL_law_925 rfl rfl ?_
                                                                  refine g_iload dL_law_926 rfl ?_
                                                                  refine g_iconst 1 dL_law_928 (by decide) ?_
                                                                  refine g_iadd dL_law_929 ?_
                                                                  refine g_sload hw dL_law_930 fun x91 => ?_
                                                                  refine g_callV_I (mm_X1_able _ _ _) rfl zc_0 q830 q831 q832 q107 q833 dv_X1_able rfl (Nat.le_of_ble_eq_true rfl) (Nat.le_of_ble_eq_true rfl) (Nat.le_of_ble_eq_true rfl) dL_law_931 fun x92 σ => ?_
                                                                  refine g_aload_n 2 dL_law_934 rfl rfl ?_
                                                                  refine g_aload_nS 0 dL_law_935 rfl rfl ?_
                                                                  refine g_iload dL_law_936 rfl ?_
                                                                  refine g_iconst 1 dL_law_938 (by decide) ?_
                                                                  refine g_iadd dL_law_939 ?_
                                                                  refine g_sload hw dL_law_940 fun x93 => ?_
                                                                  refine g_callV_I (mm_X3_able _ _ _) rfl zc_2 q1539 q1540 q1541 q109 q1542 dv_X3_able rfl (Nat.le_of_ble_eq_true rfl) (Nat.le_of_ble_eq_true rfl) (Nat.le_of_ble_eq_true rfl) dL_law_941 fun x94 σ => ?_
                                                                  refine g_icmp_eq 1491 dL_law_944 (by decide) ?_ ?_
                                                                  · exact g_jmp (hj6 _ _) rfl
                                                                  · refine g_iconst 0 dL_law_947 (by decide) ?_
                                                                    exact g_lwr rfl rfl ha hR hz h00 dL_law_948
                                                                · refine g_case (fun h31 => ?_) (fun h31 => ?_)
                                                                  · refine g_tableIn (off := 910) 949 dL_law_39 (by rw [h31]; decide) (by rw [h31]; decide) (by rw [h31]; try rfl) (by decide) ?_
                                                                    refine g_aload_n 1 dL_law_949 rfl rfl ?_
                                                                    refine g_aload_nS 0 dL_law_950 rfl rfl ?_
                                                                    refine g_iload dL_law_951 rfl ?_
                                                                    refine g_iconst 1 dL_law_953 (by decide) ?_
                                                                    refine g_iadd dL_law_954 ?_
                                                                    refine g_sload hw dL_law_955 fun x87 => ?_
                                                                    refine g_callV_I (mm_X1_spent _ _ _) rfl zc_0 q834 q835 q836 q107 q837 dv_X1_spent rfl (Nat.le_of_ble_eq_true rfl) (Nat.le_of_ble_eq_true rfl) (Nat.le_of_ble_eq_true rfl) dL_law_956 fun x88 σ => ?_
                                                                    refine g_aload_n 2 dL_law_959 rfl rfl ?_
                                                                    refine g_aload_nS 0 dL_law_960 rfl rfl ?_
                                                                    refine g_iload dL_law_961 rfl ?_
                                                                    refine g_iconst 1 dL_law_963 (by decide) ?_
                                                                    refine g_iadd dL_law_964 ?_
                                                                    refine g_sload hw dL_law_965 fun x89 => ?_
                                                                    refine g_callV_I (mm_X3_spent _ _ _) rfl zc_2 q1543 q1544 q1545 q109 q1546 dv_X3_spent rfl (Nat.le_of_ble_eq_true rfl) (Nat.le_of_ble_eq_true rfl) (Nat.le_of_ble_eq_true rfl) dL_law_966 fun x90 σ => ?_
                                                                    refine g_icmp_eq 1491 dL_law_969 (by decide) ?_ ?_
                                                                    · exact g_jmp (hj6 _ _) rfl
                                                                    · refine g_iconst 0 dL_law_972 (by decide) ?_
                                                                      exact g_lwr rfl rfl ha hR hz h00 dL_law_973
                                                                  · refine g_case (fun h32 => ?_) (fun h32 => ?_)
                                                                    · refine g_tableIn (off := 935) 974 dL_law_39 (by rw [h32]; decide) (by rw [h32]; decide) (by rw [h32]; try rfl) (by decide) ?_
                                                                      refine g_aload_n 1 dL_law_974 rfl rfl ?_
                                                                      refine g_aload_nS 0 dL_law_975 rfl rfl ?_
                                                                      refine g_iload dL_law_976 rfl ?_
                                                                      refine g_iconst 1 dL_law_978 (by decide) ?_
                                                                      refine g_iadd dL_law_979 ?_
                                                                      refine g_sload hw dL_law_980 fun x81 => ?_
                                                                      refine g_aload_nS 0 dL_law_981 rfl rfl ?_
                                                                      refine g_iload dL_law_982 rfl ?_
                                                                      refine g_iconst 2 dL_law_984 (by decide) ?_
                                                                      refine g_iadd dL_law_985 ?_
                                                                      refine g_sload hw dL_law_986 fun x82 => ?_
                                                                      refine g_callV_I (mm_X1_shared _ _ _ _) rfl zc_0 q839 q840 q841 q107 q842 dv_X1_shared rfl (Nat.le_of_ble_eq_true rfl) (Nat.le_of_ble_eq_true rfl) (Nat.le_of_ble_eq_true rfl) dL_law_987 fun x83 σ => ?_
                                                                      refine g_aload_n 2 dL_law_990 rfl rfl ?_
                                                                      refine g_aload_nS 0 dL_law_991 rfl rfl ?_
                                                                      refine g_iload dL_law_992 rfl ?_
                                                                      refine g_iconst 1 dL_law_994 (by decide) ?_
                                                                      refine g_iadd dL_law_995 ?_
                                                                      refine g_sload hw dL_law_996 fun x84 => ?_
                                                                      refine g_aload_nS 0 dL_law_997 rfl rfl ?_
                                                                      refine g_iload dL_law_998 rfl ?_
                                                                      refine g_iconst 2 dL_law_1000 (by decide) ?_
                                                                      refine g_iadd dL_law_1001 ?_
                                                                      refine g_sload hw dL_law_1002 fun x85 => ?_
                                                                      refine g_callV_I (mm_X3_shared _ _ _ _) rfl zc_2 q1547 q1548 q1549 q109 q1550 dv_X3_shared rfl (Nat.le_of_ble_eq_true rfl) (Nat.le_of_ble_eq_true rfl) (Nat.le_of_ble_eq_true rfl) dL_law_1003 fun x86 σ => ?_
                                                                      refine g_icmp_eq 1491 dL_law_1006 (by decide) ?_ ?_
                                                                      · exact g_jmp (hj6 _ _) rfl
                                                                      · refine g_iconst 0 dL_law_1009 (by decide) ?_
                                                                        exact g_lwr rfl rfl ha hR hz h00 dL_law_1010
                                                                    · refine g_case (fun h33 => ?_) (fun h33 => ?_)
                                                                      · refine g_tableIn (off := 972) 1011 dL_law_39 (by rw [h33]; decide) (by rw [h33]; decide) (by rw [h33]; try rfl) (by decide) ?_
                                                                        refine g_aload_n 1 dL_law_1011 rfl rfl ?_
                                                                        refine g_callV_I (mm_X1_thin _ _) rfl zc_0 q843 q844 q845 q107 q846 dv_X1_thin rfl (Nat.le_of_ble_eq_true rfl) (Nat.le_of_ble_eq_true rfl) (Nat.le_of_ble_eq_true rfl) dL_law_1012 fun x79 σ => ?_
                                                                        refine g_aload_n 2 dL_law_1015 rfl rfl ?_
                                                                        refine g_callV_I (mm_X3_thin _ _) rfl zc_2 q1551 q1552 q1553 q109 q1554 dv_X3_thin rfl (Nat.le_of_ble_eq_true rfl) (Nat.le_of_ble_eq_true rfl) (Nat.le_of_ble_eq_true rfl) dL_law_1016 fun x80 σ => ?_
                                                                        refine g_icmp_eq 1491 dL_law_1019 (by decide) ?_ ?_
                                                                        · exact g_jmp (hj6 _ _) rfl
                                                                        · refine g_iconst 0 dL_law_1022 (by decide) ?_
                                                                          exact g_lwr rfl rfl ha hR hz h00 dL_law_1023
                                                                      · refine g_case (fun h34 => ?_) (fun h34 => ?_)
                                                                        · refine g_tableIn (off := 985) 1024 dL_law_39 (by rw [h34]; decide) (by rw [h34]; decide) (by rw [h34]; try rfl) (by decide) ?_
                                                                          refine g_aload_n 1 dL_law_1024 rfl rfl ?_
                                                                          refine g_callV_I (mm_X1_changes _ _) rfl zc_0 q851 q852 q853 q107 q854 dv_X1_changes rfl (Nat.le_of_ble_eq_true rfl) (Nat.le_of_ble_eq_true rfl) (Nat.le_of_ble_eq_true rfl) dL_law_1025 fun x77 σ => ?_
                                                                          refine g_aload_n 2 dL_law_1028 rfl rfl ?_
                                                                          refine g_callV_I (mm_X3_changes _ _) rfl zc_2 q1559 q1560 q1561 q109 q1562 dv_X3_changes rfl (Nat.le_of_ble_eq_true rfl) (Nat.le_of_ble_eq_true rfl) (Nat.le_of_ble_eq_true rfl) dL_law_1029 fun x78 σ => ?_
                                                                          refine g_icmp_eq 1491 dL_law_1032 (by decide) ?_ ?_
                                                                          · exact g_jmp (hj6 _ _) rfl
                                                                          · refine g_iconst 0 dL_law_1035 (by decide) ?_
                                                                            exact g_lwr rfl rfl ha hR hz h00 dL_law_1036
                                                                        · refine g_case (fun h35 => ?_) (fun h35 => ?_)
                                                                          · refine g_tableIn (off := 998) 1037 dL_law_39 (by rw [h35]; decide) (by rw [h35]; decide) (by rw [h35]; try rfl) (by decide) ?_
                                                                            refine g_aload_n 1 dL_law_1037 rfl rfl ?_
                                                                            refine g_callV_I (mm_X1_smoothest _ _) rfl zc_0 q855 q856 q857 q107 q858 dv_X1_smoothest rfl (Nat.le_of_ble_eq_true rfl) (Nat.le_of_ble_eq_true rfl) (Nat.le_of_ble_eq_true rfl) dL_law_1038 fun x75 σ => ?_
                                                                            refine g_aload_n 2 dL_law_1041 rfl rfl ?_
                                                                            refine g_callV_I (mm_X3_smoothest _ _) rfl zc_2 q1563 q1564 q1565 q109 q1566 dv_X3_smoothest rfl (Nat.le_of_ble_eq_true rfl) (Nat.le_of_ble_eq_true rfl) (Nat.le_of_ble_eq_true rfl) dL_law_1042 fun x76 σ => ?_
                                                                            refine g_icmp_eq 1491 dL_law_1045 (by decide) ?_ ?_
                                                                            · exact g_jmp (hj6 _ _) rfl
                                                                            · refine g_iconst 0 dL_law_1048 (by decide) ?_
                                                                              exact g_lwr rfl rfl ha hR hz h00 dL_law_1049
                                                                          · refine g_case (fun h36 => ?_) (fun h36 => ?_)
                                                                            · refine g_tableIn (off := 1011) 1050 dL_law_39 (by rw [h36]; decide) (by rw [h36]; decide) (by rw [h36]; try rfl) (by decide) ?_
                                                                              refine g_aload_n 1 dL_law_1050 rfl rfl ?_
                                                                              refine g_aload_nS 0 dL_law_1051 rfl rfl ?_
                                                                              refine g_iload dL_law_1052 rfl ?_
                                                                              refine g_iconst 1 dL_law_1054 (by decide) ?_
                                                                              refine g_iadd dL_law_1055 ?_
                                                                              refine g_sload hw dL_law_1056 fun x67 => ?_
                                                                              refine g_aload_nS 0 dL_law_1057 rfl rfl ?_
                                                                              refine g_iload dL_law_1058 rfl ?_
                                                                              refine g_iconst 2 dL_law_1060 (by decide) ?_
                                                                              refine g_iadd dL_law_1061 ?_
                                                                              refine g_sload hw dL_law_1062 fun x68 => ?_
                                                                              refine g_aload_nS 0 dL_law_1063 rfl rfl ?_
                                                                              refine g_iload dL_law_1064 rfl ?_
                                                                              refine g_iconst 3 dL_law_1066 (by decide) ?_
                                                                              refine g_iadd dL_law_1067 ?_
                                                                              refine g_sload hw dL_law_1068 fun x69 => ?_
                                                                              refine g_callV_I (mm_X1_meets _ _ _ _ _) rfl zc_0 q863 q864 q865 q107 q866 dv_X1_meets rfl (Nat.le_of_ble_eq_true rfl) (Nat.le_of_ble_eq_true rfl) (Nat.le_of_ble_eq_true rfl) dL_law_1069 fun x70 σ => ?_
                                                                              refine g_aload_n 2 dL_law_1072 rfl rfl ?_
                                                                              refine g_aload_nS 0 dL_law_1073 rfl rfl ?_
                                                                              refine g_iload dL_law_1074 rfl ?_
                                                                              refine g_iconst 1 dL_law_1076 (by decide) ?_
                                                                              refine g_iadd dL_law_1077 ?_
                                                                              refine g_sload hw dL_law_1078 fun x71 => ?_
                                                                              refine g_aload_nS 0 dL_law_1079 rfl rfl ?_
                                                                              refine g_iload dL_law_1080 rfl ?_
                                                                              refine g_iconst 2 dL_law_1082 (by decide) ?_
                                                                              refine g_iadd dL_law_1083 ?_
                                                                              refine g_sload hw dL_law_1084 fun x72 => ?_
                                                                              refine g_aload_nS 0 dL_law_1085 rfl rfl ?_
                                                                              refine g_iload dL_law_1086 rfl ?_
                                                                              refine g_iconst 3 dL_law_1088 (by decide) ?_
                                                                              refine g_iadd dL_law_1089 ?_
                                                                              refine g_sload hw dL_law_1090 fun x73 => ?_
                                                                              refine g_callV_I (mm_X3_meets _ _ _ _ _) rfl zc_2 q1571 q1572 q1573 q109 q1574 dv_X3_meets rfl (Nat.le_of_ble_eq_true rfl) (Nat.le_of_ble_eq_true rfl) (Nat.le_of_ble_eq_true rfl) dL_law_1091 fun x74 σ => ?_
                                                                              refine g_icmp_eq 1491 dL_law_1094 (by decide) ?_ ?_
                                                                              · exact g_jmp (hj6 _ _) rfl
                                                                              · refine g_iconst 0 dL_law_1097 (by decide) ?_
                                                                                exact g_lwr rfl rfl ha hR hz h00 dL_law_1098
                                                                            · refine g_case (fun h37 => ?_) (fun h37 => ?_)
                                                                              · refine g_tableIn (off := 1060) 1099 dL_law_39 (by rw [h37]; decide) (by rw [h37]; decide) (by rw [h37]; try rfl) (by decide) ?_
                                                                                refine g_aload_n 1 dL_law_1099 rfl rfl ?_
                                                                                refine g_aload_nS 0 dL_law_1100 rfl rfl ?_
                                                                                refine g_iload dL_law_1101 rfl ?_
                                                                                refine g_iconst 1 dL_law_1103 (by decide) ?_
                                                                                refine g_iadd dL_law_1104 ?_
                                                                                refine g_sload hw dL_law_1105 fun x59 => ?_
                                                                                refine g_aload_nS 0 dL_law_1106 rfl rfl ?_
                                                                                refine g_iload dL_law_1107 rfl ?_
                                                                                refine g_iconst 2 dL_law_1109 (by decide) ?_
                                                                                refine g_iadd dL_law_1110 ?_
                                                                                refine g_sload hw dL_law_1111 fun x60 => ?_
                                                                                refine g_aload_nS 0 dL_law_1112 rfl rfl ?_
                                                                                refine g_iload dL_law_1113 rfl ?_
                                                                                refine g_iconst 3 dL_law_1115 (by decide) ?_
                                                                                refine g_iadd dL_law_1116 ?_
                                                                                refine g_sload hw dL_law_1117 fun x61 => ?_
                                                                                refine g_callV_I (mm_X1_found _ _ _ _ _) rfl zc_0 q869 q870 q871 q107 q872 dv_X1_found rfl (Nat.le_of_ble_eq_true rfl) (Nat.le_of_ble_eq_true rfl) (Nat.le_of_ble_eq_true rfl) dL_law_1118 fun x62 σ => ?_
                                                                                refine g_aload_n 2 dL_law_1121 rfl rfl ?_
                                                                                refine g_aload_nS 0 dL_law_1122 rfl rfl ?_
                                                                                refine g_iload dL_law_1123 rfl ?_
                                                                                refine g_iconst 1 dL_law_1125 (by decide) ?_
                                                                                refine g_iadd dL_law_1126 ?_
                                                                                refine g_sload hw dL_law_1127 fun x63 => ?_
                                                                                refine g_aload_nS 0 dL_law_1128 rfl rfl ?_
                                                                                refine g_iload dL_law_1129 rfl ?_
                                                                                refine g_iconst 2 dL_law_1131 (by decide) ?_
                                                                                refine g_iadd dL_law_1132 ?_
                                                                                refine g_sload hw dL_law_1133 fun x64 => ?_
                                                                                refine g_aload_nS 0 dL_law_1134 rfl rfl ?_
                                                                                refine g_iload dL_law_1135 rfl ?_
                                                                                refine g_iconst 3 dL_law_1137 (by decide) ?_
                                                                                refine g_iadd dL_law_1138 ?_
                                                                                refine g_sload hw dL_law_1139 fun x65 => ?_
                                                                                refine g_callV_I (mm_X3_found _ _ _ _ _) rfl zc_2 q1575 q1576 q1577 q109 q1578 dv_X3_found rfl (Nat.le_of_ble_eq_true rfl) (Nat.le_of_ble_eq_true rfl) (Nat.le_of_ble_eq_true rfl) dL_law_1140 fun x66 σ => ?_
                                                                                refine g_icmp_eq 1491 dL_law_1143 (by decide) ?_ ?_
                                                                                · exact g_jmp (hj6 _ _) rfl
                                                                                · refine g_iconst 0 dL_law_1146 (by decide) ?_
                                                                                  exact g_lwr rfl rfl ha hR hz h00 dL_law_1147
                                                                              · refine g_case (fun h38 => ?_) (fun h38 => ?_)
                                                                                · refine g_tableIn (off := 1109) 1148 dL_law_39 (by rw [h38]; decide) (by rw [h38]; decide) (by rw [h38]; try rfl) (by decide) ?_
                                                                                  refine g_aload_n 1 dL_law_1148 rfl rfl ?_
                                                                                  refine g_callV_I (mm_X1_forget _ _) rfl zc_0 q873 q874 q875 q107 q876 dv_X1_forget rfl (Nat.le_of_ble_eq_true rfl) (Nat.le_of_ble_eq_true rfl) (Nat.le_of_ble_eq_true rfl) dL_law_1149 fun x57 σ => ?_
                                                                                  refine g_aload_n 2 dL_law_1152 rfl rfl ?_
                                                                                  refine g_callV_I (mm_X3_forget _ _) rfl zc_2 q1579 q1580 q1581 q109 q1582 dv_X3_forget rfl (Nat.le_of_ble_eq_true rfl) (Nat.le_of_ble_eq_true rfl) (Nat.le_of_ble_eq_true rfl) dL_law_1153 fun x58 σ => ?_
                                                                                  refine g_icmp_eq 1491 dL_law_1156 (by decide) ?_ ?_
                                                                                  · exact g_jmp (hj6 _ _) rfl
                                                                                  · refine g_iconst 0 dL_law_1159 (by decide) ?_
                                                                                    exact g_lwr rfl rfl ha hR hz h00 dL_law_1160
                                                                                · refine g_case (fun h39 => ?_) (fun h39 => ?_)
                                                                                  · refine g_tableIn (off := 1122) 1161 dL_law_39 (by rw [h39]; decide) (by rw [h39]; decide) (by rw [h39]; try rfl) (by decide) ?_
                                                                                    refine g_aload_n 1 dL_law_1161 rfl rfl ?_
                                                                                    refine g_callV_I (mm_X1_fits _ _) rfl zc_0 q877 q878 q879 q107 q880 dv_X1_fits rfl (Nat.le_of_ble_eq_true rfl) (Nat.le_of_ble_eq_true rfl) (Nat.le_of_ble_eq_true rfl) dL_law_1162 fun x55 σ => ?_
                                                                                    refine g_aload_n 2 dL_law_1165 rfl rfl ?_
                                                                                    refine g_callV_I (mm_X3_fits _ _) rfl zc_2 q1583 q1584 q1585 q109 q1586 dv_X3_fits rfl (Nat.le_of_ble_eq_true rfl) (Nat.le_of_ble_eq_true rfl) (Nat.le_of_ble_eq_true rfl) dL_law_1166 fun x56 σ => ?_
                                                                                    refine g_icmp_eq 1491 dL_law_1169 (by decide) ?_ ?_
                                                                                    · exact g_jmp (hj6 _ _) rfl
                                                                                    · refine g_iconst 0 dL_law_1172 (by decide) ?_
                                                                                      exact g_lwr rfl rfl ha hR hz h00 dL_law_1173
                                                                                  · refine g_case (fun h40 => ?_) (fun h40 => ?_)
                                                                                    · refine g_tableIn (off := 1135) 1174 dL_law_39 (by rw [h40]; decide) (by rw [h40]; decide) (by rw [h40]; try rfl) (by decide) ?_
                                                                                      refine g_aload_n 1 dL_law_1174 rfl rfl ?_
                                                                                      refine g_aload_nS 0 dL_law_1175 rfl rfl ?_
                                                                                      refine g_iload dL_law_1176 rfl ?_
                                                                                      refine g_iconst 1 dL_law_1178 (by decide) ?_
                                                                                      refine g_iadd dL_law_1179 ?_
                                                                                      refine g_sload hw dL_law_1180 fun x49 => ?_
                                                                                      refine g_aload_nS 0 dL_law_1181 rfl rfl ?_
                                                                                      refine g_iload dL_law_1182 rfl ?_
                                                                                      refine g_iconst 2 dL_law_1184 (by decide) ?_
                                                                                      refine g_iadd dL_law_1185 ?_
                                                                                      refine g_sload hw dL_law_1186 fun x50 => ?_
                                                                                      refine g_callV_I (mm_X1_sure _ _ _ _) rfl zc_0 q889 q890 q891 q107 q892 dv_X1_sure rfl (Nat.le_of_ble_eq_true rfl) (Nat.le_of_ble_eq_true rfl) (Nat.le_of_ble_eq_true rfl) dL_law_1187 fun x51 σ => ?_
                                                                                      refine g_aload_n 2 dL_law_1190 rfl rfl ?_
                                                                                      refine g_aload_nS 0 dL_law_1191 rfl rfl ?_
                                                                                      refine g_iload dL_law_1192 rfl ?_
                                                                                      refine g_iconst 1 dL_law_1194 (by decide) ?_
                                                                                      refine g_iadd dL_law_1195 ?_
                                                                                      refine g_sload hw dL_law_1196 fun x52 => ?_
                                                                                      refine g_aload_nS 0 dL_law_1197 rfl rfl ?_
                                                                                      refine g_iload dL_law_1198 rfl ?_
                                                                                      refine g_iconst 2 dL_law_1200 (by decide) ?_
                                                                                      refine g_iadd dL_law_1201 ?_
                                                                                      refine g_sload hw dL_law_1202 fun x53 => ?_
                                                                                      refine g_callV_I (mm_X3_sure _ _ _ _) rfl zc_2 q1595 q1596 q1597 q109 q1598 dv_X3_sure rfl (Nat.le_of_ble_eq_true rfl) (Nat.le_of_ble_eq_true rfl) (Nat.le_of_ble_eq_true rfl) dL_law_1203 fun x54 σ => ?_
                                                                                      refine g_icmp_eq 1491 dL_law_1206 (by decide) ?_ ?_
                                                                                      · exact g_jmp (hj6 _ _) rfl
                                                                                      · refine g_iconst 0 dL_law_1209 (by decide) ?_
                                                                                        exact g_lwr rfl rfl ha hR hz h00 dL_law_1210
                                                                                    · refine g_case (fun h41 => ?_) (fun h41 => ?_)
                                                                                      · refine g_tableIn (off := 1172) 1211 dL_law_39 (by rw [h41]; decide) (by rw [h41]; decide) (by rw [h41]; try rfl) (by decide) ?_
                                                                                        refine g_aload_n 1 dL_law_1211 rfl rfl ?_
                                                                                        refine g_callV_I (mm_X1_ask _ _) rfl zc_0 q904 q905 q906 q107 q907 dv_X1_ask rfl (Nat.le_of_ble_eq_true rfl) (Nat.le_of_ble_eq_true rfl) (Nat.le_of_ble_eq_true rfl) dL_law_1212 fun x47 σ => ?_
                                                                                        refine g_aload_n 2 dL_law_1215 rfl rfl ?_
                                                                                        refine g_callV_I (mm_X3_ask _ _) rfl zc_2 q1606 q1607 q1608 q109 q1609 dv_X3_ask rfl (Nat.le_of_ble_eq_true rfl) (Nat.le_of_ble_eq_true rfl) (Nat.le_of_ble_eq_true rfl) dL_law_1216 fun x48 σ => ?_
                                                                                        refine g_icmp_eq 1491 dL_law_1219 (by decide) ?_ ?_
                                                                                        · exact g_jmp (hj6 _ _) rfl
                                                                                        · refine g_iconst 0 dL_law_1222 (by decide) ?_
                                                                                          exact g_lwr rfl rfl ha hR hz h00 dL_law_1223
                                                                                      · refine g_case (fun h42 => ?_) (fun h42 => ?_)
                                                                                        · refine g_tableIn (off := 1185) 1224 dL_law_39 (by rw [h42]; decide) (by rw [h42]; decide) (by rw [h42]; try rfl) (by decide) ?_
                                                                                          refine g_aload_n 1 dL_law_1224 rfl rfl ?_
                                                                                          refine g_aload_nS 0 dL_law_1225 rfl rfl ?_
                                                                                          refine g_iload dL_law_1226 rfl ?_
                                                                                          refine g_iconst 1 dL_law_1228 (by decide) ?_
                                                                                          refine g_iadd dL_law_1229 ?_
                                                                                          refine g_sload hw dL_law_1230 fun x43 => ?_
                                                                                          refine g_callV_I (mm_X1_held _ _ _) rfl zc_0 q915 q916 q917 q107 q918 dv_X1_held rfl (Nat.le_of_ble_eq_true rfl) (Nat.le_of_ble_eq_true rfl) (Nat.le_of_ble_eq_true rfl) dL_law_1231 fun x44 σ => ?_
                                                                                          refine g_aload_n 2 dL_law_1234 rfl rfl ?_
                                                                                          refine g_aload_nS 0 dL_law_1235 rfl rfl ?_
                                                                                          refine g_iload dL_law_1236 rfl ?_
                                                                                          refine g_iconst 1 dL_law_1238 (by decide) ?_
                                                                                          refine g_iadd dL_law_1239 ?_
                                                                                          refine g_sload hw dL_law_1240 fun x45 => ?_
                                                                                          refine g_callV_I (mm_X3_held _ _ _) rfl zc_2 q1610 q1611 q1612 q109 q1613 dv_X3_held rfl (Nat.le_of_ble_eq_true rfl) (Nat.le_of_ble_eq_true rfl) (Nat.le_of_ble_eq_true rfl) dL_law_1241 fun x46 σ => ?_
                                                                                          refine g_icmp_eq 1491 dL_law_1244 (by decide) ?_ ?_
                                                                                          · exact g_jmp (hj6 _ _) rfl
                                                                                          · refine g_iconst 0 dL_law_1247 (by decide) ?_
                                                                                            exact g_lwr rfl rfl ha hR hz h00 dL_law_1248
                                                                                        · refine g_case (fun h43 => ?_) (fun h43 => ?_)
                                                                                          · refine g_tableIn (off := 1210) 1249 dL_law_39 (by rw [h43]; decide) (by rw [h43]; decide) (by rw [h43]; try rfl) (by decide) ?_
                                                                                            refine g_aload_n 1 dL_law_1249 rfl rfl ?_
                                                                                            refine g_aload_nS 0 dL_law_1250 rfl rfl ?_
                                                                                            refine g_iload dL_law_1251 rfl ?_
                                                                                            refine g_iconst 1 dL_law_1253 (by decide) ?_
                                                                                            refine g_iadd dL_law_1254 ?_
                                                                                            refine g_sload hw dL_law_1255 fun x39 => ?_
                                                                                            refine g_callV_I (mm_X1_keystone _ _ _) rfl zc_0 q927 q928 q929 q107 q930 dv_X1_keystone rfl (Nat.le_of_ble_eq_true rfl) (Nat.le_of_ble_eq_true rfl) (Nat.le_of_ble_eq_true rfl) dL_law_1256 fun x40 σ => ?_
                                                                                            refine g_aload_n 2 dL_law_1259 rfl rfl ?_
                                                                                            refine g_aload_nS 0 dL_law_1260 rfl rfl ?_
                                                                                            refine g_iload dL_law_1261 rfl ?_
                                                                                            refine g_iconst 1 dL_law_1263 (by decide) ?_
                                                                                            refine g_iadd dL_law_1264 ?_
                                                                                            refine g_sload hw dL_law_1265 fun x41 => ?_
                                                                                            refine g_callV_I (mm_X3_keystone _ _ _) rfl zc_2 q1626 q1627 q1628 q109 q1629 dv_X3_keystone rfl (Nat.le_of_ble_eq_true rfl) (Nat.le_of_ble_eq_true rfl) (Nat.le_of_ble_eq_true rfl) dL_law_1266 fun x42 σ => ?_
                                                                                            refine g_icmp_eq 1491 dL_law_1269 (by decide) ?_ ?_
                                                                                            · exact g_jmp (hj6 _ _) rfl
                                                                                            · refine g_iconst 0 dL_law_1272 (by decide) ?_
                                                                                              exact g_lwr rfl rfl ha hR hz h00 dL_law_1273
                                                                                          · refine g_case (fun h44 => ?_) (fun h44 => ?_)
                                                                                            · refine g_tableIn (off := 1235) 1274 dL_law_39 (by rw [h44]; decide) (by rw [h44]; decide) (by rw [h44]; try rfl) (by decide) ?_
                                                                                              refine g_aload_n 1 dL_law_1274 rfl rfl ?_
                                                                                              refine g_aload_nS 0 dL_law_1275 rfl rfl ?_
                                                                                              refine g_iload dL_law_1276 rfl ?_
                                                                                              refine g_iconst 1 dL_law_1278 (by decide) ?_
                                                                                              refine g_iadd dL_law_1279 ?_
                                                                                              refine g_sload hw dL_law_1280 fun x33 => ?_
                                                                                              refine g_aload_nS 0 dL_law_1281 rfl rfl ?_
                                                                                              refine g_iload dL_law_1282 rfl ?_
                                                                                              refine g_iconst 2 dL_law_1284 (by decide) ?_
                                                                                              refine g_iadd dL_law_1285 ?_
                                                                                              refine g_sload hw dL_law_1286 fun x34 => ?_
                                                                                              refine g_callV_I (mm_X1_rests _ _ _ _) rfl zc_0 q931 q932 q933 q107 q934 dv_X1_rests rfl (Nat.le_of_ble_eq_true rfl) (Nat.le_of_ble_eq_true rfl) (Nat.le_of_ble_eq_true rfl) dL_law_1287 fun x35 σ => ?_
                                                                                              refine g_aload_n 2 dL_law_1290 rfl rfl ?_
                                                                                              refine g_aload_nS 0 dL_law_1291 rfl rfl ?_
                                                                                              refine g_iload dL_law_1292 rfl ?_
                                                                                              refine g_iconst 1 dL_law_1294 (by decide) ?_
                                                                                              refine g_iadd dL_law_1295 ?_
                                                                                              refine g_sload hw dL_law_1296 fun x36 => ?_
                                                                                              refine g_aload_nS 0 dL_law_1297 rfl rfl ?_
                                                                                              refine g_iload dL_law_1298 rfl ?_
                                                                                              refine g_iconst 2 dL_law_1300 (by decide) ?_
                                                                                              refine g_iadd dL_law_1301 ?_
                                                                                              refine g_sload hw dL_law_1302 fun x37 => ?_
                                                                                              refine g_callV_I (mm_X3_rests _ _ _ _) rfl zc_2 q1630 q1631 q1632 q109 q1633 dv_X3_rests rfl (Nat.le_of_ble_eq_true rfl) (Nat.le_of_ble_eq_true rfl) (Nat.le_of_ble_eq_true rfl) dL_law_1303 fun x38 σ => ?_
                                                                                              refine g_icmp_eq 1491 dL_law_1306 (by decide) ?_ ?_
                                                                                              · exact g_jmp (hj6 _ _) rfl
                                                                                              · refine g_iconst 0 dL_law_1309 (by decide) ?_
                                                                                                exact g_lwr rfl rfl ha hR hz h00 dL_law_1310
                                                                                            · refine g_case (fun h45 => ?_) (fun h45 => ?_)
                                                                                              · refine g_tableIn (off := 1272) 1311 dL_law_39 (by rw [h45]; decide) (by rw [h45]; decide) (by rw [h45]; try rfl) (by decide) ?_
                                                                                                refine g_aload_n 1 dL_law_1311 rfl rfl ?_
                                                                                                refine g_callV_I (mm_X1_law _ _) rfl zc_0 q938 q939 q940 q107 q941 dv_X1_law rfl (Nat.le_of_ble_eq_true rfl) (Nat.le_of_ble_eq_true rfl) (Nat.le_of_ble_eq_true rfl) dL_law_1312 fun x31 σ => ?_
                                                                                                refine g_aload_n 2 dL_law_1315 rfl rfl ?_
                                                                                                refine g_callV_I (mm_X3_law _ _) rfl zc_2 q1643 q1644 q1645 q109 q1646 dv_X3_law rfl (Nat.le_of_ble_eq_true rfl) (Nat.le_of_ble_eq_true rfl) (Nat.le_of_ble_eq_true rfl) dL_law_1316 fun x32 σ => ?_
                                                                                                refine g_icmp_eq 1491 dL_law_1319 (by decide) ?_ ?_
                                                                                                · exact g_jmp (hj6 _ _) rfl
                                                                                                · refine g_iconst 0 dL_law_1322 (by decide) ?_
                                                                                                  exact g_lwr rfl rfl ha hR hz h00 dL_law_1323
                                                                                              · refine g_case (fun h46 => ?_) (fun h46 => ?_)
                                                                                                · refine g_tableIn (off := 1285) 1324 dL_law_39 (by rw [h46]; decide) (by rw [h46]; decide) (by rw [h46]; try rfl) (by decide) ?_
                                                                                                  refine g_aload_n 1 dL_law_1324 rfl rfl ?_
                                                                                                  refine g_aload_nS 0 dL_law_1325 rfl rfl ?_
                                                                                                  refine g_iload dL_law_1326 rfl ?_
                                                                                                  refine g_iconst 1 dL_law_1328 (by decide) ?_
                                                                                                  refine g_iadd dL_law_1329 ?_
                                                                                                  refine g_sload hw dL_law_1330 fun x25 => ?_
                                                                                                  refine g_aload_nS 0 dL_law_1331 rfl rfl ?_
                                                                                                  refine g_iload dL_law_1332 rfl ?_
                                                                                                  refine g_iconst 2 dL_law_1334 (by decide) ?_
                                                                                                  refine g_iadd dL_law_1335 ?_
                                                                                                  refine g_sload hw dL_law_1336 fun x26 => ?_
                                                                                                  refine g_callV_I (mm_X1_years _ _ _ _) rfl zc_0 q946 q947 q948 q107 q949 dv_X1_years rfl (Nat.le_of_ble_eq_true rfl) (Nat.le_of_ble_eq_true rfl) (Nat.le_of_ble_eq_true rfl) dL_law_1337 fun x27 σ => ?_
                                                                                                  refine g_aload_n 2 dL_law_1340 rfl rfl ?_
                                                                                                  refine g_aload_nS 0 dL_law_1341 rfl rfl ?_
                                                                                                  refine g_iload dL_law_1342 rfl ?_
                                                                                                  refine g_iconst 1 dL_law_1344 (by decide) ?_
                                                                                                  refine g_iadd dL_law_1345 ?_
                                                                                                  refine g_sload hw dL_law_1346 fun x28 => ?_
                                                                                                  refine g_aload_nS 0 dL_law_1347 rfl rfl ?_
                                                                                                  refine g_iload dL_law_1348 rfl ?_
                                                                                                  refine g_iconst 2 dL_law_1350 (by decide) ?_
                                                                                                  refine g_iadd dL_law_1351 ?_
                                                                                                  refine g_sload hw dL_law_1352 fun x29 => ?_
                                                                                                  refine g_callV_I (mm_X3_years _ _ _ _) rfl zc_2 q1651 q1652 q1653 q109 q1654 dv_X3_years rfl (Nat.le_of_ble_eq_true rfl) (Nat.le_of_ble_eq_true rfl) (Nat.le_of_ble_eq_true rfl) dL_law_1353 fun x30 σ => ?_
                                                                                                  refine g_icmp_eq 1491 dL_law_1356 (by decide) ?_ ?_
                                                                                                  · exact g_jmp (hj6 _ _) rfl
                                                                                                  · refine g_iconst 0 dL_law_1359 (by decide) ?_
                                                                                                    exact g_lwr rfl rfl ha hR hz h00 dL_law_1360
                                                                                                · refine g_case (fun h47 => ?_) (fun h47 => ?_)
                                                                                                  · refine g_tableIn (off := 1322) 1361 dL_law_39 (by rw [h47]; decide) (by rw [h47]; decide) (by rw [h47]; try rfl) (by decide) ?_
                                                                                                    refine g_aload_n 1 dL_law_1361 rfl rfl ?_
                                                                                                    refine g_aload_nS 0 dL_law_1362 rfl rfl ?_
                                                                                                    refine g_iload dL_law_1363 rfl ?_
                                                                                                    refine g_iconst 1 dL_law_1365 (by decide) ?_
                                                                                                    refine g_iadd dL_law_1366 ?_
                                                                                                    refine g_sload hw dL_law_1367 fun x21 => ?_
                                                                                                    refine g_callV_I (mm_X1_keep _ _ _) rfl zc_0 q955 q956 q957 q107 q958 dv_X1_keep rfl (Nat.le_of_ble_eq_true rfl) (Nat.le_of_ble_eq_true rfl) (Nat.le_of_ble_eq_true rfl) dL_law_1368 fun x22 σ => ?_
                                                                                                    refine g_aload_n 2 dL_law_1371 rfl rfl ?_
                                                                                                    refine g_aload_nS 0 dL_law_1372 rfl rfl ?_
                                                                                                    refine g_iload dL_law_1373 rfl ?_
                                                                                                    refine g_iconst 1 dL_law_1375 (by decide) ?_
                                                                                                    refine g_iadd dL_law_1376 ?_
                                                                                                    refine g_sload hw dL_law_1377 fun x23 => ?_
                                                                                                    refine g_callV_I (mm_X3_keep _ _ _) rfl zc_2 q1660 q1661 q1662 q109 q1663 dv_X3_keep rfl (Nat.le_of_ble_eq_true rfl) (Nat.le_of_ble_eq_true rfl) (Nat.le_of_ble_eq_true rfl) dL_law_1378 fun x24 σ => ?_
                                                                                                    refine g_icmp_eq 1491 dL_law_1381 (by decide) ?_ ?_
                                                                                                    · exact g_jmp (hj6 _ _) rfl
                                                                                                    · refine g_iconst 0 dL_law_1384 (by decide) ?_
                                                                                                      exact g_lwr rfl rfl ha hR hz h00 dL_law_1385
                                                                                                  · refine g_case (fun h48 => ?_) (fun h48 => ?_)
                                                                                                    · refine g_tableIn (off := 1347) 1386 dL_law_39 (by rw [h48]; decide) (by rw [h48]; decide) (by rw [h48]; try rfl) (by decide) ?_
                                                                                                      refine g_aload_n 1 dL_law_1386 rfl rfl ?_
                                                                                                      refine g_aload_nS 0 dL_law_1387 rfl rfl ?_
                                                                                                      refine g_iload dL_law_1388 rfl ?_
                                                                                                      refine g_iconst 1 dL_law_1390 (by decide) ?_
                                                                                                      refine g_iadd dL_law_1391 ?_
                                                                                                      refine g_sload hw dL_law_1392 fun x17 => ?_
                                                                                                      refine g_callV_I (mm_X1_again _ _ _) rfl zc_0 q959 q960 q961 q107 q962 dv_X1_again rfl (Nat.le_of_ble_eq_true rfl) (Nat.le_of_ble_eq_true rfl) (Nat.le_of_ble_eq_true rfl) dL_law_1393 fun x18 σ => ?_
                                                                                                      refine g_aload_n 2 dL_law_1396 rfl rfl ?_
                                                                                                      refine g_aload_nS 0 dL_law_1397 rfl rfl ?_
                                                                                                      refine g_iload dL_law_1398 rfl ?_
                                                                                                      refine g_iconst 1 dL_law_1400 (by decide) ?_
                                                                                                      refine g_iadd dL_law_1401 ?_
                                                                                                      refine g_sload hw dL_law_1402 fun x19 => ?_
                                                                                                      refine g_callV_I (mm_X3_again _ _ _) rfl zc_2 q1664 q1665 q1666 q109 q1667 dv_X3_again rfl (Nat.le_of_ble_eq_true rfl) (Nat.le_of_ble_eq_true rfl) (Nat.le_of_ble_eq_true rfl) dL_law_1403 fun x20 σ => ?_
                                                                                                      refine g_icmp_eq 1491 dL_law_1406 (by decide) ?_ ?_
                                                                                                      · exact g_jmp (hj6 _ _) rfl
                                                                                                      · refine g_iconst 0 dL_law_1409 (by decide) ?_
                                                                                                        exact g_lwr rfl rfl ha hR hz h00 dL_law_1410
                                                                                                    · refine g_case (fun h49 => ?_) (fun h49 => ?_)
                                                                                                      · refine g_tableIn (off := 1372) 1411 dL_law_39 (by rw [h49]; decide) (by rw [h49]; decide) (by rw [h49]; try rfl) (by decide) ?_
                                                                                                        refine g_aload_n 1 dL_law_1411 rfl rfl ?_
                                                                                                        refine g_aload_nS 0 dL_law_1412 rfl rfl ?_
                                                                                                        refine g_iload dL_law_1413 rfl ?_
                                                                                                        refine g_iconst 1 dL_law_1415 (by decide) ?_
                                                                                                        refine g_iadd dL_law_1416 ?_
                                                                                                        refine g_sload hw dL_law_1417 fun x13 => ?_
                                                                                                        refine g_callV_I (mm_X1_count _ _ _) rfl zc_0 q963 q964 q965 q107 q966 dv_X1_count rfl (Nat.le_of_ble_eq_true rfl) (Nat.le_of_ble_eq_true rfl) (Nat.le_of_ble_eq_true rfl) dL_law_1418 fun x14 σ => ?_
                                                                                                        refine g_aload_n 2 dL_law_1421 rfl rfl ?_
                                                                                                        refine g_aload_nS 0 dL_law_1422 rfl rfl ?_
                                                                                                        refine g_iload dL_law_1423 rfl ?_
                                                                                                        refine g_iconst 1 dL_law_1425 (by decide) ?_
                                                                                                        refine g_iadd dL_law_1426 ?_
                                                                                                        refine g_sload hw dL_law_1427 fun x15 => ?_
                                                                                                        refine g_callV_I (mm_X3_count _ _ _) rfl zc_2 q1668 q1669 q1670 q109 q1671 dv_X3_count rfl (Nat.le_of_ble_eq_true rfl) (Nat.le_of_ble_eq_true rfl) (Nat.le_of_ble_eq_true rfl) dL_law_1428 fun x16 σ => ?_
                                                                                                        refine g_icmp_eq 1491 dL_law_1431 (by decide) ?_ ?_
                                                                                                        · exact g_jmp (hj6 _ _) rfl
                                                                                                        · refine g_iconst 0 dL_law_1434 (by decide) ?_
                                                                                                          exact g_lwr rfl rfl ha hR hz h00 dL_law_1435
                                                                                                      · refine g_case (fun h50 => ?_) (fun h50 => ?_)
                                                                                                        · refine g_tableIn (off := 1397) 1436 dL_law_39 (by rw [h50]; decide) (by rw [h50]; decide) (by rw [h50]; try rfl) (by decide) ?_
                                                                                                          refine g_aload_n 1 dL_law_1436 rfl rfl ?_
                                                                                                          refine g_aload_nS 0 dL_law_1437 rfl rfl ?_
                                                                                                          refine g_iload dL_law_1438 rfl ?_
                                                                                                          refine g_iconst 1 dL_law_1440 (by decide) ?_
                                                                                                          refine g_iadd dL_law_1441 ?_
                                                                                                          refine g_sload hw dL_law_1442 fun x7 => ?_
                                                                                                          refine g_aload_n 3 dL_law_1443 rfl rfl ?_
                                                                                                          refine g_callSW_I (mm_X0_row _ _ _ _) rfl q1042 q1043 q106 q1044 dd_X0_row rfl (Nat.le_of_ble_eq_true rfl) (Nat.le_of_ble_eq_true rfl) (Nat.le_of_ble_eq_true rfl) dL_law_1444 fun x8 σ => ?_
                                                                                                          refine g_istore dL_law_1447 (lt_b rfl) ?_
                                                                                                          refine g_aload_n 2 dL_law_1449 rfl rfl ?_
                                                                                                          refine g_aload_nS 0 dL_law_1450 rfl rfl ?_
                                                                                                          refine g_iload dL_law_1451 rfl ?_
                                                                                                          refine g_iconst 1 dL_law_1453 (by decide) ?_
                                                                                                          refine g_iadd dL_law_1454 ?_
                                                                                                          refine g_sload hw dL_law_1455 fun x9 => ?_
                                                                                                          refine g_callV_L (mm_X3_row _ _ _) rfl zc_2 q1672 q1673 q1674 q109 q1675 dv_X3_row rfl (Nat.le_of_ble_eq_true rfl) (Nat.le_of_ble_eq_true rfl) (Nat.le_of_ble_eq_true rfl) dL_law_1456 fun x10 σ => ?_
                                                                                                          refine g_lstore dL_law_1459 (lt_b rfl) ?_
                                                                                                          refine g_aload_n 2 dL_law_1461 rfl rfl ?_
                                                                                                          refine g_callV_I (mm_X3_thrown _ _) rfl zc_2 q1211 q1212 q1213 q109 q1214 dv_X3_thrown rfl (Nat.le_of_ble_eq_true rfl) (Nat.le_of_ble_eq_true rfl) (Nat.le_of_ble_eq_true rfl) dL_law_1462 fun x11 σ => ?_
                                                                                                          refine g_iload dL_law_1465 rfl ?_
                                                                                                          refine g_icmp_eq 1472 dL_law_1467 (by decide) ?_ ?_
                                                                                                          · refine g_iload dL_law_1472 rfl ?_
                                                                                                            refine g_if_ne 1488 dL_law_1474 (by decide) ?_ ?_
                                                                                                            · refine g_goto 1491 dL_law_1488 (by decide) ?_
                                                                                                              exact g_jmp (hj6 _ _) rfl
                                                                                                            · refine g_aload_n 3 dL_law_1477 rfl rfl ?_
                                                                                                              refine g_iconst 0 dL_law_1478 (by decide) ?_
                                                                                                              refine g_laload dL_law_1479 fun x12 => ?_
                                                                                                              refine g_lload dL_law_1480 rfl ?_
                                                                                                              refine g_lcmp dL_law_1482 ?_
                                                                                                              refine g_if_eq 1488 dL_law_1483 (by decide) ?_ ?_
                                                                                                              · refine g_goto 1491 dL_law_1488 (by decide) ?_
                                                                                                                exact g_jmp (hj6 _ _) rfl
                                                                                                              · refine g_iconst 0 dL_law_1486 (by decide) ?_
                                                                                                                exact g_lwr rfl rfl ha hR hz h00 dL_law_1487
                                                                                                          · refine g_iconst 0 dL_law_1470 (by decide) ?_
                                                                                                            exact g_lwr rfl rfl ha hR hz h00 dL_law_1471
                                                                                                        · refine g_tableOut 1491 dL_law_39 (by have := lv_neT h1 (a := 0) (by decide); have := lv_neT h2 (a := 1) (by decide); have := lv_neT h3 (a := 2) (by decide); have := lv_neT h4 (a := 3) (by decide); have := lv_neT h5 (a := 4) (by decide); have := lv_neT h6 (a := 5) (by decide); have := lv_neT h7 (a := 6) (by decide); have := lv_neT h8 (a := 7) (by decide); have := lv_neT h9 (a := 8) (by decide); have := lv_neT h10 (a := 9) (by decide); have := lv_neT h11 (a := 10) (by decide); have := lv_neT h12 (a := 11) (by decide); have := lv_neT h13 (a := 12) (by decide); have := lv_neT h14 (a := 13) (by decide); have := lv_neT h15 (a := 14) (by decide); have := lv_neT h16 (a := 15) (by decide); have := lv_neT h17 (a := 16) (by decide); have := lv_neT h18 (a := 17) (by decide); have := lv_neT h19 (a := 18) (by decide); have := lv_neT h20 (a := 19) (by decide); have := lv_neT h21 (a := 20) (by decide); have := lv_neT h22 (a := 21) (by decide); have := lv_neT h23 (a := 22) (by decide); have := lv_neT h24 (a := 23) (by decide); have := lv_neT h25 (a := 24) (by decide); have := lv_neT h26 (a := 25) (by decide); have := lv_neT h27 (a := 26) (by decide); have := lv_neT h28 (a := 27) (by decide); have := lv_neT h29 (a := 28) (by decide); have := lv_neT h30 (a := 29) (by decide); have := lv_neT h31 (a := 30) (by decide); have := lv_neT h32 (a := 31) (by decide); have := lv_neT h33 (a := 32) (by decide); have := lv_neT h34 (a := 33) (by decide); have := lv_neT h35 (a := 34) (by decide); have := lv_neT h36 (a := 35) (by decide); have := lv_neT h37 (a := 36) (by decide); have := lv_neT h38 (a := 37) (by decide); have := lv_neT h39 (a := 38) (by decide); have := lv_neT h40 (a := 39) (by decide); have := lv_neT h41 (a := 40) (by decide); have := lv_neT h42 (a := 41) (by decide); have := lv_neT h43 (a := 42) (by decide); have := lv_neT h44 (a := 43) (by decide); have := lv_neT h45 (a := 44) (by decide); have := lv_neT h46 (a := 45) (by decide); have := lv_neT h47 (a := 46) (by decide); have := lv_neT h48 (a := 47) (by decide); have := lv_neT h49 (a := 48) (by decide); have := lv_neT h50 (a := 49) (by decide); omega) (by decide) ?_
                                                                                                          exact g_jmp (hj6 _ _) rfl
theorem gg_L_law (X : Mx) (L : Nat) (xs : Nat → Int32) (hw : LwX X L xs) (b : Nat) (ha : xa X = #[Value.ref b]) (hR : xR X = room_1) (hz : (Jvm.Pilot.CRockingHorseLaw_law_r1955_07140d.xs X).heap.size = (xY X).1) (h00 : hn (x0 X) = 0 ∧ hu (x0 X) = 0) (nm : String) (σ : Hp) : GG X (mi_L_law nm) (QL X) 0 [(0, vS 16)] [] σ (f_L_law L xs σ) := by
  unfold f_L_law
  refine g_new zc_0 tcok_0 q127 q128 q107 dL_law_0 fun y1 σ => ?_
  refine g_dup dL_law_3 rfl ?_
  refine g_callI_V (mm_X1_init _ _) rfl rfl q129 q130 q107 q131 rfl dd_X1_init rfl (Nat.le_of_ble_eq_true rfl) (Nat.le_of_ble_eq_true rfl) (Nat.le_of_ble_eq_true rfl) dL_law_4 fun _ σ => ?_
  refine g_astore_n 1 dL_law_7 rfl (lt_b rfl) ?_
  refine g_new zc_2 tcok_2 q1049 q1050 q109 dL_law_8 fun y2 σ => ?_
  refine g_dup dL_law_11 rfl ?_
  refine g_callI_V (mm_X3_init _ _) rfl rfl q1051 q1052 q109 q1053 rfl dd_X3_init rfl (Nat.le_of_ble_eq_true rfl) (Nat.le_of_ble_eq_true rfl) (Nat.le_of_ble_eq_true rfl) dL_law_12 fun _ σ => ?_
  refine g_astore_n 2 dL_law_15 rfl (lt_b rfl) ?_
  refine g_iconst 1 dL_law_16 (by decide) ?_
  refine g_newarray_long dL_law_17 fun y3 σ => ?_
  refine g_astore_n 3 dL_law_19 rfl (lt_b rfl) ?_
  refine g_iconst 0 dL_law_20 (by decide) ?_
  refine g_istore dL_law_21 (lt_b rfl) ?_
  refine g_jmp (ok_L_law_b23 X L xs hw b ha hR hz h00 nm y1 y2 y3 ?_ _ _ _) rfl
  · intro a199 σ
    refine g_iconst 1 dL_law_1497 (by decide) ?_
    exact g_lwr rfl rfl ha hR hz h00 dL_law_1498
