set_option maxRecDepth 100000
abbrev mi_X1_common (n : Nat) : Mi := (cX1_common, 4, "RockingHorse", 0 + n, some .long, "common")
theorem dd_X1_common : yX1_common.cls ≠ "java/lang/invoke/MethodHandle" ∧ yX1_common.cls ≠ "java/lang/invoke/VarHandle" ∧ (parseMethodDescriptor yX1_common.desc).map (fun d => d.parameters.length) = some 2 := by decide +kernel
/-! RockingHorse.common(JJ)J -/
def fb_X1_common (rc0 : Int64 → Int64 → Hp → Option (Int64 × Hp)) (v0 : Int64) (v2 : Int64) (σ : Hp) : Option (Int64 × Hp) :=
  if (lg_cmp v2 0) = 0 then
    some (v0, σ)
  else
    ldv v2 <|
    bnd (rc0 v2 (lrm v0 v2) σ) fun x1 σ =>
    some (x1, σ)
theorem mb_X1_common (n : Nat) (rc0 : Int64 → Int64 → Hp → Option (Int64 × Hp)) (ih0 : ∀ (v0 : Int64) (v2 : Int64) (σ : Hp), MM yX1_common (mi_X1_common n) rL [vL v0, vL v2] σ (rc0 v0 v2 σ)) : ∀ (v0 : Int64) (v2 : Int64) (σ : Hp), MM yX1_common (mi_X1_common (n + 1)) rL [vL v0, vL v2] σ (fb_X1_common rc0 v0 v2 σ) := by
  intro v0 v2 σ
  refine mm_of (by decide +kernel) rfl rfl (Nat.le_of_ble_eq_true rfl) ?_
  intro X
  unfold fb_X1_common
  refine g_lload_n 2 dX1_common_0 rfl rfl ?_
  refine g_lconst 0 dX1_common_1 (by decide) ?_
  refine g_lcmp dX1_common_2 ?_
  refine g_if_ne 10 dX1_common_3 (by decide) ?_ ?_
  · refine g_lload_n 2 dX1_common_10 rfl rfl ?_
    refine g_lload_n 0 dX1_common_11 rfl rfl ?_
    refine g_lload_n 2 dX1_common_12 rfl rfl ?_
    refine g_lrem dX1_common_13 ?_
    refine g_callS_L (ih0 _ _ _) rfl q901 q902 q107 q903 dd_X1_common rfl (Nat.le_refl _) (Nat.le_of_ble_eq_true rfl) (Nat.le_of_ble_eq_true rfl) dX1_common_14 fun x1 σ => ?_
    exact g_lret rfl dX1_common_17
  · refine g_lload_n 0 dX1_common_6 rfl rfl ?_
    refine g_goto 17 dX1_common_7 (by decide) ?_
    exact g_lret rfl dX1_common_17
def g_common1 : Nat → (Int64 → Int64 → Hp → Option (Int64 × Hp))
  | 0 => fun _ _ _ => none
  | n + 1 => fb_X1_common (g_common1 n)
def f_X1_common (n : Nat) (v0 : Int64) (v2 : Int64) (σ : Hp) : Option (Int64 × Hp) := (g_common1 n) v0 v2 σ
theorem gm_common1 : ∀ n : Nat, (∀ (v0 : Int64) (v2 : Int64) (σ : Hp), MM yX1_common (mi_X1_common n) rL [vL v0, vL v2] σ (f_X1_common n v0 v2 σ)) := by
  intro n
  induction n with
  | zero => exact ((fun _ _ σ r σf h => (nomatch (show (none : Option (Int64 × Hp)) = some (r, σf) from h))))
  | succ n ih => exact (mb_X1_common n _ ih)
theorem mm_X1_common (n : Nat) (v0 : Int64) (v2 : Int64) (σ : Hp) : MM yX1_common (mi_X1_common n) rL [vL v0, vL v2] σ (f_X1_common n v0 v2 σ) := (gm_common1 n) v0 v2 σ
abbrev mi_X3_common (n : Nat) : Mi := (cX3_common, 4, "RockingHorseModel", 0 + n, some .long, "common")
theorem dd_X3_common : yX3_common.cls ≠ "java/lang/invoke/MethodHandle" ∧ yX3_common.cls ≠ "java/lang/invoke/VarHandle" ∧ (parseMethodDescriptor yX3_common.desc).map (fun d => d.parameters.length) = some 2 := by decide +kernel
/-! RockingHorseModel.common(JJ)J -/
def fb_X3_common (rc0 : Int64 → Int64 → Hp → Option (Int64 × Hp)) (v0 : Int64) (v2 : Int64) (σ : Hp) : Option (Int64 × Hp) :=
  if (lg_cmp v2 0) = 0 then
    some (v0, σ)
  else
    ldv v2 <|
    bnd (rc0 v2 (lrm v0 v2) σ) fun x1 σ =>
    some (x1, σ)
theorem mb_X3_common (n : Nat) (rc0 : Int64 → Int64 → Hp → Option (Int64 × Hp)) (ih0 : ∀ (v0 : Int64) (v2 : Int64) (σ : Hp), MM yX3_common (mi_X3_common n) rL [vL v0, vL v2] σ (rc0 v0 v2 σ)) : ∀ (v0 : Int64) (v2 : Int64) (σ : Hp), MM yX3_common (mi_X3_common (n + 1)) rL [vL v0, vL v2] σ (fb_X3_common rc0 v0 v2 σ) := by
  intro v0 v2 σ
  refine mm_of (by decide +kernel) rfl rfl (Nat.le_of_ble_eq_true rfl) ?_
  intro X
  unfold fb_X3_common
  refine g_lload_n 2 dX3_common_0 rfl rfl ?_
  refine g_lconst 0 dX3_common_1 (by decide) ?_
  refine g_lcmp dX3_common_2 ?_
  refine g_if_ne 10 dX3_common_3 (by decide) ?_ ?_
  · refine g_lload_n 2 dX3_common_10 rfl rfl ?_
    refine g_lload_n 0 dX3_common_11 rfl rfl ?_
    refine g_lload_n 2 dX3_common_12 rfl rfl ?_
    refine g_lrem dX3_common_13 ?_
    refine g_callS_L (ih0 _ _ _) rfl q1603 q1604 q109 q1605 dd_X3_common rfl (Nat.le_refl _) (Nat.le_of_ble_eq_true rfl) (Nat.le_of_ble_eq_true rfl) dX3_common_14 fun x1 σ => ?_
    exact g_lret rfl dX3_common_17
  · refine g_lload_n 0 dX3_common_6 rfl rfl ?_
    refine g_goto 17 dX3_common_7 (by decide) ?_
    exact g_lret rfl dX3_common_17
def g_common3 : Nat → (Int64 → Int64 → Hp → Option (Int64 × Hp))
  | 0 => fun _ _ _ => none
  | n + 1 => fb_X3_common (g_common3 n)
def f_X3_common (n : Nat) (v0 : Int64) (v2 : Int64) (σ : Hp) : Option (Int64 × Hp) := (g_common3 n) v0 v2 σ
theorem gm_common3 : ∀ n : Nat, (∀ (v0 : Int64) (v2 : Int64) (σ : Hp), MM yX3_common (mi_X3_common n) rL [vL v0, vL v2] σ (f_X3_common n v0 v2 σ)) := by
  intro n
  induction n with
  | zero => exact ((fun _ _ σ r σf h => (nomatch (show (none : Option (Int64 × Hp)) = some (r, σf) from h))))
  | succ n ih => exact (mb_X3_common n _ ih)
theorem mm_X3_common (n : Nat) (v0 : Int64) (v2 : Int64) (σ : Hp) : MM yX3_common (mi_X3_common n) rL [vL v0, vL v2] σ (f_X3_common n v0 v2 σ) := (gm_common3 n) v0 v2 σ
/-! RockingHorse.sign(I)I -/
abbrev mi_X1_sign : Mi := (cX1_sign, 3, "RockingHorse", 0, some .int, "sign")
def f_X1_sign_b13 (v0 : Option Nat) (v1 : Int32) (k0 : Unit → Hp → Option (Int32 × Hp)) (ag : Int32 → Hp → Option (Int32 × Hp)) (a : Int32) (σ : Hp) : Option (Int32 × Hp) :=
  if 4 ≤ a then
    k0 () σ
  else
    gR 0 9 σ v0 fun y2 =>
    gI 0 10 σ v0 fun x3 =>
    sI σ y2 (x3 + a) ((shr v1 (24 - (8 * a))) &&& 255) fun σ =>
    ag (a + 1) σ
def f_X1_sign (v0 : Option Nat) (v1 : Int32) (σ : Hp) : Option (Int32 × Hp) :=
  gI 0 10 σ v0 fun x1 =>
  if x1 ≤ 76 then
    lp 2000 (f_X1_sign_b13 v0 v1 (fun (a4 : Unit) σ =>
        gI 0 10 σ v0 fun x5 =>
        pI 0 0 10 σ v0 (x5 + 4) fun σ =>
        gI 0 10 σ v0 fun x6 =>
        some (x6, σ))) 0 σ
  else
    some ((-1), σ)
theorem ok_X1_sign_b13 (X : Mx) (v0 : Option Nat) (v1 : Int32) {k0 : Unit → Hp → Option (Int32 × Hp)} (hk0 : ∀ (a : Unit) (σ : Hp), GG X mi_X1_sign (QM X rI) 48 [(0, vA v0)] [] σ (k0 a σ)) : ∀ (m : Nat) (a : Int32) (σ : Hp), GG X mi_X1_sign (QM X rI) 13 [(0, vA v0), (1, vI v1), (2, vI a)] [] σ (lp m (f_X1_sign_b13 v0 v1 k0) a σ) := by
  refine g_lp (fun (a : Int32) => [(0, vA v0), (1, vI v1), (2, vI a)]) ?_
  intro ag hag a σ
  unfold f_X1_sign_b13
  refine g_iload_n 2 dX1_sign_13 rfl rfl ?_
  refine g_iconst 4 dX1_sign_14 (by decide) ?_
  refine g_icmp_ge 48 dX1_sign_15 (by decide) ?_ ?_
  · exact g_jmp (hk0 _ _) rfl
  · refine g_aload_n 0 dX1_sign_18 rfl rfl ?_
    refine g_getR fo_0_9 q183 dX1_sign_19 fun y2 => ?_
    refine g_aload_n 0 dX1_sign_22 rfl rfl ?_
    refine g_getI fo_0_10 (by decide) q184 dX1_sign_23 fun x3 => ?_
    refine g_iload_n 2 dX1_sign_26 rfl rfl ?_
    refine g_iadd dX1_sign_27 ?_
    refine g_iload_n 1 dX1_sign_28 rfl rfl ?_
    refine g_bipush 24 dX1_sign_29 (by decide) ?_
    refine g_bipush 8 dX1_sign_31 (by decide) ?_
    refine g_iload_n 2 dX1_sign_33 rfl rfl ?_
    refine g_imul dX1_sign_34 ?_
    refine g_isub dX1_sign_35 ?_
    refine g_ishr dX1_sign_36 ?_
    refine g_sipush 255 dX1_sign_37 (by decide) ?_
    refine g_iand dX1_sign_40 ?_
    refine g_iastore dX1_sign_41 fun σ => ?_
    refine g_iinc 1 dX1_sign_42 (by decide) rfl (lt_b rfl) ?_
    refine g_goto 13 dX1_sign_45 (by decide) ?_
    exact g_jmp (hag _ _) rfl
theorem mm_X1_sign (v0 : Option Nat) (v1 : Int32) (σ : Hp) : MM yX1_sign mi_X1_sign rI [vA v0, vI v1] σ (f_X1_sign v0 v1 σ) := by
  refine mm_of (by decide +kernel) rfl rfl (Nat.le_of_ble_eq_true rfl) ?_
  intro X
  unfold f_X1_sign
  refine g_aload_n 0 dX1_sign_0 rfl rfl ?_
  refine g_getI fo_0_10 (by decide) q184 dX1_sign_1 fun x1 => ?_
  refine g_bipush 76 dX1_sign_4 (by decide) ?_
  refine g_icmp_le 11 dX1_sign_6 (by decide) ?_ ?_
  · refine g_iconst 0 dX1_sign_11 (by decide) ?_
    refine g_istore_n 2 dX1_sign_12 rfl (lt_b rfl) ?_
    refine g_jmp (ok_X1_sign_b13 X v0 v1 ?_ _ _ _) rfl
    · intro a4 σ
      refine g_aload_n 0 dX1_sign_48 rfl rfl ?_
      refine g_dup dX1_sign_49 rfl ?_
      refine g_getI fo_0_10 (by decide) q184 dX1_sign_50 fun x5 => ?_
      refine g_iconst 4 dX1_sign_53 (by decide) ?_
      refine g_iadd dX1_sign_54 ?_
      refine g_putI fo_0_10 (by decide) rfl q184 dX1_sign_55 fun σ => ?_
      refine g_aload_n 0 dX1_sign_58 rfl rfl ?_
      refine g_getI fo_0_10 (by decide) q184 dX1_sign_59 fun x6 => ?_
      exact g_iret rfl dX1_sign_62
  · refine g_iconst (-1) dX1_sign_9 (by decide) ?_
    exact g_iret rfl dX1_sign_10
theorem dd_X1_sign : yX1_sign.cls ≠ "java/lang/invoke/MethodHandle" ∧ yX1_sign.cls ≠ "java/lang/invoke/VarHandle" ∧ (parseMethodDescriptor yX1_sign.desc).map (fun d => d.parameters.length) = some 1 := by decide +kernel
theorem dv_X1_sign : yX1_sign.cls = RX1 ∧ yX1_sign.cls ≠ "java/lang/invoke/MethodHandle" ∧ yX1_sign.cls ≠ "java/lang/invoke/VarHandle" ∧ (parseMethodDescriptor yX1_sign.desc).map (fun d => d.parameters.length) = some 1 := ⟨rfl, dd_X1_sign⟩
/-! RockingHorse.in(JJJ)Z -/
abbrev mi_X1_in : Mi := (cX1_in, 6, "RockingHorse", 0, some .boolean, "in")
def f_X1_in (v0 : Int64) (v2 : Int64) (v4 : Int64) (σ : Hp) : Option (Int32 × Hp) :=
  if (lg_cmp v0 v2) < 0 then
    rz1 0 σ
  else
    if 0 < (lg_cmp v0 v4) then
      rz1 0 σ
    else
      rz1 1 σ
theorem mm_X1_in (v0 : Int64) (v2 : Int64) (v4 : Int64) (σ : Hp) : MM yX1_in mi_X1_in rI [vL v0, vL v2, vL v4] σ (f_X1_in v0 v2 v4 σ) := by
  refine mm_of (by decide +kernel) rfl rfl (Nat.le_of_ble_eq_true rfl) ?_
  intro X
  unfold f_X1_in
  refine g_lload_n 0 dX1_in_0 rfl rfl ?_
  refine g_lload_n 2 dX1_in_1 rfl rfl ?_
  refine g_lcmp dX1_in_2 ?_
  refine g_if_lt 17 dX1_in_3 (by decide) ?_ ?_
  · refine g_iconst 0 dX1_in_17 (by decide) ?_
    exact g_zret rfl dX1_in_18
  · refine g_lload_n 0 dX1_in_6 rfl rfl ?_
    refine g_lload dX1_in_7 rfl ?_
    refine g_lcmp dX1_in_9 ?_
    refine g_if_gt 17 dX1_in_10 (by decide) ?_ ?_
    · refine g_iconst 0 dX1_in_17 (by decide) ?_
      exact g_zret rfl dX1_in_18
    · refine g_iconst 1 dX1_in_13 (by decide) ?_
      refine g_goto 18 dX1_in_14 (by decide) ?_
      exact g_zret rfl dX1_in_18
theorem dd_X1_in : yX1_in.cls ≠ "java/lang/invoke/MethodHandle" ∧ yX1_in.cls ≠ "java/lang/invoke/VarHandle" ∧ (parseMethodDescriptor yX1_in.desc).map (fun d => d.parameters.length) = some 3 := by decide +kernel
/-! RockingHorse.begins(I)I -/
abbrev mi_X1_begins : Mi := (cX1_begins, 3, "RockingHorse", 1, some .int, "begins")
def f_X1_begins (v0 : Option Nat) (v1 : Int32) (σ : Hp) : Option (Int32 × Hp) :=
  gI 0 10 σ v0 fun x1 =>
  pI 0 0 10 σ v0 0 fun σ =>
  pI 0 0 11 σ v0 0 fun σ =>
  pI 0 0 13 σ v0 0 fun σ =>
  pI 0 0 12 σ v0 (imin x1 v1) fun σ =>
  some (x1, σ)
theorem mm_X1_begins (v0 : Option Nat) (v1 : Int32) (σ : Hp) : MM yX1_begins mi_X1_begins rI [vA v0, vI v1] σ (f_X1_begins v0 v1 σ) := by
  refine mm_of (by decide +kernel) rfl rfl (Nat.le_of_ble_eq_true rfl) ?_
  intro X
  unfold f_X1_begins
  refine g_aload_n 0 dX1_begins_0 rfl rfl ?_
  refine g_getI fo_0_10 (by decide) q184 dX1_begins_1 fun x1 => ?_
  refine g_istore_n 2 dX1_begins_4 rfl (lt_b rfl) ?_
  refine g_aload_n 0 dX1_begins_5 rfl rfl ?_
  refine g_iconst 0 dX1_begins_6 (by decide) ?_
  refine g_putI fo_0_10 (by decide) rfl q184 dX1_begins_7 fun σ => ?_
  refine g_aload_n 0 dX1_begins_10 rfl rfl ?_
  refine g_iconst 0 dX1_begins_11 (by decide) ?_
  refine g_putI fo_0_11 (by decide) rfl q185 dX1_begins_12 fun σ => ?_
  refine g_aload_n 0 dX1_begins_15 rfl rfl ?_
  refine g_iconst 0 dX1_begins_16 (by decide) ?_
  refine g_putI fo_0_13 (by decide) rfl q187 dX1_begins_17 fun σ => ?_
  refine g_aload_n 0 dX1_begins_20 rfl rfl ?_
  refine g_iload_n 2 dX1_begins_21 rfl rfl ?_
  refine g_iload_n 1 dX1_begins_22 rfl rfl ?_
  refine g_mmin q357 (by decide) (Nat.le_of_ble_eq_true rfl) dX1_begins_23 ?_
  refine g_putI fo_0_12 (by decide) rfl q186 dX1_begins_26 fun σ => ?_
  refine g_iload_n 2 dX1_begins_29 rfl rfl ?_
  exact g_iret rfl dX1_begins_30
theorem dd_X1_begins : yX1_begins.cls ≠ "java/lang/invoke/MethodHandle" ∧ yX1_begins.cls ≠ "java/lang/invoke/VarHandle" ∧ (parseMethodDescriptor yX1_begins.desc).map (fun d => d.parameters.length) = some 1 := by decide +kernel
theorem dv_X1_begins : yX1_begins.cls = RX1 ∧ yX1_begins.cls ≠ "java/lang/invoke/MethodHandle" ∧ yX1_begins.cls ≠ "java/lang/invoke/VarHandle" ∧ (parseMethodDescriptor yX1_begins.desc).map (fun d => d.parameters.length) = some 1 := ⟨rfl, dd_X1_begins⟩
/-! RockingHorse.isAt(C)Z -/
abbrev mi_X1_isAt : Mi := (cX1_isAt, 2, "RockingHorse", 0, some .boolean, "isAt")
def f_X1_isAt (v0 : Option Nat) (v1 : Int32) (σ : Hp) : Option (Int32 × Hp) :=
  gI 0 11 σ v0 fun x1 =>
  gI 0 12 σ v0 fun x2 =>
  if x2 ≤ x1 then
    rz1 0 σ
  else
    gR 0 9 σ v0 fun y3 =>
    gI 0 11 σ v0 fun x4 =>
    lI 100 σ y3 x4 fun x5 =>
    if x5 = v1 then
      rz1 1 σ
    else
      rz1 0 σ
theorem mm_X1_isAt (v0 : Option Nat) (v1 : Int32) (σ : Hp) : MM yX1_isAt mi_X1_isAt rI [vA v0, vI v1] σ (f_X1_isAt v0 v1 σ) := by
  refine mm_of (by decide +kernel) rfl rfl (Nat.le_of_ble_eq_true rfl) ?_
  intro X
  unfold f_X1_isAt
  refine g_aload_n 0 dX1_isAt_0 rfl rfl ?_
  refine g_getI fo_0_11 (by decide) q185 dX1_isAt_1 fun x1 => ?_
  refine g_aload_n 0 dX1_isAt_4 rfl rfl ?_
  refine g_getI fo_0_12 (by decide) q186 dX1_isAt_5 fun x2 => ?_
  refine g_icmp_ge 28 dX1_isAt_8 (by decide) ?_ ?_
  · refine g_iconst 0 dX1_isAt_28 (by decide) ?_
    exact g_zret rfl dX1_isAt_29
  · refine g_aload_n 0 dX1_isAt_11 rfl rfl ?_
    refine g_getR fo_0_9 q183 dX1_isAt_12 fun y3 => ?_
    refine g_aload_n 0 dX1_isAt_15 rfl rfl ?_
    refine g_getI fo_0_11 (by decide) q185 dX1_isAt_16 fun x4 => ?_
    refine g_iaload dX1_isAt_19 fun x5 => ?_
    refine g_iload_n 1 dX1_isAt_20 rfl rfl ?_
    refine g_icmp_ne 28 dX1_isAt_21 (by decide) ?_ ?_
    · refine g_iconst 0 dX1_isAt_28 (by decide) ?_
      exact g_zret rfl dX1_isAt_29
    · refine g_iconst 1 dX1_isAt_24 (by decide) ?_
      refine g_goto 29 dX1_isAt_25 (by decide) ?_
      exact g_zret rfl dX1_isAt_29
theorem dd_X1_isAt : yX1_isAt.cls ≠ "java/lang/invoke/MethodHandle" ∧ yX1_isAt.cls ≠ "java/lang/invoke/VarHandle" ∧ (parseMethodDescriptor yX1_isAt.desc).map (fun d => d.parameters.length) = some 1 := by decide +kernel
theorem dv_X1_isAt : yX1_isAt.cls = RX1 ∧ yX1_isAt.cls ≠ "java/lang/invoke/MethodHandle" ∧ yX1_isAt.cls ≠ "java/lang/invoke/VarHandle" ∧ (parseMethodDescriptor yX1_isAt.desc).map (fun d => d.parameters.length) = some 1 := ⟨rfl, dd_X1_isAt⟩
/-! RockingHorse.faultOf(IZ)I -/
abbrev mi_X1_faultOf : Mi := (cX1_faultOf, 4, "RockingHorse", 0, some .int, "faultOf")
def f_X1_faultOf (v0 : Option Nat) (v1 : Int32) (v2 : Int32) (σ : Hp) : Option (Int32 × Hp) :=
  jn (fun (a1 : Int32) σ =>
      gI 0 12 σ v0 fun x3 =>
      jn (fun (a4 : Unit) σ =>
          if a1 = 0 then
            gI 0 11 σ v0 fun x6 =>
            some (((-1) - x6), σ)
          else
            some (0, σ)) fun j5 =>
      if v1 ≤ x3 then
        j5 () σ
      else
        jn (fun (a7 : Unit) σ =>
            gI 0 12 σ v0 fun x9 =>
            some (((-1) - x9), σ)) fun j8 =>
        if a1 = 0 then
          gI 0 11 σ v0 fun x10 =>
          gI 0 12 σ v0 fun x11 =>
          if x10 = x11 then
            j8 () σ
          else
            j5 () σ
        else
          j8 () σ) fun j2 =>
  if v2 = 0 then
    j2 0 σ
  else
    gI 0 11 σ v0 fun x12 =>
    gI 0 12 σ v0 fun x13 =>
    if x12 = x13 then
      j2 1 σ
    else
      j2 0 σ
theorem mm_X1_faultOf (v0 : Option Nat) (v1 : Int32) (v2 : Int32) (σ : Hp) : MM yX1_faultOf mi_X1_faultOf rI [vA v0, vI v1, vI v2] σ (f_X1_faultOf v0 v1 v2 σ) := by
  refine mm_of (by decide +kernel) rfl rfl (Nat.le_of_ble_eq_true rfl) ?_
  intro X
  unfold f_X1_faultOf
  refine g_iload_n 2 dX1_faultOf_0 rfl rfl ?_
  refine g_jn (fun j2 => ∀ (a1 : Int32) (σ : Hp), GG X mi_X1_faultOf (QM X rI) 20 [(0, vA v0), (1, vI v1)] [vI a1] σ (j2 a1 σ)) ?_ ?_
  · intro a1 σ
    refine g_istore_n 3 dX1_faultOf_20 rfl (lt_b rfl) ?_
    refine g_iload_n 1 dX1_faultOf_21 rfl rfl ?_
    refine g_aload_n 0 dX1_faultOf_22 rfl rfl ?_
    refine g_getI fo_0_12 (by decide) q186 dX1_faultOf_23 fun x3 => ?_
    refine g_jn (fun j5 => ∀ (a4 : Unit) (σ : Hp), GG X mi_X1_faultOf (QM X rI) 51 [(0, vA v0), (3, vI a1)] [] σ (j5 a4 σ)) ?_ ?_
    · intro a4 σ
      refine g_iload_n 3 dX1_faultOf_51 rfl rfl ?_
      refine g_if_eq 59 dX1_faultOf_52 (by decide) ?_ ?_
      · refine g_iconst (-1) dX1_faultOf_59 (by decide) ?_
        refine g_aload_n 0 dX1_faultOf_60 rfl rfl ?_
        refine g_getI fo_0_11 (by decide) q185 dX1_faultOf_61 fun x6 => ?_
        refine g_isub dX1_faultOf_64 ?_
        exact g_iret rfl dX1_faultOf_65
      · refine g_iconst 0 dX1_faultOf_55 (by decide) ?_
        refine g_goto 65 dX1_faultOf_56 (by decide) ?_
        exact g_iret rfl dX1_faultOf_65
    · intro j5 hj5
      refine g_icmp_le 51 dX1_faultOf_26 (by decide) ?_ ?_
      · exact g_jmp (hj5 _ _) rfl
      · refine g_iload_n 3 dX1_faultOf_29 rfl rfl ?_
        refine g_jn (fun j8 => ∀ (a7 : Unit) (σ : Hp), GG X mi_X1_faultOf (QM X rI) 44 [(0, vA v0)] [] σ (j8 a7 σ)) ?_ ?_
        · intro a7 σ
          refine g_iconst (-1) dX1_faultOf_44 (by decide) ?_
          refine g_aload_n 0 dX1_faultOf_45 rfl rfl ?_
          refine g_getI fo_0_12 (by decide) q186 dX1_faultOf_46 fun x9 => ?_
          refine g_isub dX1_faultOf_49 ?_
          exact g_iret rfl dX1_faultOf_50
        · intro j8 hj8
          refine g_if_ne 44 dX1_faultOf_30 (by decide) ?_ ?_
          · exact g_jmp (hj8 _ _) rfl
          · refine g_aload_n 0 dX1_faultOf_33 rfl rfl ?_
            refine g_getI fo_0_11 (by decide) q185 dX1_faultOf_34 fun x10 => ?_
            refine g_aload_n 0 dX1_faultOf_37 rfl rfl ?_
            refine g_getI fo_0_12 (by decide) q186 dX1_faultOf_38 fun x11 => ?_
            refine g_icmp_ne 51 dX1_faultOf_41 (by decide) ?_ ?_
            · exact g_jmp (hj5 _ _) rfl
            · exact g_jmp (hj8 _ _) rfl
  · intro j2 hj2
    refine g_if_eq 19 dX1_faultOf_1 (by decide) ?_ ?_
    · refine g_iconst 0 dX1_faultOf_19 (by decide) ?_
      exact g_jmp (hj2 _ _) rfl
    · refine g_aload_n 0 dX1_faultOf_4 rfl rfl ?_
      refine g_getI fo_0_11 (by decide) q185 dX1_faultOf_5 fun x12 => ?_
      refine g_aload_n 0 dX1_faultOf_8 rfl rfl ?_
      refine g_getI fo_0_12 (by decide) q186 dX1_faultOf_9 fun x13 => ?_
      refine g_icmp_ne 19 dX1_faultOf_12 (by decide) ?_ ?_
      · refine g_iconst 0 dX1_faultOf_19 (by decide) ?_
        exact g_jmp (hj2 _ _) rfl
      · refine g_iconst 1 dX1_faultOf_15 (by decide) ?_
        refine g_goto 20 dX1_faultOf_16 (by decide) ?_
        exact g_jmp (hj2 _ _) rfl
theorem dd_X1_faultOf : yX1_faultOf.cls ≠ "java/lang/invoke/MethodHandle" ∧ yX1_faultOf.cls ≠ "java/lang/invoke/VarHandle" ∧ (parseMethodDescriptor yX1_faultOf.desc).map (fun d => d.parameters.length) = some 2 := by decide +kernel
theorem dv_X1_faultOf : yX1_faultOf.cls = RX1 ∧ yX1_faultOf.cls ≠ "java/lang/invoke/MethodHandle" ∧ yX1_faultOf.cls ≠ "java/lang/invoke/VarHandle" ∧ (parseMethodDescriptor yX1_faultOf.desc).map (fun d => d.parameters.length) = some 2 := ⟨rfl, dd_X1_faultOf⟩
/-! RockingHorse.isDigit()Z -/
abbrev mi_X1_isDigit : Mi := (cX1_isDigit, 1, "RockingHorse", 1, some .boolean, "isDigit")
def f_X1_isDigit (v0 : Option Nat) (σ : Hp) : Option (Int32 × Hp) :=
  gI 0 11 σ v0 fun x1 =>
  gI 0 12 σ v0 fun x2 =>
  if x2 ≤ x1 then
    rz1 0 σ
  else
    gR 0 9 σ v0 fun y3 =>
    gI 0 11 σ v0 fun x4 =>
    lI 100 σ y3 x4 fun x5 =>
    bnd (f_X1_in (Int32.toInt64 x5) 48 57 σ) fun x6 σ =>
    if x6 = 0 then
      rz1 0 σ
    else
      rz1 1 σ
theorem mm_X1_isDigit (v0 : Option Nat) (σ : Hp) : MM yX1_isDigit mi_X1_isDigit rI [vA v0] σ (f_X1_isDigit v0 σ) := by
  refine mm_of (by decide +kernel) rfl rfl (Nat.le_of_ble_eq_true rfl) ?_
  intro X
  unfold f_X1_isDigit
  refine g_aload_n 0 dX1_isDigit_0 rfl rfl ?_
  refine g_getI fo_0_11 (by decide) q185 dX1_isDigit_1 fun x1 => ?_
  refine g_aload_n 0 dX1_isDigit_4 rfl rfl ?_
  refine g_getI fo_0_12 (by decide) q186 dX1_isDigit_5 fun x2 => ?_
  refine g_icmp_ge 37 dX1_isDigit_8 (by decide) ?_ ?_
  · refine g_iconst 0 dX1_isDigit_37 (by decide) ?_
    exact g_zret rfl dX1_isDigit_38
  · refine g_aload_n 0 dX1_isDigit_11 rfl rfl ?_
    refine g_getR fo_0_9 q183 dX1_isDigit_12 fun y3 => ?_
    refine g_aload_n 0 dX1_isDigit_15 rfl rfl ?_
    refine g_getI fo_0_11 (by decide) q185 dX1_isDigit_16 fun x4 => ?_
    refine g_iaload dX1_isDigit_19 fun x5 => ?_
    refine g_i2l dX1_isDigit_20 ?_
    refine g_ldc2_w dX1_isDigit_21 q511 ?_
    refine g_ldc2_w dX1_isDigit_24 q512 ?_
    refine g_callS_I (mm_X1_in _ _ _ _) rfl q346 q347 q107 q348 dd_X1_in rfl (Nat.le_of_ble_eq_true rfl) (Nat.le_of_ble_eq_true rfl) (Nat.le_of_ble_eq_true rfl) dX1_isDigit_27 fun x6 σ => ?_
    refine g_if_eq 37 dX1_isDigit_30 (by decide) ?_ ?_
    · refine g_iconst 0 dX1_isDigit_37 (by decide) ?_
      exact g_zret rfl dX1_isDigit_38
    · refine g_iconst 1 dX1_isDigit_33 (by decide) ?_
      refine g_goto 38 dX1_isDigit_34 (by decide) ?_
      exact g_zret rfl dX1_isDigit_38
theorem dd_X1_isDigit : yX1_isDigit.cls ≠ "java/lang/invoke/MethodHandle" ∧ yX1_isDigit.cls ≠ "java/lang/invoke/VarHandle" ∧ (parseMethodDescriptor yX1_isDigit.desc).map (fun d => d.parameters.length) = some 0 := by decide +kernel
theorem dv_X1_isDigit : yX1_isDigit.cls = RX1 ∧ yX1_isDigit.cls ≠ "java/lang/invoke/MethodHandle" ∧ yX1_isDigit.cls ≠ "java/lang/invoke/VarHandle" ∧ (parseMethodDescriptor yX1_isDigit.desc).map (fun d => d.parameters.length) = some 0 := ⟨rfl, dd_X1_isDigit⟩
/-! RockingHorse.number(I)I -/
abbrev mi_X1_number : Mi := (cX1_number, 4, "RockingHorse", 2, some .int, "number")
def f_X1_number_b13 (v0 : Option Nat) (v1 : Int32) (k0 : Int32 → Hp → Option (Int32 × Hp)) (ag : (Int32 × Int32) → Hp → Option (Int32 × Hp)) (a : Int32 × Int32) (σ : Hp) : Option (Int32 × Hp) :=
  if v1 ≤ a.2 then
    k0 a.1 σ
  else
    ob 0 σ v0 fun _ => bnd (f_X1_isDigit v0 σ) fun x2 σ =>
    if x2 = 0 then
      k0 a.1 σ
    else
      gR 0 9 σ v0 fun y3 =>
      gI 0 11 σ v0 fun x4 =>
      lI 100 σ y3 x4 fun x5 =>
      gI 0 11 σ v0 fun x6 =>
      pI 0 0 11 σ v0 (x6 + 1) fun σ =>
      ag ((((10 * a.1) + x5) - 48), (a.2 + 1)) σ
def f_X1_number (v0 : Option Nat) (v1 : Int32) (σ : Hp) : Option (Int32 × Hp) :=
  ob 0 σ v0 fun _ => bnd (f_X1_isDigit v0 σ) fun x1 σ =>
  if x1 = 0 then
    some ((-1), σ)
  else
    lp 2000 (f_X1_number_b13 v0 v1 (fun (a7 : Int32) σ =>
        some (a7, σ))) (0, 0) σ
theorem ok_X1_number_b13 (X : Mx) (v0 : Option Nat) (v1 : Int32) {k0 : Int32 → Hp → Option (Int32 × Hp)} (hk0 : ∀ (a : Int32) (σ : Hp), GG X mi_X1_number (QM X rI) 59 [(2, vI a)] [] σ (k0 a σ)) : ∀ (m : Nat) (a : Int32 × Int32) (σ : Hp), GG X mi_X1_number (QM X rI) 13 [(0, vA v0), (1, vI v1), (2, vI a.1), (3, vI a.2)] [] σ (lp m (f_X1_number_b13 v0 v1 k0) a σ) := by
  refine g_lp (fun (a : Int32 × Int32) => [(0, vA v0), (1, vI v1), (2, vI a.1), (3, vI a.2)]) ?_
  intro ag hag a σ
  unfold f_X1_number_b13
  refine g_iload_n 3 dX1_number_13 rfl rfl ?_
  refine g_iload_n 1 dX1_number_14 rfl rfl ?_
  refine g_icmp_ge 59 dX1_number_15 (by decide) ?_ ?_
  · exact g_jmp (hk0 _ _) rfl
  · refine g_aload_n 0 dX1_number_18 rfl rfl ?_
    refine g_callV_I (mm_X1_isDigit _ _) rfl zc_0 q507 q509 qs10 q107 q510 dv_X1_isDigit rfl (Nat.le_of_ble_eq_true rfl) (Nat.le_of_ble_eq_true rfl) (Nat.le_of_ble_eq_true rfl) dX1_number_19 fun x2 σ => ?_
    refine g_if_eq 59 dX1_number_22 (by decide) ?_ ?_
    · exact g_jmp (hk0 _ _) rfl
    · refine g_bipush 10 dX1_number_25 (by decide) ?_
      refine g_iload_n 2 dX1_number_27 rfl rfl ?_
      refine g_imul dX1_number_28 ?_
      refine g_aload_n 0 dX1_number_29 rfl rfl ?_
      refine g_getR fo_0_9 q183 dX1_number_30 fun y3 => ?_
      refine g_aload_n 0 dX1_number_33 rfl rfl ?_
      refine g_getI fo_0_11 (by decide) q185 dX1_number_34 fun x4 => ?_
      refine g_iaload dX1_number_37 fun x5 => ?_
      refine g_iadd dX1_number_38 ?_
      refine g_bipush 48 dX1_number_39 (by decide) ?_
      refine g_isub dX1_number_41 ?_
      refine g_istore_n 2 dX1_number_42 rfl (lt_b rfl) ?_
      refine g_aload_n 0 dX1_number_43 rfl rfl ?_
      refine g_dup dX1_number_44 rfl ?_
      refine g_getI fo_0_11 (by decide) q185 dX1_number_45 fun x6 => ?_
      refine g_iconst 1 dX1_number_48 (by decide) ?_
      refine g_iadd dX1_number_49 ?_
      refine g_putI fo_0_11 (by decide) rfl q185 dX1_number_50 fun σ => ?_
      refine g_iinc 1 dX1_number_53 (by decide) rfl (lt_b rfl) ?_
      refine g_goto 13 dX1_number_56 (by decide) ?_
      exact g_jmp (hag _ _) rfl
theorem mm_X1_number (v0 : Option Nat) (v1 : Int32) (σ : Hp) : MM yX1_number mi_X1_number rI [vA v0, vI v1] σ (f_X1_number v0 v1 σ) := by
  refine mm_of (by decide +kernel) rfl rfl (Nat.le_of_ble_eq_true rfl) ?_
  intro X
  unfold f_X1_number
  refine g_aload_n 0 dX1_number_0 rfl rfl ?_
  refine g_callV_I (mm_X1_isDigit _ _) rfl zc_0 q507 q509 qs10 q107 q510 dv_X1_isDigit rfl (Nat.le_of_ble_eq_true rfl) (Nat.le_of_ble_eq_true rfl) (Nat.le_of_ble_eq_true rfl) dX1_number_1 fun x1 σ => ?_
  refine g_if_ne 9 dX1_number_4 (by decide) ?_ ?_
  · refine g_iconst 0 dX1_number_9 (by decide) ?_
    refine g_istore_n 2 dX1_number_10 rfl (lt_b rfl) ?_
    refine g_iconst 0 dX1_number_11 (by decide) ?_
    refine g_istore_n 3 dX1_number_12 rfl (lt_b rfl) ?_
    refine g_jmp (ok_X1_number_b13 X v0 v1 ?_ _ _ _) rfl
    · intro a7 σ
      refine g_iload_n 2 dX1_number_59 rfl rfl ?_
      exact g_iret rfl dX1_number_60
  · refine g_iconst (-1) dX1_number_7 (by decide) ?_
    exact g_iret rfl dX1_number_8
theorem dd_X1_number : yX1_number.cls ≠ "java/lang/invoke/MethodHandle" ∧ yX1_number.cls ≠ "java/lang/invoke/VarHandle" ∧ (parseMethodDescriptor yX1_number.desc).map (fun d => d.parameters.length) = some 1 := by decide +kernel
theorem dv_X1_number : yX1_number.cls = RX1 ∧ yX1_number.cls ≠ "java/lang/invoke/MethodHandle" ∧ yX1_number.cls ≠ "java/lang/invoke/VarHandle" ∧ (parseMethodDescriptor yX1_number.desc).map (fun d => d.parameters.length) = some 1 := ⟨rfl, dd_X1_number⟩
/-! RockingHorse.acts(I)Ljava/lang/String; -/
abbrev mi_X1_acts : Mi := (cX1_acts, 1, "RockingHorse", 0, some (.object "java/lang/String"), "acts")
def f_X1_acts (v0 : Int32) (σ : Hp) : Option (Nat × Hp) :=
  if v0 = 0 then
    some (4, σ)
  else
    if v0 = 1 then
      some (5, σ)
    else
      some (6, σ)
theorem mm_X1_acts (v0 : Int32) (σ : Hp) : MM yX1_acts mi_X1_acts rS [vI v0] σ (f_X1_acts v0 σ) := by
  refine mm_of (by decide +kernel) rfl rfl (Nat.le_of_ble_eq_true rfl) ?_
  intro X
  unfold f_X1_acts
  refine g_iload_n 0 dX1_acts_0 rfl rfl ?_
  refine g_if_ne 9 dX1_acts_1 (by decide) ?_ ?_
  · refine g_iload_n 0 dX1_acts_9 rfl rfl ?_
    refine g_iconst 1 dX1_acts_10 (by decide) ?_
    refine g_icmp_ne 19 dX1_acts_11 (by decide) ?_ ?_
    · refine g_ldcS (k := 6) (by decide) rfl rfl dX1_acts_19 ?_
      exact g_sret rfl (Or.inl ⟨_, rfl⟩) dX1_acts_21
    · refine g_ldcS (k := 5) (by decide) rfl rfl dX1_acts_14 ?_
      refine g_goto 21 dX1_acts_16 (by decide) ?_
      exact g_sret rfl (Or.inl ⟨_, rfl⟩) dX1_acts_21
  · refine g_ldcS (k := 4) (by decide) rfl rfl dX1_acts_4 ?_
    refine g_goto 21 dX1_acts_6 (by decide) ?_
    exact g_sret rfl (Or.inl ⟨_, rfl⟩) dX1_acts_21
theorem dd_X1_acts : yX1_acts.cls ≠ "java/lang/invoke/MethodHandle" ∧ yX1_acts.cls ≠ "java/lang/invoke/VarHandle" ∧ (parseMethodDescriptor yX1_acts.desc).map (fun d => d.parameters.length) = some 1 := by decide +kernel
/-! RockingHorse.isRider(I)Z -/
abbrev mi_X1_isRider : Mi := (cX1_isRider, 2, "RockingHorse", 1, some .boolean, "isRider")
def f_X1_isRider (v0 : Option Nat) (v1 : Int32) (σ : Hp) : Option (Int32 × Hp) :=
  gI 0 5 σ v0 fun x1 =>
  bnd (f_X1_in (Int32.toInt64 v1) 0 (Int32.toInt64 (x1 - 1)) σ) fun x2 σ =>
  rz1 x2 σ
theorem mm_X1_isRider (v0 : Option Nat) (v1 : Int32) (σ : Hp) : MM yX1_isRider mi_X1_isRider rI [vA v0, vI v1] σ (f_X1_isRider v0 v1 σ) := by
  refine mm_of (by decide +kernel) rfl rfl (Nat.le_of_ble_eq_true rfl) ?_
  intro X
  unfold f_X1_isRider
  refine g_iload_n 1 dX1_isRider_0 rfl rfl ?_
  refine g_i2l dX1_isRider_1 ?_
  refine g_lconst 0 dX1_isRider_2 (by decide) ?_
  refine g_aload_n 0 dX1_isRider_3 rfl rfl ?_
  refine g_getI fo_0_5 (by decide) q179 dX1_isRider_4 fun x1 => ?_
  refine g_iconst 1 dX1_isRider_7 (by decide) ?_
  refine g_isub dX1_isRider_8 ?_
  refine g_i2l dX1_isRider_9 ?_
  refine g_callS_I (mm_X1_in _ _ _ _) rfl q346 q347 q107 q348 dd_X1_in rfl (Nat.le_of_ble_eq_true rfl) (Nat.le_of_ble_eq_true rfl) (Nat.le_of_ble_eq_true rfl) dX1_isRider_10 fun x2 σ => ?_
  exact g_zret rfl dX1_isRider_13
theorem dd_X1_isRider : yX1_isRider.cls ≠ "java/lang/invoke/MethodHandle" ∧ yX1_isRider.cls ≠ "java/lang/invoke/VarHandle" ∧ (parseMethodDescriptor yX1_isRider.desc).map (fun d => d.parameters.length) = some 1 := by decide +kernel
theorem dv_X1_isRider : yX1_isRider.cls = RX1 ∧ yX1_isRider.cls ≠ "java/lang/invoke/MethodHandle" ∧ yX1_isRider.cls ≠ "java/lang/invoke/VarHandle" ∧ (parseMethodDescriptor yX1_isRider.desc).map (fun d => d.parameters.length) = some 1 := ⟨rfl, dd_X1_isRider⟩
/-! RockingHorse.set(II)I -/
abbrev mi_X1_set : Mi := (cX1_set, 4, "RockingHorse", 1, some .int, "set")
def f_X1_set (v0 : Option Nat) (v1 : Int32) (v2 : Int32) (σ : Hp) : Option (Int32 × Hp) :=
  bnd (f_X1_in (Int32.toInt64 v1) 0 1 σ) fun x1 σ =>
  if x1 = 0 then
    some ((-1), σ)
  else
    jn (fun (a2 : Int64) σ =>
        bnd (f_X1_in (Int32.toInt64 v2) (Int32.toInt64 (1 - v1)) a2 σ) fun x4 σ =>
        if x4 = 0 then
          some ((-1), σ)
        else
          jn (fun (a5 : Int32) σ =>
              jn (fun (a7 : Unit) σ =>
                  some (a5, σ)) fun j8 =>
              if v1 = 0 then
                pI 0 0 6 σ v0 v2 fun σ =>
                j8 () σ
              else
                pI 0 0 7 σ v0 v2 fun σ =>
                j8 () σ) fun j6 =>
          if v1 = 0 then
            gI 0 6 σ v0 fun x10 =>
            j6 x10 σ
          else
            gI 0 7 σ v0 fun x9 =>
            j6 x9 σ) fun j3 =>
    if v1 = 0 then
      j3 8 σ
    else
      j3 9 σ
theorem mm_X1_set (v0 : Option Nat) (v1 : Int32) (v2 : Int32) (σ : Hp) : MM yX1_set mi_X1_set rI [vA v0, vI v1, vI v2] σ (f_X1_set v0 v1 v2 σ) := by
  refine mm_of (by decide +kernel) rfl rfl (Nat.le_of_ble_eq_true rfl) ?_
  intro X
  unfold f_X1_set
  refine g_iload_n 1 dX1_set_0 rfl rfl ?_
  refine g_i2l dX1_set_1 ?_
  refine g_lconst 0 dX1_set_2 (by decide) ?_
  refine g_lconst 1 dX1_set_3 (by decide) ?_
  refine g_callS_I (mm_X1_in _ _ _ _) rfl q346 q347 q107 q348 dd_X1_in rfl (Nat.le_of_ble_eq_true rfl) (Nat.le_of_ble_eq_true rfl) (Nat.le_of_ble_eq_true rfl) dX1_set_4 fun x1 σ => ?_
  refine g_if_eq 35 dX1_set_7 (by decide) ?_ ?_
  · refine g_iconst (-1) dX1_set_35 (by decide) ?_
    exact g_iret rfl dX1_set_36
  · refine g_iload_n 2 dX1_set_10 rfl rfl ?_
    refine g_i2l dX1_set_11 ?_
    refine g_iconst 1 dX1_set_12 (by decide) ?_
    refine g_iload_n 1 dX1_set_13 rfl rfl ?_
    refine g_isub dX1_set_14 ?_
    refine g_i2l dX1_set_15 ?_
    refine g_iload_n 1 dX1_set_16 rfl rfl ?_
    refine g_jn (fun j3 => ∀ (a2 : Int64) (σ : Hp), GG X mi_X1_set (QM X rI) 29 [(0, vA v0), (1, vI v1), (2, vI v2)] [vL a2, vL (Int32.toInt64 (1 - v1)), vL (Int32.toInt64 v2)] σ (j3 a2 σ)) ?_ ?_
    · intro a2 σ
      refine g_callS_I (mm_X1_in _ _ _ _) rfl q346 q347 q107 q348 dd_X1_in rfl (Nat.le_of_ble_eq_true rfl) (Nat.le_of_ble_eq_true rfl) (Nat.le_of_ble_eq_true rfl) dX1_set_29 fun x4 σ => ?_
      refine g_if_ne 37 dX1_set_32 (by decide) ?_ ?_
      · refine g_iload_n 1 dX1_set_37 rfl rfl ?_
        refine g_jn (fun j6 => ∀ (a5 : Int32) (σ : Hp), GG X mi_X1_set (QM X rI) 52 [(0, vA v0), (1, vI v1), (2, vI v2)] [vI a5] σ (j6 a5 σ)) ?_ ?_
        · intro a5 σ
          refine g_istore_n 3 dX1_set_52 rfl (lt_b rfl) ?_
          refine g_iload_n 1 dX1_set_53 rfl rfl ?_
          refine g_jn (fun j8 => ∀ (a7 : Unit) (σ : Hp), GG X mi_X1_set (QM X rI) 70 [(3, vI a5)] [] σ (j8 a7 σ)) ?_ ?_
          · intro a7 σ
            refine g_iload_n 3 dX1_set_70 rfl rfl ?_
            exact g_iret rfl dX1_set_71
          · intro j8 hj8
            refine g_if_ne 65 dX1_set_54 (by decide) ?_ ?_
            · refine g_aload_n 0 dX1_set_65 rfl rfl ?_
              refine g_iload_n 2 dX1_set_66 rfl rfl ?_
              refine g_putI fo_0_7 (by decide) rfl q181 dX1_set_67 fun σ => ?_
              exact g_jmp (hj8 _ _) rfl
            · refine g_aload_n 0 dX1_set_57 rfl rfl ?_
              refine g_iload_n 2 dX1_set_58 rfl rfl ?_
              refine g_putI fo_0_6 (by decide) rfl q180 dX1_set_59 fun σ => ?_
              refine g_goto 70 dX1_set_62 (by decide) ?_
              exact g_jmp (hj8 _ _) rfl
        · intro j6 hj6
          refine g_if_ne 48 dX1_set_38 (by decide) ?_ ?_
          · refine g_aload_n 0 dX1_set_48 rfl rfl ?_
            refine g_getI fo_0_7 (by decide) q181 dX1_set_49 fun x9 => ?_
            exact g_jmp (hj6 _ _) rfl
          · refine g_aload_n 0 dX1_set_41 rfl rfl ?_
            refine g_getI fo_0_6 (by decide) q180 dX1_set_42 fun x10 => ?_
            refine g_goto 52 dX1_set_45 (by decide) ?_
            exact g_jmp (hj6 _ _) rfl
      · refine g_iconst (-1) dX1_set_35 (by decide) ?_
        exact g_iret rfl dX1_set_36
    · intro j3 hj3
      refine g_if_ne 26 dX1_set_17 (by decide) ?_ ?_
      · refine g_ldc2_w dX1_set_26 q614 ?_
        exact g_jmp (hj3 _ _) rfl
      · refine g_ldc2_w dX1_set_20 q613 ?_
        refine g_goto 29 dX1_set_23 (by decide) ?_
        exact g_jmp (hj3 _ _) rfl
theorem dd_X1_set : yX1_set.cls ≠ "java/lang/invoke/MethodHandle" ∧ yX1_set.cls ≠ "java/lang/invoke/VarHandle" ∧ (parseMethodDescriptor yX1_set.desc).map (fun d => d.parameters.length) = some 2 := by decide +kernel
theorem dv_X1_set : yX1_set.cls = RX1 ∧ yX1_set.cls ≠ "java/lang/invoke/MethodHandle" ∧ yX1_set.cls ≠ "java/lang/invoke/VarHandle" ∧ (parseMethodDescriptor yX1_set.desc).map (fun d => d.parameters.length) = some 2 := ⟨rfl, dd_X1_set⟩
/-! RockingHorse.sumOf([I)I -/
abbrev mi_X1_sumOf : Mi := (cX1_sumOf, 4, "RockingHorse", 0, some .int, "sumOf")
def f_X1_sumOf_b4 (v0 : Option Nat) (v1 : Option Nat) (k0 : Int32 → Hp → Option (Int32 × Hp)) (ag : (Int32 × Int32) → Hp → Option (Int32 × Hp)) (a : Int32 × Int32) (σ : Hp) : Option (Int32 × Hp) :=
  gI 0 5 σ v0 fun x1 =>
  if x1 ≤ a.2 then
    k0 a.1 σ
  else
    lI 100 σ v1 a.2 fun x2 =>
    ag ((a.1 + x2), (a.2 + 1)) σ
def f_X1_sumOf (v0 : Option Nat) (v1 : Option Nat) (σ : Hp) : Option (Int32 × Hp) :=
  lp 2000 (f_X1_sumOf_b4 v0 v1 (fun (a3 : Int32) σ =>
      some (a3, σ))) (0, 0) σ
theorem ok_X1_sumOf_b4 (X : Mx) (v0 : Option Nat) (v1 : Option Nat) {k0 : Int32 → Hp → Option (Int32 × Hp)} (hk0 : ∀ (a : Int32) (σ : Hp), GG X mi_X1_sumOf (QM X rI) 24 [(2, vI a)] [] σ (k0 a σ)) : ∀ (m : Nat) (a : Int32 × Int32) (σ : Hp), GG X mi_X1_sumOf (QM X rI) 4 [(0, vA v0), (1, vA v1), (2, vI a.1), (3, vI a.2)] [] σ (lp m (f_X1_sumOf_b4 v0 v1 k0) a σ) := by
  refine g_lp (fun (a : Int32 × Int32) => [(0, vA v0), (1, vA v1), (2, vI a.1), (3, vI a.2)]) ?_
  intro ag hag a σ
  unfold f_X1_sumOf_b4
  refine g_iload_n 3 dX1_sumOf_4 rfl rfl ?_
  refine g_aload_n 0 dX1_sumOf_5 rfl rfl ?_
  refine g_getI fo_0_5 (by decide) q179 dX1_sumOf_6 fun x1 => ?_
  refine g_icmp_ge 24 dX1_sumOf_9 (by decide) ?_ ?_
  · exact g_jmp (hk0 _ _) rfl
  · refine g_iload_n 2 dX1_sumOf_12 rfl rfl ?_
    refine g_aload_n 1 dX1_sumOf_13 rfl rfl ?_
    refine g_iload_n 3 dX1_sumOf_14 rfl rfl ?_
    refine g_iaload dX1_sumOf_15 fun x2 => ?_
    refine g_iadd dX1_sumOf_16 ?_
    refine g_istore_n 2 dX1_sumOf_17 rfl (lt_b rfl) ?_
    refine g_iinc 1 dX1_sumOf_18 (by decide) rfl (lt_b rfl) ?_
    refine g_goto 4 dX1_sumOf_21 (by decide) ?_
    exact g_jmp (hag _ _) rfl
theorem mm_X1_sumOf (v0 : Option Nat) (v1 : Option Nat) (σ : Hp) : MM yX1_sumOf mi_X1_sumOf rI [vA v0, vA v1] σ (f_X1_sumOf v0 v1 σ) := by
  refine mm_of (by decide +kernel) rfl rfl (Nat.le_of_ble_eq_true rfl) ?_
  intro X
  unfold f_X1_sumOf
  refine g_iconst 0 dX1_sumOf_0 (by decide) ?_
  refine g_istore_n 2 dX1_sumOf_1 rfl (lt_b rfl) ?_
  refine g_iconst 0 dX1_sumOf_2 (by decide) ?_
  refine g_istore_n 3 dX1_sumOf_3 rfl (lt_b rfl) ?_
  refine g_jmp (ok_X1_sumOf_b4 X v0 v1 ?_ _ _ _) rfl
  · intro a3 σ
    refine g_iload_n 2 dX1_sumOf_24 rfl rfl ?_
    exact g_iret rfl dX1_sumOf_25
theorem dd_X1_sumOf : yX1_sumOf.cls ≠ "java/lang/invoke/MethodHandle" ∧ yX1_sumOf.cls ≠ "java/lang/invoke/VarHandle" ∧ (parseMethodDescriptor yX1_sumOf.desc).map (fun d => d.parameters.length) = some 1 := by decide +kernel
theorem dv_X1_sumOf : yX1_sumOf.cls = RX1 ∧ yX1_sumOf.cls ≠ "java/lang/invoke/MethodHandle" ∧ yX1_sumOf.cls ≠ "java/lang/invoke/VarHandle" ∧ (parseMethodDescriptor yX1_sumOf.desc).map (fun d => d.parameters.length) = some 1 := ⟨rfl, dd_X1_sumOf⟩
/-! RockingHorse.gives(LRockingHorse$Horse;II)Z -/
abbrev mi_X1_gives : Mi := (cX1_gives, 4, "RockingHorse", 2, some .boolean, "gives")
def f_X1_gives (v0 : Option Nat) (v1 : Option Nat) (v2 : Int32) (v3 : Int32) (σ : Hp) : Option (Int32 × Hp) :=
  bnd (f_X1_in (Int32.toInt64 v2) 0 7 σ) fun x1 σ =>
  if x1 = 0 then
    rz1 0 σ
  else
    jn (fun (a2 : Unit) σ =>
        gR 1 0 σ v1 fun y4 =>
        sI σ y4 v2 v3 fun σ =>
        rz1 1 σ) fun j3 =>
    if v3 = (-1) then
      j3 () σ
    else
      ob 0 σ v0 fun _ => bnd (f_X1_isRider v0 v3 σ) fun x5 σ =>
      if x5 = 0 then
        rz1 0 σ
      else
        j3 () σ
theorem mm_X1_gives (v0 : Option Nat) (v1 : Option Nat) (v2 : Int32) (v3 : Int32) (σ : Hp) : MM yX1_gives mi_X1_gives rI [vA v0, vA v1, vI v2, vI v3] σ (f_X1_gives v0 v1 v2 v3 σ) := by
  refine mm_of (by decide +kernel) rfl rfl (Nat.le_of_ble_eq_true rfl) ?_
  intro X
  unfold f_X1_gives
  refine g_iload_n 2 dX1_gives_0 rfl rfl ?_
  refine g_i2l dX1_gives_1 ?_
  refine g_lconst 0 dX1_gives_2 (by decide) ?_
  refine g_ldc2_w dX1_gives_3 q580 ?_
  refine g_callS_I (mm_X1_in _ _ _ _) rfl q346 q347 q107 q348 dd_X1_in rfl (Nat.le_of_ble_eq_true rfl) (Nat.le_of_ble_eq_true rfl) (Nat.le_of_ble_eq_true rfl) dX1_gives_6 fun x1 σ => ?_
  refine g_if_eq 25 dX1_gives_9 (by decide) ?_ ?_
  · refine g_iconst 0 dX1_gives_25 (by decide) ?_
    exact g_zret rfl dX1_gives_26
  · refine g_iload_n 3 dX1_gives_12 rfl rfl ?_
    refine g_iconst (-1) dX1_gives_13 (by decide) ?_
    refine g_jn (fun j3 => ∀ (a2 : Unit) (σ : Hp), GG X mi_X1_gives (QM X rI) 27 [(1, vA v1), (2, vI v2), (3, vI v3)] [] σ (j3 a2 σ)) ?_ ?_
    · intro a2 σ
      refine g_aload_n 1 dX1_gives_27 rfl rfl ?_
      refine g_getRN fo_1_0 nf_142 dX1_gives_28 fun y4 => ?_
      refine g_iload_n 2 dX1_gives_31 rfl rfl ?_
      refine g_iload_n 3 dX1_gives_32 rfl rfl ?_
      refine g_iastore dX1_gives_33 fun σ => ?_
      refine g_iconst 1 dX1_gives_34 (by decide) ?_
      exact g_zret rfl dX1_gives_35
    · intro j3 hj3
      refine g_icmp_eq 27 dX1_gives_14 (by decide) ?_ ?_
      · exact g_jmp (hj3 _ _) rfl
      · refine g_aload_n 0 dX1_gives_17 rfl rfl ?_
        refine g_iload_n 3 dX1_gives_18 rfl rfl ?_
        refine g_callV_I (mm_X1_isRider _ _ _) rfl zc_0 q576 q578 qs12 q107 q579 dv_X1_isRider rfl (Nat.le_of_ble_eq_true rfl) (Nat.le_of_ble_eq_true rfl) (Nat.le_of_ble_eq_true rfl) dX1_gives_19 fun x5 σ => ?_
        refine g_if_ne 27 dX1_gives_22 (by decide) ?_ ?_
        · exact g_jmp (hj3 _ _) rfl
        · refine g_iconst 0 dX1_gives_25 (by decide) ?_
          exact g_zret rfl dX1_gives_26
theorem dd_X1_gives : yX1_gives.cls ≠ "java/lang/invoke/MethodHandle" ∧ yX1_gives.cls ≠ "java/lang/invoke/VarHandle" ∧ (parseMethodDescriptor yX1_gives.desc).map (fun d => d.parameters.length) = some 3 := by decide +kernel
theorem dv_X1_gives : yX1_gives.cls = RX1 ∧ yX1_gives.cls ≠ "java/lang/invoke/MethodHandle" ∧ yX1_gives.cls ≠ "java/lang/invoke/VarHandle" ∧ (parseMethodDescriptor yX1_gives.desc).map (fun d => d.parameters.length) = some 3 := ⟨rfl, dd_X1_gives⟩
/-! RockingHorse.has(II)Z -/
abbrev mi_X1_has : Mi := (cX1_has, 2, "RockingHorse", 0, some .boolean, "has")
def f_X1_has (v0 : Int32) (v1 : Int32) (σ : Hp) : Option (Int32 × Hp) :=
  if ((shr v0 v1) &&& 1) = 1 then
    rz1 1 σ
  else
    rz1 0 σ
theorem mm_X1_has (v0 : Int32) (v1 : Int32) (σ : Hp) : MM yX1_has mi_X1_has rI [vI v0, vI v1] σ (f_X1_has v0 v1 σ) := by
  refine mm_of (by decide +kernel) rfl rfl (Nat.le_of_ble_eq_true rfl) ?_
  intro X
  unfold f_X1_has
  refine g_iload_n 0 dX1_has_0 rfl rfl ?_
  refine g_iload_n 1 dX1_has_1 rfl rfl ?_
  refine g_ishr dX1_has_2 ?_
  refine g_iconst 1 dX1_has_3 (by decide) ?_
  refine g_iand dX1_has_4 ?_
  refine g_iconst 1 dX1_has_5 (by decide) ?_
  refine g_icmp_ne 13 dX1_has_6 (by decide) ?_ ?_
  · refine g_iconst 0 dX1_has_13 (by decide) ?_
    exact g_zret rfl dX1_has_14
  · refine g_iconst 1 dX1_has_9 (by decide) ?_
    refine g_goto 14 dX1_has_10 (by decide) ?_
    exact g_zret rfl dX1_has_14
theorem dd_X1_has : yX1_has.cls ≠ "java/lang/invoke/MethodHandle" ∧ yX1_has.cls ≠ "java/lang/invoke/VarHandle" ∧ (parseMethodDescriptor yX1_has.desc).map (fun d => d.parameters.length) = some 2 := by decide +kernel
/-! RockingHorse.tells(J)V -/
abbrev mi_X1_tells : Mi := (cX1_tells, 3, "RockingHorse", 0, none, "tells")
def f_X1_tells (v0 : Option Nat) (v1 : Int64) (σ : Hp) : Option (Unit × Hp) :=
  gR 0 51 σ v0 fun y1 =>
  gI 0 52 σ v0 fun x2 =>
  sL σ y1 x2 v1 fun σ =>
  gI 0 52 σ v0 fun x3 =>
  pI 0 0 52 σ v0 (x3 + 1) fun σ =>
  some ((), σ)
theorem mm_X1_tells (v0 : Option Nat) (v1 : Int64) (σ : Hp) : MM yX1_tells mi_X1_tells rV [vA v0, vL v1] σ (f_X1_tells v0 v1 σ) := by
  refine mm_of (by decide +kernel) rfl rfl (Nat.le_of_ble_eq_true rfl) ?_
  intro X
  unfold f_X1_tells
  refine g_aload_n 0 dX1_tells_0 rfl rfl ?_
  refine g_getR fo_0_51 q228 dX1_tells_1 fun y1 => ?_
  refine g_aload_n 0 dX1_tells_4 rfl rfl ?_
  refine g_getI fo_0_52 (by decide) q229 dX1_tells_5 fun x2 => ?_
  refine g_lload_n 1 dX1_tells_8 rfl rfl ?_
  refine g_lastore dX1_tells_9 fun σ => ?_
  refine g_aload_n 0 dX1_tells_10 rfl rfl ?_
  refine g_dup dX1_tells_11 rfl ?_
  refine g_getI fo_0_52 (by decide) q229 dX1_tells_12 fun x3 => ?_
  refine g_iconst 1 dX1_tells_15 (by decide) ?_
  refine g_iadd dX1_tells_16 ?_
  refine g_putI fo_0_52 (by decide) rfl q229 dX1_tells_17 fun σ => ?_
  exact g_vret rfl dX1_tells_20
theorem dd_X1_tells : yX1_tells.cls ≠ "java/lang/invoke/MethodHandle" ∧ yX1_tells.cls ≠ "java/lang/invoke/VarHandle" ∧ (parseMethodDescriptor yX1_tells.desc).map (fun d => d.parameters.length) = some 1 := by decide +kernel
theorem dv_X1_tells : yX1_tells.cls = RX1 ∧ yX1_tells.cls ≠ "java/lang/invoke/MethodHandle" ∧ yX1_tells.cls ≠ "java/lang/invoke/VarHandle" ∧ (parseMethodDescriptor yX1_tells.desc).map (fun d => d.parameters.length) = some 1 := ⟨rfl, dd_X1_tells⟩
/-! RockingHorse.isPair(II)Z -/
abbrev mi_X1_isPair : Mi := (cX1_isPair, 3, "RockingHorse", 2, some .boolean, "isPair")
def f_X1_isPair (v0 : Option Nat) (v1 : Int32) (v2 : Int32) (σ : Hp) : Option (Int32 × Hp) :=
  ob 0 σ v0 fun _ => bnd (f_X1_isRider v0 v1 σ) fun x1 σ =>
  if x1 = 0 then
    rz1 0 σ
  else
    ob 0 σ v0 fun _ => bnd (f_X1_isRider v0 v2 σ) fun x2 σ =>
    if x2 = 0 then
      rz1 0 σ
    else
      if v1 = v2 then
        rz1 0 σ
      else
        rz1 1 σ
theorem mm_X1_isPair (v0 : Option Nat) (v1 : Int32) (v2 : Int32) (σ : Hp) : MM yX1_isPair mi_X1_isPair rI [vA v0, vI v1, vI v2] σ (f_X1_isPair v0 v1 v2 σ) := by
  refine mm_of (by decide +kernel) rfl rfl (Nat.le_of_ble_eq_true rfl) ?_
  intro X
  unfold f_X1_isPair
  refine g_aload_n 0 dX1_isPair_0 rfl rfl ?_
  refine g_iload_n 1 dX1_isPair_1 rfl rfl ?_
  refine g_callV_I (mm_X1_isRider _ _ _) rfl zc_0 q576 q578 qs12 q107 q579 dv_X1_isRider rfl (Nat.le_of_ble_eq_true rfl) (Nat.le_of_ble_eq_true rfl) (Nat.le_of_ble_eq_true rfl) dX1_isPair_2 fun x1 σ => ?_
  refine g_if_eq 25 dX1_isPair_5 (by decide) ?_ ?_
  · refine g_iconst 0 dX1_isPair_25 (by decide) ?_
    exact g_zret rfl dX1_isPair_26
  · refine g_aload_n 0 dX1_isPair_8 rfl rfl ?_
    refine g_iload_n 2 dX1_isPair_9 rfl rfl ?_
    refine g_callV_I (mm_X1_isRider _ _ _) rfl zc_0 q576 q578 qs12 q107 q579 dv_X1_isRider rfl (Nat.le_of_ble_eq_true rfl) (Nat.le_of_ble_eq_true rfl) (Nat.le_of_ble_eq_true rfl) dX1_isPair_10 fun x2 σ => ?_
    refine g_if_eq 25 dX1_isPair_13 (by decide) ?_ ?_
    · refine g_iconst 0 dX1_isPair_25 (by decide) ?_
      exact g_zret rfl dX1_isPair_26
    · refine g_iload_n 1 dX1_isPair_16 rfl rfl ?_
      refine g_iload_n 2 dX1_isPair_17 rfl rfl ?_
      refine g_icmp_eq 25 dX1_isPair_18 (by decide) ?_ ?_
      · refine g_iconst 0 dX1_isPair_25 (by decide) ?_
        exact g_zret rfl dX1_isPair_26
      · refine g_iconst 1 dX1_isPair_21 (by decide) ?_
        refine g_goto 26 dX1_isPair_22 (by decide) ?_
        exact g_zret rfl dX1_isPair_26
theorem dd_X1_isPair : yX1_isPair.cls ≠ "java/lang/invoke/MethodHandle" ∧ yX1_isPair.cls ≠ "java/lang/invoke/VarHandle" ∧ (parseMethodDescriptor yX1_isPair.desc).map (fun d => d.parameters.length) = some 2 := by decide +kernel
theorem dv_X1_isPair : yX1_isPair.cls = RX1 ∧ yX1_isPair.cls ≠ "java/lang/invoke/MethodHandle" ∧ yX1_isPair.cls ≠ "java/lang/invoke/VarHandle" ∧ (parseMethodDescriptor yX1_isPair.desc).map (fun d => d.parameters.length) = some 2 := ⟨rfl, dd_X1_isPair⟩
/-! RockingHorse.wholeNight()I -/
abbrev mi_X1_wholeNight : Mi := (cX1_wholeNight, 1, "RockingHorse", 0, some .int, "wholeNight")
def f_X1_wholeNight (v0 : Option Nat) (σ : Hp) : Option (Int32 × Hp) :=
  gI 0 6 σ v0 fun x1 =>
  some (((shl 1 x1) - 1), σ)
theorem mm_X1_wholeNight (v0 : Option Nat) (σ : Hp) : MM yX1_wholeNight mi_X1_wholeNight rI [vA v0] σ (f_X1_wholeNight v0 σ) := by
  refine mm_of (by decide +kernel) rfl rfl (Nat.le_of_ble_eq_true rfl) ?_
  intro X
  unfold f_X1_wholeNight
  refine g_iconst 1 dX1_wholeNight_0 (by decide) ?_
  refine g_aload_n 0 dX1_wholeNight_1 rfl rfl ?_
  refine g_getI fo_0_6 (by decide) q180 dX1_wholeNight_2 fun x1 => ?_
  refine g_ishl dX1_wholeNight_5 ?_
  refine g_iconst 1 dX1_wholeNight_6 (by decide) ?_
  refine g_isub dX1_wholeNight_7 ?_
  exact g_iret rfl dX1_wholeNight_8
theorem dd_X1_wholeNight : yX1_wholeNight.cls ≠ "java/lang/invoke/MethodHandle" ∧ yX1_wholeNight.cls ≠ "java/lang/invoke/VarHandle" ∧ (parseMethodDescriptor yX1_wholeNight.desc).map (fun d => d.parameters.length) = some 0 := by decide +kernel
theorem dv_X1_wholeNight : yX1_wholeNight.cls = RX1 ∧ yX1_wholeNight.cls ≠ "java/lang/invoke/MethodHandle" ∧ yX1_wholeNight.cls ≠ "java/lang/invoke/VarHandle" ∧ (parseMethodDescriptor yX1_wholeNight.desc).map (fun d => d.parameters.length) = some 0 := ⟨rfl, dd_X1_wholeNight⟩
/-! RockingHorse.fixes(II)V -/
abbrev mi_X1_fixes : Mi := (cX1_fixes, 4, "RockingHorse", 0, none, "fixes")
def f_X1_fixes_b2 (v0 : Option Nat) (v1 : Int32) (v2 : Int32) (k0 : Unit → Hp → Option (Unit × Hp)) (ag : Int32 → Hp → Option (Unit × Hp)) (a : Int32) (σ : Hp) : Option (Unit × Hp) :=
  gI 0 5 σ v0 fun x1 =>
  if x1 ≤ a then
    k0 () σ
  else
    gR 0 35 σ v0 fun y2 =>
    lI 100 σ y2 a fun x3 =>
    jn (fun (a4 : Int32) σ =>
        sI σ y2 a (x3 &&& a4) fun σ =>
        ag (a + 1) σ) fun j5 =>
    if a = v2 then
      gR 0 35 σ v0 fun y6 =>
      lI 100 σ y6 a fun x7 =>
      j5 x7 σ
    else
      j5 ((shl 1 v1) ^^^ (-1)) σ
def f_X1_fixes (v0 : Option Nat) (v1 : Int32) (v2 : Int32) (σ : Hp) : Option (Unit × Hp) :=
  lp 2000 (f_X1_fixes_b2 v0 v1 v2 (fun (a8 : Unit) σ =>
      some ((), σ))) 0 σ
theorem ok_X1_fixes_b2 (X : Mx) (v0 : Option Nat) (v1 : Int32) (v2 : Int32) {k0 : Unit → Hp → Option (Unit × Hp)} (hk0 : ∀ (a : Unit) (σ : Hp), GG X mi_X1_fixes (QM X rV) 44 [] [] σ (k0 a σ)) : ∀ (m : Nat) (a : Int32) (σ : Hp), GG X mi_X1_fixes (QM X rV) 2 [(0, vA v0), (1, vI v1), (2, vI v2), (3, vI a)] [] σ (lp m (f_X1_fixes_b2 v0 v1 v2 k0) a σ) := by
  refine g_lp (fun (a : Int32) => [(0, vA v0), (1, vI v1), (2, vI v2), (3, vI a)]) ?_
  intro ag hag a σ
  unfold f_X1_fixes_b2
  refine g_iload_n 3 dX1_fixes_2 rfl rfl ?_
  refine g_aload_n 0 dX1_fixes_3 rfl rfl ?_
  refine g_getI fo_0_5 (by decide) q179 dX1_fixes_4 fun x1 => ?_
  refine g_icmp_ge 44 dX1_fixes_7 (by decide) ?_ ?_
  · exact g_jmp (hk0 _ _) rfl
  · refine g_aload_n 0 dX1_fixes_10 rfl rfl ?_
    refine g_getR fo_0_35 q212 dX1_fixes_11 fun y2 => ?_
    refine g_iload_n 3 dX1_fixes_14 rfl rfl ?_
    refine g_dup2 dX1_fixes_15 rfl rfl ?_
    refine g_iaload dX1_fixes_16 fun x3 => ?_
    refine g_iload_n 3 dX1_fixes_17 rfl rfl ?_
    refine g_iload_n 2 dX1_fixes_18 rfl rfl ?_
    refine g_jn (fun j5 => ∀ (a4 : Int32) (σ : Hp), GG X mi_X1_fixes (QM X rV) 36 [(0, vA v0), (1, vI v1), (2, vI v2), (3, vI a)] [vI a4, vI x3, vI a, vA y2] σ (j5 a4 σ)) ?_ ?_
    · intro a4 σ
      refine g_iand dX1_fixes_36 ?_
      refine g_iastore dX1_fixes_37 fun σ => ?_
      refine g_iinc 1 dX1_fixes_38 (by decide) rfl (lt_b rfl) ?_
      refine g_goto 2 dX1_fixes_41 (by decide) ?_
      exact g_jmp (hag _ _) rfl
    · intro j5 hj5
      refine g_icmp_ne 31 dX1_fixes_19 (by decide) ?_ ?_
      · refine g_iconst 1 dX1_fixes_31 (by decide) ?_
        refine g_iload_n 1 dX1_fixes_32 rfl rfl ?_
        refine g_ishl dX1_fixes_33 ?_
        refine g_iconst (-1) dX1_fixes_34 (by decide) ?_
        refine g_ixor dX1_fixes_35 ?_
        exact g_jmp (hj5 _ _) rfl
      · refine g_aload_n 0 dX1_fixes_22 rfl rfl ?_
        refine g_getR fo_0_35 q212 dX1_fixes_23 fun y6 => ?_
        refine g_iload_n 3 dX1_fixes_26 rfl rfl ?_
        refine g_iaload dX1_fixes_27 fun x7 => ?_
        refine g_goto 36 dX1_fixes_28 (by decide) ?_
        exact g_jmp (hj5 _ _) rfl
theorem mm_X1_fixes (v0 : Option Nat) (v1 : Int32) (v2 : Int32) (σ : Hp) : MM yX1_fixes mi_X1_fixes rV [vA v0, vI v1, vI v2] σ (f_X1_fixes v0 v1 v2 σ) := by
  refine mm_of (by decide +kernel) rfl rfl (Nat.le_of_ble_eq_true rfl) ?_
  intro X
  unfold f_X1_fixes
  refine g_iconst 0 dX1_fixes_0 (by decide) ?_
  refine g_istore_n 3 dX1_fixes_1 rfl (lt_b rfl) ?_
  refine g_jmp (ok_X1_fixes_b2 X v0 v1 v2 ?_ _ _ _) rfl
  · intro a8 σ
    exact g_vret rfl dX1_fixes_44
theorem dd_X1_fixes : yX1_fixes.cls ≠ "java/lang/invoke/MethodHandle" ∧ yX1_fixes.cls ≠ "java/lang/invoke/VarHandle" ∧ (parseMethodDescriptor yX1_fixes.desc).map (fun d => d.parameters.length) = some 2 := by decide +kernel
theorem dv_X1_fixes : yX1_fixes.cls = RX1 ∧ yX1_fixes.cls ≠ "java/lang/invoke/MethodHandle" ∧ yX1_fixes.cls ≠ "java/lang/invoke/VarHandle" ∧ (parseMethodDescriptor yX1_fixes.desc).map (fun d => d.parameters.length) = some 2 := ⟨rfl, dd_X1_fixes⟩
/-! RockingHorse.tellsTurn()V -/
abbrev mi_X1_tellsTurn : Mi := (cX1_tellsTurn, 2, "RockingHorse", 1, none, "tellsTurn")
def f_X1_tellsTurn_b7 (v0 : Option Nat) (k0 : Unit → Hp → Option (Unit × Hp)) (ag : Int32 → Hp → Option (Unit × Hp)) (a : Int32) (σ : Hp) : Option (Unit × Hp) :=
  gI 0 6 σ v0 fun x1 =>
  if x1 ≤ a then
    k0 () σ
  else
    gR 0 40 σ v0 fun y2 =>
    lI 100 σ y2 a fun x3 =>
    ob 0 σ v0 fun _ => bnd (f_X1_tells v0 (Int32.toInt64 x3) σ) fun _ σ =>
    ag (a + 1) σ
def f_X1_tellsTurn (v0 : Option Nat) (σ : Hp) : Option (Unit × Hp) :=
  pI 0 0 52 σ v0 0 fun σ =>
  lp 2000 (f_X1_tellsTurn_b7 v0 (fun (a4 : Unit) σ =>
      some ((), σ))) 0 σ
theorem ok_X1_tellsTurn_b7 (X : Mx) (v0 : Option Nat) {k0 : Unit → Hp → Option (Unit × Hp)} (hk0 : ∀ (a : Unit) (σ : Hp), GG X mi_X1_tellsTurn (QM X rV) 32 [] [] σ (k0 a σ)) : ∀ (m : Nat) (a : Int32) (σ : Hp), GG X mi_X1_tellsTurn (QM X rV) 7 [(0, vA v0), (1, vI a)] [] σ (lp m (f_X1_tellsTurn_b7 v0 k0) a σ) := by
  refine g_lp (fun (a : Int32) => [(0, vA v0), (1, vI a)]) ?_
  intro ag hag a σ
  unfold f_X1_tellsTurn_b7
  refine g_iload_n 1 dX1_tellsTurn_7 rfl rfl ?_
  refine g_aload_n 0 dX1_tellsTurn_8 rfl rfl ?_
  refine g_getI fo_0_6 (by decide) q180 dX1_tellsTurn_9 fun x1 => ?_
  refine g_icmp_ge 32 dX1_tellsTurn_12 (by decide) ?_ ?_
  · exact g_jmp (hk0 _ _) rfl
  · refine g_aload_n 0 dX1_tellsTurn_15 rfl rfl ?_
    refine g_aload_n 0 dX1_tellsTurn_16 rfl rfl ?_
    refine g_getR fo_0_40 q217 dX1_tellsTurn_17 fun y2 => ?_
    refine g_iload_n 1 dX1_tellsTurn_20 rfl rfl ?_
    refine g_iaload dX1_tellsTurn_21 fun x3 => ?_
    refine g_i2l dX1_tellsTurn_22 ?_
    refine g_callV_V (mm_X1_tells _ _ _) rfl zc_0 q683 q685 qs21 q107 q686 dv_X1_tells rfl (Nat.le_of_ble_eq_true rfl) (Nat.le_of_ble_eq_true rfl) (Nat.le_of_ble_eq_true rfl) dX1_tellsTurn_23 fun _ σ => ?_
    refine g_iinc 1 dX1_tellsTurn_26 (by decide) rfl (lt_b rfl) ?_
    refine g_goto 7 dX1_tellsTurn_29 (by decide) ?_
    exact g_jmp (hag _ _) rfl
theorem mm_X1_tellsTurn (v0 : Option Nat) (σ : Hp) : MM yX1_tellsTurn mi_X1_tellsTurn rV [vA v0] σ (f_X1_tellsTurn v0 σ) := by
  refine mm_of (by decide +kernel) rfl rfl (Nat.le_of_ble_eq_true rfl) ?_
  intro X
  unfold f_X1_tellsTurn
  refine g_aload_n 0 dX1_tellsTurn_0 rfl rfl ?_
  refine g_iconst 0 dX1_tellsTurn_1 (by decide) ?_
  refine g_putI fo_0_52 (by decide) rfl q229 dX1_tellsTurn_2 fun σ => ?_
  refine g_iconst 0 dX1_tellsTurn_5 (by decide) ?_
  refine g_istore_n 1 dX1_tellsTurn_6 rfl (lt_b rfl) ?_
  refine g_jmp (ok_X1_tellsTurn_b7 X v0 ?_ _ _ _) rfl
  · intro a4 σ
    exact g_vret rfl dX1_tellsTurn_32
theorem dd_X1_tellsTurn : yX1_tellsTurn.cls ≠ "java/lang/invoke/MethodHandle" ∧ yX1_tellsTurn.cls ≠ "java/lang/invoke/VarHandle" ∧ (parseMethodDescriptor yX1_tellsTurn.desc).map (fun d => d.parameters.length) = some 0 := by decide +kernel
theorem dv_X1_tellsTurn : yX1_tellsTurn.cls = RX1 ∧ yX1_tellsTurn.cls ≠ "java/lang/invoke/MethodHandle" ∧ yX1_tellsTurn.cls ≠ "java/lang/invoke/VarHandle" ∧ (parseMethodDescriptor yX1_tellsTurn.desc).map (fun d => d.parameters.length) = some 0 := ⟨rfl, dd_X1_tellsTurn⟩
/-! RockingHorse.all()I -/
abbrev mi_X1_all : Mi := (cX1_all, 1, "RockingHorse", 0, some .int, "all")
def f_X1_all (v0 : Option Nat) (σ : Hp) : Option (Int32 × Hp) :=
  gI 0 5 σ v0 fun x1 =>
  some (((shl 1 x1) - 1), σ)
theorem mm_X1_all (v0 : Option Nat) (σ : Hp) : MM yX1_all mi_X1_all rI [vA v0] σ (f_X1_all v0 σ) := by
  refine mm_of (by decide +kernel) rfl rfl (Nat.le_of_ble_eq_true rfl) ?_
  intro X
  unfold f_X1_all
  refine g_iconst 1 dX1_all_0 (by decide) ?_
  refine g_aload_n 0 dX1_all_1 rfl rfl ?_
  refine g_getI fo_0_5 (by decide) q179 dX1_all_2 fun x1 => ?_
  refine g_ishl dX1_all_5 ?_
  refine g_iconst 1 dX1_all_6 (by decide) ?_
  refine g_isub dX1_all_7 ?_
  exact g_iret rfl dX1_all_8
theorem dd_X1_all : yX1_all.cls ≠ "java/lang/invoke/MethodHandle" ∧ yX1_all.cls ≠ "java/lang/invoke/VarHandle" ∧ (parseMethodDescriptor yX1_all.desc).map (fun d => d.parameters.length) = some 0 := by decide +kernel
theorem dv_X1_all : yX1_all.cls = RX1 ∧ yX1_all.cls ≠ "java/lang/invoke/MethodHandle" ∧ yX1_all.cls ≠ "java/lang/invoke/VarHandle" ∧ (parseMethodDescriptor yX1_all.desc).map (fun d => d.parameters.length) = some 0 := ⟨rfl, dd_X1_all⟩
/-! RockingHorse.well()I -/
abbrev mi_X1_well : Mi := (cX1_well, 1, "RockingHorse", 1, some .int, "well")
def f_X1_well (v0 : Option Nat) (σ : Hp) : Option (Int32 × Hp) :=
  ob 0 σ v0 fun _ => bnd (f_X1_all v0 σ) fun x1 σ =>
  gR 0 0 σ v0 fun y2 =>
  gI 1 2 σ y2 fun x3 =>
  some ((x1 &&& (x3 ^^^ (-1))), σ)
theorem mm_X1_well (v0 : Option Nat) (σ : Hp) : MM yX1_well mi_X1_well rI [vA v0] σ (f_X1_well v0 σ) := by
  refine mm_of (by decide +kernel) rfl rfl (Nat.le_of_ble_eq_true rfl) ?_
  intro X
  unfold f_X1_well
  refine g_aload_n 0 dX1_well_0 rfl rfl ?_
  refine g_callV_I (mm_X1_all _ _) rfl zc_0 q782 q784 qs35 q107 q785 dv_X1_all rfl (Nat.le_of_ble_eq_true rfl) (Nat.le_of_ble_eq_true rfl) (Nat.le_of_ble_eq_true rfl) dX1_well_1 fun x1 σ => ?_
  refine g_aload_n 0 dX1_well_4 rfl rfl ?_
  refine g_getR fo_0_0 q171 dX1_well_5 fun y2 => ?_
  refine g_getIN fo_1_2 (by decide) nf_147 dX1_well_8 fun x3 => ?_
  refine g_iconst (-1) dX1_well_11 (by decide) ?_
  refine g_ixor dX1_well_12 ?_
  refine g_iand dX1_well_13 ?_
  exact g_iret rfl dX1_well_14
theorem dd_X1_well : yX1_well.cls ≠ "java/lang/invoke/MethodHandle" ∧ yX1_well.cls ≠ "java/lang/invoke/VarHandle" ∧ (parseMethodDescriptor yX1_well.desc).map (fun d => d.parameters.length) = some 0 := by decide +kernel
theorem dv_X1_well : yX1_well.cls = RX1 ∧ yX1_well.cls ≠ "java/lang/invoke/MethodHandle" ∧ yX1_well.cls ≠ "java/lang/invoke/VarHandle" ∧ (parseMethodDescriptor yX1_well.desc).map (fun d => d.parameters.length) = some 0 := ⟨rfl, dd_X1_well⟩
/-! RockingHorse.shared(II)I -/
abbrev mi_X1_shared : Mi := (cX1_shared, 3, "RockingHorse", 3, some .int, "shared")
def f_X1_shared (v0 : Option Nat) (v1 : Int32) (v2 : Int32) (σ : Hp) : Option (Int32 × Hp) :=
  ob 0 σ v0 fun _ => bnd (f_X1_isPair v0 v1 v2 σ) fun x1 σ =>
  if x1 = 0 then
    some ((-1), σ)
  else
    pI 0 0 52 σ v0 0 fun σ =>
    gR 0 4 σ v0 fun y2 =>
    lI 100 σ y2 v1 fun x3 =>
    gR 0 4 σ v0 fun y4 =>
    lI 100 σ y4 v2 fun x5 =>
    ob 0 σ v0 fun _ => bnd (f_X1_tells v0 (Int32.toInt64 (255 &&& ((x3 ||| x5) ^^^ (-1)))) σ) fun _ σ =>
    gR 0 4 σ v0 fun y6 =>
    lI 100 σ y6 v1 fun x7 =>
    gR 0 4 σ v0 fun y8 =>
    lI 100 σ y8 v2 fun x9 =>
    some ((x7 &&& x9), σ)
theorem mm_X1_shared (v0 : Option Nat) (v1 : Int32) (v2 : Int32) (σ : Hp) : MM yX1_shared mi_X1_shared rI [vA v0, vI v1, vI v2] σ (f_X1_shared v0 v1 v2 σ) := by
  refine mm_of (by decide +kernel) rfl rfl (Nat.le_of_ble_eq_true rfl) ?_
  intro X
  unfold f_X1_shared
  refine g_aload_n 0 dX1_shared_0 rfl rfl ?_
  refine g_iload_n 1 dX1_shared_1 rfl rfl ?_
  refine g_iload_n 2 dX1_shared_2 rfl rfl ?_
  refine g_callV_I (mm_X1_isPair _ _ _ _) rfl zc_0 q704 q706 qs25 q107 q707 dv_X1_isPair rfl (Nat.le_of_ble_eq_true rfl) (Nat.le_of_ble_eq_true rfl) (Nat.le_of_ble_eq_true rfl) dX1_shared_3 fun x1 σ => ?_
  refine g_if_ne 11 dX1_shared_6 (by decide) ?_ ?_
  · refine g_aload_n 0 dX1_shared_11 rfl rfl ?_
    refine g_iconst 0 dX1_shared_12 (by decide) ?_
    refine g_putI fo_0_52 (by decide) rfl q229 dX1_shared_13 fun σ => ?_
    refine g_aload_n 0 dX1_shared_16 rfl rfl ?_
    refine g_sipush 255 dX1_shared_17 (by decide) ?_
    refine g_aload_n 0 dX1_shared_20 rfl rfl ?_
    refine g_getR fo_0_4 q177 dX1_shared_21 fun y2 => ?_
    refine g_iload_n 1 dX1_shared_24 rfl rfl ?_
    refine g_iaload dX1_shared_25 fun x3 => ?_
    refine g_aload_n 0 dX1_shared_26 rfl rfl ?_
    refine g_getR fo_0_4 q177 dX1_shared_27 fun y4 => ?_
    refine g_iload_n 2 dX1_shared_30 rfl rfl ?_
    refine g_iaload dX1_shared_31 fun x5 => ?_
    refine g_ior dX1_shared_32 ?_
    refine g_iconst (-1) dX1_shared_33 (by decide) ?_
    refine g_ixor dX1_shared_34 ?_
    refine g_iand dX1_shared_35 ?_
    refine g_i2l dX1_shared_36 ?_
    refine g_callV_V (mm_X1_tells _ _ _) rfl zc_0 q683 q685 qs21 q107 q686 dv_X1_tells rfl (Nat.le_of_ble_eq_true rfl) (Nat.le_of_ble_eq_true rfl) (Nat.le_of_ble_eq_true rfl) dX1_shared_37 fun _ σ => ?_
    refine g_aload_n 0 dX1_shared_40 rfl rfl ?_
    refine g_getR fo_0_4 q177 dX1_shared_41 fun y6 => ?_
    refine g_iload_n 1 dX1_shared_44 rfl rfl ?_
    refine g_iaload dX1_shared_45 fun x7 => ?_
    refine g_aload_n 0 dX1_shared_46 rfl rfl ?_
    refine g_getR fo_0_4 q177 dX1_shared_47 fun y8 => ?_
    refine g_iload_n 2 dX1_shared_50 rfl rfl ?_
    refine g_iaload dX1_shared_51 fun x9 => ?_
    refine g_iand dX1_shared_52 ?_
    exact g_iret rfl dX1_shared_53
  · refine g_iconst (-1) dX1_shared_9 (by decide) ?_
    exact g_iret rfl dX1_shared_10
theorem dd_X1_shared : yX1_shared.cls ≠ "java/lang/invoke/MethodHandle" ∧ yX1_shared.cls ≠ "java/lang/invoke/VarHandle" ∧ (parseMethodDescriptor yX1_shared.desc).map (fun d => d.parameters.length) = some 2 := by decide +kernel
theorem dv_X1_shared : yX1_shared.cls = RX1 ∧ yX1_shared.cls ≠ "java/lang/invoke/MethodHandle" ∧ yX1_shared.cls ≠ "java/lang/invoke/VarHandle" ∧ (parseMethodDescriptor yX1_shared.desc).map (fun d => d.parameters.length) = some 2 := ⟨rfl, dd_X1_shared⟩
/-! RockingHorse.manyWho(I)I -/
abbrev mi_X1_manyWho : Mi := (cX1_manyWho, 4, "RockingHorse", 1, some .int, "manyWho")
def f_X1_manyWho_b4 (v0 : Option Nat) (v1 : Int32) (k0 : Int32 → Hp → Option (Int32 × Hp)) (ag : (Int32 × Int32) → Hp → Option (Int32 × Hp)) (a : Int32 × Int32) (σ : Hp) : Option (Int32 × Hp) :=
  gI 0 5 σ v0 fun x1 =>
  if x1 ≤ a.2 then
    k0 a.1 σ
  else
    gR 0 4 σ v0 fun y2 =>
    lI 100 σ y2 a.2 fun x3 =>
    bnd (f_X1_has x3 v1 σ) fun x4 σ =>
    jn (fun (a5 : Int32) σ =>
        ag ((a.1 + a5), (a.2 + 1)) σ) fun j6 =>
    if x4 = 0 then
      j6 0 σ
    else
      gR 0 0 σ v0 fun y7 =>
      gI 1 2 σ y7 fun x8 =>
      bnd (f_X1_has x8 a.2 σ) fun x9 σ =>
      if x9 = 0 then
        j6 1 σ
      else
        j6 0 σ
def f_X1_manyWho (v0 : Option Nat) (v1 : Int32) (σ : Hp) : Option (Int32 × Hp) :=
  lp 2000 (f_X1_manyWho_b4 v0 v1 (fun (a10 : Int32) σ =>
      some (a10, σ))) (0, 0) σ
theorem ok_X1_manyWho_b4 (X : Mx) (v0 : Option Nat) (v1 : Int32) {k0 : Int32 → Hp → Option (Int32 × Hp)} (hk0 : ∀ (a : Int32) (σ : Hp), GG X mi_X1_manyWho (QM X rI) 53 [(2, vI a)] [] σ (k0 a σ)) : ∀ (m : Nat) (a : Int32 × Int32) (σ : Hp), GG X mi_X1_manyWho (QM X rI) 4 [(0, vA v0), (1, vI v1), (2, vI a.1), (3, vI a.2)] [] σ (lp m (f_X1_manyWho_b4 v0 v1 k0) a σ) := by
  refine g_lp (fun (a : Int32 × Int32) => [(0, vA v0), (1, vI v1), (2, vI a.1), (3, vI a.2)]) ?_
  intro ag hag a σ
  unfold f_X1_manyWho_b4
  refine g_iload_n 3 dX1_manyWho_4 rfl rfl ?_
  refine g_aload_n 0 dX1_manyWho_5 rfl rfl ?_
  refine g_getI fo_0_5 (by decide) q179 dX1_manyWho_6 fun x1 => ?_
  refine g_icmp_ge 53 dX1_manyWho_9 (by decide) ?_ ?_
  · exact g_jmp (hk0 _ _) rfl
  · refine g_iload_n 2 dX1_manyWho_12 rfl rfl ?_
    refine g_aload_n 0 dX1_manyWho_13 rfl rfl ?_
    refine g_getR fo_0_4 q177 dX1_manyWho_14 fun y2 => ?_
    refine g_iload_n 3 dX1_manyWho_17 rfl rfl ?_
    refine g_iaload dX1_manyWho_18 fun x3 => ?_
    refine g_iload_n 1 dX1_manyWho_19 rfl rfl ?_
    refine g_callS_I (mm_X1_has _ _ _) rfl q677 q678 q107 q679 dd_X1_has rfl (Nat.le_of_ble_eq_true rfl) (Nat.le_of_ble_eq_true rfl) (Nat.le_of_ble_eq_true rfl) dX1_manyWho_20 fun x4 σ => ?_
    refine g_jn (fun j6 => ∀ (a5 : Int32) (σ : Hp), GG X mi_X1_manyWho (QM X rI) 45 [(0, vA v0), (1, vI v1), (3, vI a.2)] [vI a5, vI a.1] σ (j6 a5 σ)) ?_ ?_
    · intro a5 σ
      refine g_iadd dX1_manyWho_45 ?_
      refine g_istore_n 2 dX1_manyWho_46 rfl (lt_b rfl) ?_
      refine g_iinc 1 dX1_manyWho_47 (by decide) rfl (lt_b rfl) ?_
      refine g_goto 4 dX1_manyWho_50 (by decide) ?_
      exact g_jmp (hag _ _) rfl
    · intro j6 hj6
      refine g_if_eq 44 dX1_manyWho_23 (by decide) ?_ ?_
      · refine g_iconst 0 dX1_manyWho_44 (by decide) ?_
        exact g_jmp (hj6 _ _) rfl
      · refine g_aload_n 0 dX1_manyWho_26 rfl rfl ?_
        refine g_getR fo_0_0 q171 dX1_manyWho_27 fun y7 => ?_
        refine g_getIN fo_1_2 (by decide) nf_147 dX1_manyWho_30 fun x8 => ?_
        refine g_iload_n 3 dX1_manyWho_33 rfl rfl ?_
        refine g_callS_I (mm_X1_has _ _ _) rfl q677 q678 q107 q679 dd_X1_has rfl (Nat.le_of_ble_eq_true rfl) (Nat.le_of_ble_eq_true rfl) (Nat.le_of_ble_eq_true rfl) dX1_manyWho_34 fun x9 σ => ?_
        refine g_if_ne 44 dX1_manyWho_37 (by decide) ?_ ?_
        · refine g_iconst 0 dX1_manyWho_44 (by decide) ?_
          exact g_jmp (hj6 _ _) rfl
        · refine g_iconst 1 dX1_manyWho_40 (by decide) ?_
          refine g_goto 45 dX1_manyWho_41 (by decide) ?_
          exact g_jmp (hj6 _ _) rfl
theorem mm_X1_manyWho (v0 : Option Nat) (v1 : Int32) (σ : Hp) : MM yX1_manyWho mi_X1_manyWho rI [vA v0, vI v1] σ (f_X1_manyWho v0 v1 σ) := by
  refine mm_of (by decide +kernel) rfl rfl (Nat.le_of_ble_eq_true rfl) ?_
  intro X
  unfold f_X1_manyWho
  refine g_iconst 0 dX1_manyWho_0 (by decide) ?_
  refine g_istore_n 2 dX1_manyWho_1 rfl (lt_b rfl) ?_
  refine g_iconst 0 dX1_manyWho_2 (by decide) ?_
  refine g_istore_n 3 dX1_manyWho_3 rfl (lt_b rfl) ?_
  refine g_jmp (ok_X1_manyWho_b4 X v0 v1 ?_ _ _ _) rfl
  · intro a10 σ
    refine g_iload_n 2 dX1_manyWho_53 rfl rfl ?_
    exact g_iret rfl dX1_manyWho_54
theorem dd_X1_manyWho : yX1_manyWho.cls ≠ "java/lang/invoke/MethodHandle" ∧ yX1_manyWho.cls ≠ "java/lang/invoke/VarHandle" ∧ (parseMethodDescriptor yX1_manyWho.desc).map (fun d => d.parameters.length) = some 1 := by decide +kernel
theorem dv_X1_manyWho : yX1_manyWho.cls = RX1 ∧ yX1_manyWho.cls ≠ "java/lang/invoke/MethodHandle" ∧ yX1_manyWho.cls ≠ "java/lang/invoke/VarHandle" ∧ (parseMethodDescriptor yX1_manyWho.desc).map (fun d => d.parameters.length) = some 1 := ⟨rfl, dd_X1_manyWho⟩
/-! RockingHorse.changes()I -/
abbrev mi_X1_changes : Mi := (cX1_changes, 8, "RockingHorse", 1, some .int, "changes")
def f_X1_changes_b9 (v0 : Option Nat) (k0 : (Int32 × Int32 × Int32) → Hp → Option (Int32 × Hp)) (ag : (Int32 × Int32 × Int32 × Int32) → Hp → Option (Int32 × Hp)) (a : Int32 × Int32 × Int32 × Int32) (σ : Hp) : Option (Int32 × Hp) :=
  gI 0 6 σ v0 fun x1 =>
  if x1 ≤ a.2.2.2 then
    k0 (a.1, a.2.1, a.2.2.1) σ
  else
    gR 0 0 σ v0 fun y2 =>
    gR 1 0 σ y2 fun y3 =>
    lI 100 σ y3 (a.2.2.2 - 1) fun x4 =>
    gR 0 0 σ v0 fun y5 =>
    gR 1 0 σ y5 fun y6 =>
    lI 100 σ y6 a.2.2.2 fun x7 =>
    jn (fun (a8 : Int32 × Int32 × Int32) σ =>
        ag (a8.1, a8.2.1, a8.2.2, (a.2.2.2 + 1)) σ) fun j9 =>
    if x4 < 0 then
      j9 (a.1, a.2.1, a.2.2.1) σ
    else
      if x7 < 0 then
        j9 (a.1, a.2.1, a.2.2.1) σ
      else
        if x4 = x7 then
          j9 (a.1, a.2.1, a.2.2.1) σ
        else
          gR 0 3 σ v0 fun y10 =>
          lI 100 σ y10 x4 fun x11 =>
          gR 0 3 σ v0 fun y12 =>
          lI 100 σ y12 x7 fun x13 =>
          gI 0 7 σ v0 fun x14 =>
          jn (fun (a15 : Int32) σ =>
              j9 ((a.1 + 1), (a.2.1 + a15), (a.2.2.1 + (iabs (x11 - x13)))) σ) fun j16 =>
          if (iabs (x11 - x13)) ≤ x14 then
            j16 0 σ
          else
            j16 1 σ
def f_X1_changes (v0 : Option Nat) (σ : Hp) : Option (Int32 × Hp) :=
  lp 2000 (f_X1_changes_b9 v0 (fun (a17 : Int32 × Int32 × Int32) σ =>
      pI 0 0 52 σ v0 0 fun σ =>
      ob 0 σ v0 fun _ => bnd (f_X1_tells v0 (Int32.toInt64 a17.2.1) σ) fun _ σ =>
      ob 0 σ v0 fun _ => bnd (f_X1_tells v0 (Int32.toInt64 a17.2.2) σ) fun _ σ =>
      some (a17.1, σ))) (0, 0, 0, 1) σ
theorem ok_X1_changes_b9 (X : Mx) (v0 : Option Nat) {k0 : (Int32 × Int32 × Int32) → Hp → Option (Int32 × Hp)} (hk0 : ∀ (a : Int32 × Int32 × Int32) (σ : Hp), GG X mi_X1_changes (QM X rI) 115 [(0, vA v0), (1, vI a.1), (2, vI a.2.1), (3, vI a.2.2)] [] σ (k0 a σ)) : ∀ (m : Nat) (a : Int32 × Int32 × Int32 × Int32) (σ : Hp), GG X mi_X1_changes (QM X rI) 9 [(0, vA v0), (1, vI a.1), (2, vI a.2.1), (3, vI a.2.2.1), (4, vI a.2.2.2)] [] σ (lp m (f_X1_changes_b9 v0 k0) a σ) := by
  refine g_lp (fun (a : Int32 × Int32 × Int32 × Int32) => [(0, vA v0), (1, vI a.1), (2, vI a.2.1), (3, vI a.2.2.1), (4, vI a.2.2.2)]) ?_
  intro ag hag a σ
  unfold f_X1_changes_b9
  refine g_iload dX1_changes_9 rfl ?_
  refine g_aload_n 0 dX1_changes_11 rfl rfl ?_
  refine g_getI fo_0_6 (by decide) q180 dX1_changes_12 fun x1 => ?_
  refine g_icmp_ge 115 dX1_changes_15 (by decide) ?_ ?_
  · exact g_jmp (hk0 _ _) rfl
  · refine g_aload_n 0 dX1_changes_18 rfl rfl ?_
    refine g_getR fo_0_0 q171 dX1_changes_19 fun y2 => ?_
    refine g_getRN fo_1_0 nf_142 dX1_changes_22 fun y3 => ?_
    refine g_iload dX1_changes_25 rfl ?_
    refine g_iconst 1 dX1_changes_27 (by decide) ?_
    refine g_isub dX1_changes_28 ?_
    refine g_iaload dX1_changes_29 fun x4 => ?_
    refine g_istore dX1_changes_30 (lt_b rfl) ?_
    refine g_aload_n 0 dX1_changes_32 rfl rfl ?_
    refine g_getR fo_0_0 q171 dX1_changes_33 fun y5 => ?_
    refine g_getRN fo_1_0 nf_142 dX1_changes_36 fun y6 => ?_
    refine g_iload dX1_changes_39 rfl ?_
    refine g_iaload dX1_changes_41 fun x7 => ?_
    refine g_istore dX1_changes_42 (lt_b rfl) ?_
    refine g_iload dX1_changes_44 rfl ?_
    refine g_jn (fun j9 => ∀ (a8 : Int32 × Int32 × Int32) (σ : Hp), GG X mi_X1_changes (QM X rI) 109 [(0, vA v0), (1, vI a8.1), (2, vI a8.2.1), (3, vI a8.2.2), (4, vI a.2.2.2)] [] σ (j9 a8 σ)) ?_ ?_
    · intro a8 σ
      refine g_iinc 1 dX1_changes_109 (by decide) rfl (lt_b rfl) ?_
      refine g_goto 9 dX1_changes_112 (by decide) ?_
      exact g_jmp (hag _ _) rfl
    · intro j9 hj9
      refine g_if_lt 109 dX1_changes_46 (by decide) ?_ ?_
      · exact g_jmp (hj9 _ _) rfl
      · refine g_iload dX1_changes_49 rfl ?_
        refine g_if_lt 109 dX1_changes_51 (by decide) ?_ ?_
        · exact g_jmp (hj9 _ _) rfl
        · refine g_iload dX1_changes_54 rfl ?_
          refine g_iload dX1_changes_56 rfl ?_
          refine g_icmp_ne 64 dX1_changes_58 (by decide) ?_ ?_
          · refine g_aload_n 0 dX1_changes_64 rfl rfl ?_
            refine g_getR fo_0_3 q175 dX1_changes_65 fun y10 => ?_
            refine g_iload dX1_changes_68 rfl ?_
            refine g_iaload dX1_changes_70 fun x11 => ?_
            refine g_aload_n 0 dX1_changes_71 rfl rfl ?_
            refine g_getR fo_0_3 q175 dX1_changes_72 fun y12 => ?_
            refine g_iload dX1_changes_75 rfl ?_
            refine g_iaload dX1_changes_77 fun x13 => ?_
            refine g_isub dX1_changes_78 ?_
            refine g_mabs q680 (by decide) (Nat.le_of_ble_eq_true rfl) dX1_changes_79 ?_
            refine g_istore dX1_changes_82 (lt_b rfl) ?_
            refine g_iinc 1 dX1_changes_84 (by decide) rfl (lt_b rfl) ?_
            refine g_iload_n 2 dX1_changes_87 rfl rfl ?_
            refine g_iload dX1_changes_88 rfl ?_
            refine g_aload_n 0 dX1_changes_90 rfl rfl ?_
            refine g_getI fo_0_7 (by decide) q181 dX1_changes_91 fun x14 => ?_
            refine g_jn (fun j16 => ∀ (a15 : Int32) (σ : Hp), GG X mi_X1_changes (QM X rI) 102 [(0, vA v0), (1, vI (a.1 + 1)), (3, vI a.2.2.1), (4, vI a.2.2.2), (7, vI (iabs (x11 - x13)))] [vI a15, vI a.2.1] σ (j16 a15 σ)) ?_ ?_
            · intro a15 σ
              refine g_iadd dX1_changes_102 ?_
              refine g_istore_n 2 dX1_changes_103 rfl (lt_b rfl) ?_
              refine g_iload_n 3 dX1_changes_104 rfl rfl ?_
              refine g_iload dX1_changes_105 rfl ?_
              refine g_iadd dX1_changes_107 ?_
              refine g_istore_n 3 dX1_changes_108 rfl (lt_b rfl) ?_
              exact g_jmp (hj9 _ _) rfl
            · intro j16 hj16
              refine g_icmp_le 101 dX1_changes_94 (by decide) ?_ ?_
              · refine g_iconst 0 dX1_changes_101 (by decide) ?_
                exact g_jmp (hj16 _ _) rfl
              · refine g_iconst 1 dX1_changes_97 (by decide) ?_
                refine g_goto 102 dX1_changes_98 (by decide) ?_
                exact g_jmp (hj16 _ _) rfl
          · refine g_goto 109 dX1_changes_61 (by decide) ?_
            exact g_jmp (hj9 _ _) rfl
theorem mm_X1_changes (v0 : Option Nat) (σ : Hp) : MM yX1_changes mi_X1_changes rI [vA v0] σ (f_X1_changes v0 σ) := by
  refine mm_of (by decide +kernel) rfl rfl (Nat.le_of_ble_eq_true rfl) ?_
  intro X
  unfold f_X1_changes
  refine g_iconst 0 dX1_changes_0 (by decide) ?_
  refine g_istore_n 1 dX1_changes_1 rfl (lt_b rfl) ?_
  refine g_iconst 0 dX1_changes_2 (by decide) ?_
  refine g_istore_n 2 dX1_changes_3 rfl (lt_b rfl) ?_
  refine g_iconst 0 dX1_changes_4 (by decide) ?_
  refine g_istore_n 3 dX1_changes_5 rfl (lt_b rfl) ?_
  refine g_iconst 1 dX1_changes_6 (by decide) ?_
  refine g_istore dX1_changes_7 (lt_b rfl) ?_
  refine g_jmp (ok_X1_changes_b9 X v0 ?_ _ _ _) rfl
  · intro a17 σ
    refine g_aload_n 0 dX1_changes_115 rfl rfl ?_
    refine g_iconst 0 dX1_changes_116 (by decide) ?_
    refine g_putI fo_0_52 (by decide) rfl q229 dX1_changes_117 fun σ => ?_
    refine g_aload_n 0 dX1_changes_120 rfl rfl ?_
    refine g_iload_n 2 dX1_changes_121 rfl rfl ?_
    refine g_i2l dX1_changes_122 ?_
    refine g_callV_V (mm_X1_tells _ _ _) rfl zc_0 q683 q685 qs21 q107 q686 dv_X1_tells rfl (Nat.le_of_ble_eq_true rfl) (Nat.le_of_ble_eq_true rfl) (Nat.le_of_ble_eq_true rfl) dX1_changes_123 fun _ σ => ?_
    refine g_aload_n 0 dX1_changes_126 rfl rfl ?_
    refine g_iload_n 3 dX1_changes_127 rfl rfl ?_
    refine g_i2l dX1_changes_128 ?_
    refine g_callV_V (mm_X1_tells _ _ _) rfl zc_0 q683 q685 qs21 q107 q686 dv_X1_tells rfl (Nat.le_of_ble_eq_true rfl) (Nat.le_of_ble_eq_true rfl) (Nat.le_of_ble_eq_true rfl) dX1_changes_129 fun _ σ => ?_
    refine g_iload_n 1 dX1_changes_132 rfl rfl ?_
    exact g_iret rfl dX1_changes_133
theorem dd_X1_changes : yX1_changes.cls ≠ "java/lang/invoke/MethodHandle" ∧ yX1_changes.cls ≠ "java/lang/invoke/VarHandle" ∧ (parseMethodDescriptor yX1_changes.desc).map (fun d => d.parameters.length) = some 0 := by decide +kernel
theorem dv_X1_changes : yX1_changes.cls = RX1 ∧ yX1_changes.cls ≠ "java/lang/invoke/MethodHandle" ∧ yX1_changes.cls ≠ "java/lang/invoke/VarHandle" ∧ (parseMethodDescriptor yX1_changes.desc).map (fun d => d.parameters.length) = some 0 := ⟨rfl, dd_X1_changes⟩
/-! RockingHorse.meets(III)I -/
abbrev mi_X1_meets : Mi := (cX1_meets, 7, "RockingHorse", 3, some .int, "meets")
def f_X1_meets_b37 (v0 : Option Nat) (v1 : Int32) (v2 : Int32) (v3 : Int32) (k0 : (Int32 × Int32) → Hp → Option (Int32 × Hp)) (ag : (Int32 × Int32 × Int32) → Hp → Option (Int32 × Hp)) (a : Int32 × Int32 × Int32) (σ : Hp) : Option (Int32 × Hp) :=
  if a.2.2 ≤ 0 then
    k0 (a.1, a.2.1) σ
  else
    gR 0 3 σ v0 fun y3 =>
    lI 100 σ y3 v1 fun x4 =>
    idv v3 <|
    gR 0 3 σ v0 fun y5 =>
    lI 100 σ y5 v2 fun x6 =>
    idv v3 <|
    jn (fun (a7 : Int32 × Int32) σ =>
        ag (a7.1, a7.2, (a.2.2 + (-1))) σ) fun j8 =>
    if (irm ((x4 * a.2.2) + v1) v3) = (irm ((x6 * a.2.2) + v2) v3) then
      j8 (a.2.2, (a.2.1 + 1)) σ
    else
      j8 (a.1, a.2.1) σ
def f_X1_meets (v0 : Option Nat) (v1 : Int32) (v2 : Int32) (v3 : Int32) (σ : Hp) : Option (Int32 × Hp) :=
  ob 0 σ v0 fun _ => bnd (f_X1_isPair v0 v1 v2 σ) fun x1 σ =>
  if x1 = 0 then
    some ((-1), σ)
  else
    bnd (f_X1_in (Int32.toInt64 v3) 2 40 σ) fun x2 σ =>
    if x2 = 0 then
      some ((-1), σ)
    else
      lp 2000 (f_X1_meets_b37 v0 v1 v2 v3 (fun (a9 : Int32 × Int32) σ =>
          if 0 ≤ a9.1 then
            pI 0 0 52 σ v0 0 fun σ =>
            gR 0 3 σ v0 fun y10 =>
            lI 100 σ y10 v1 fun x11 =>
            idv v3 <|
            ob 0 σ v0 fun _ => bnd (f_X1_tells v0 (Int32.toInt64 (irm ((x11 * a9.1) + v1) v3)) σ) fun _ σ =>
            ob 0 σ v0 fun _ => bnd (f_X1_tells v0 (Int32.toInt64 a9.2) σ) fun _ σ =>
            some (a9.1, σ)
          else
            some ((-2), σ))) ((-2), 0, 999) σ
theorem ok_X1_meets_b37 (X : Mx) (v0 : Option Nat) (v1 : Int32) (v2 : Int32) (v3 : Int32) {k0 : (Int32 × Int32) → Hp → Option (Int32 × Hp)} (hk0 : ∀ (a : Int32 × Int32) (σ : Hp), GG X mi_X1_meets (QM X rI) 87 [(0, vA v0), (1, vI v1), (3, vI v3), (4, vI a.1), (5, vI a.2)] [] σ (k0 a σ)) : ∀ (m : Nat) (a : Int32 × Int32 × Int32) (σ : Hp), GG X mi_X1_meets (QM X rI) 37 [(0, vA v0), (1, vI v1), (2, vI v2), (3, vI v3), (4, vI a.1), (5, vI a.2.1), (6, vI a.2.2)] [] σ (lp m (f_X1_meets_b37 v0 v1 v2 v3 k0) a σ) := by
  refine g_lp (fun (a : Int32 × Int32 × Int32) => [(0, vA v0), (1, vI v1), (2, vI v2), (3, vI v3), (4, vI a.1), (5, vI a.2.1), (6, vI a.2.2)]) ?_
  intro ag hag a σ
  unfold f_X1_meets_b37
  refine g_iload dX1_meets_37 rfl ?_
  refine g_if_le 87 dX1_meets_39 (by decide) ?_ ?_
  · exact g_jmp (hk0 _ _) rfl
  · refine g_aload_n 0 dX1_meets_42 rfl rfl ?_
    refine g_getR fo_0_3 q175 dX1_meets_43 fun y3 => ?_
    refine g_iload_n 1 dX1_meets_46 rfl rfl ?_
    refine g_iaload dX1_meets_47 fun x4 => ?_
    refine g_iload dX1_meets_48 rfl ?_
    refine g_imul dX1_meets_50 ?_
    refine g_iload_n 1 dX1_meets_51 rfl rfl ?_
    refine g_iadd dX1_meets_52 ?_
    refine g_iload_n 3 dX1_meets_53 rfl rfl ?_
    refine g_irem dX1_meets_54 ?_
    refine g_aload_n 0 dX1_meets_55 rfl rfl ?_
    refine g_getR fo_0_3 q175 dX1_meets_56 fun y5 => ?_
    refine g_iload_n 2 dX1_meets_59 rfl rfl ?_
    refine g_iaload dX1_meets_60 fun x6 => ?_
    refine g_iload dX1_meets_61 rfl ?_
    refine g_imul dX1_meets_63 ?_
    refine g_iload_n 2 dX1_meets_64 rfl rfl ?_
    refine g_iadd dX1_meets_65 ?_
    refine g_iload_n 3 dX1_meets_66 rfl rfl ?_
    refine g_irem dX1_meets_67 ?_
    refine g_jn (fun j8 => ∀ (a7 : Int32 × Int32) (σ : Hp), GG X mi_X1_meets (QM X rI) 81 [(0, vA v0), (1, vI v1), (2, vI v2), (3, vI v3), (4, vI a7.1), (5, vI a7.2), (6, vI a.2.2)] [] σ (j8 a7 σ)) ?_ ?_
    · intro a7 σ
      refine g_iinc (-1) dX1_meets_81 (by decide) rfl (lt_b rfl) ?_
      refine g_goto 37 dX1_meets_84 (by decide) ?_
      exact g_jmp (hag _ _) rfl
    · intro j8 hj8
      refine g_icmp_eq 74 dX1_meets_68 (by decide) ?_ ?_
      · refine g_iload dX1_meets_74 rfl ?_
        refine g_istore dX1_meets_76 (lt_b rfl) ?_
        refine g_iinc 1 dX1_meets_78 (by decide) rfl (lt_b rfl) ?_
        exact g_jmp (hj8 _ _) rfl
      · refine g_goto 81 dX1_meets_71 (by decide) ?_
        exact g_jmp (hj8 _ _) rfl
theorem mm_X1_meets (v0 : Option Nat) (v1 : Int32) (v2 : Int32) (v3 : Int32) (σ : Hp) : MM yX1_meets mi_X1_meets rI [vA v0, vI v1, vI v2, vI v3] σ (f_X1_meets v0 v1 v2 v3 σ) := by
  refine mm_of (by decide +kernel) rfl rfl (Nat.le_of_ble_eq_true rfl) ?_
  intro X
  unfold f_X1_meets
  refine g_aload_n 0 dX1_meets_0 rfl rfl ?_
  refine g_iload_n 1 dX1_meets_1 rfl rfl ?_
  refine g_iload_n 2 dX1_meets_2 rfl rfl ?_
  refine g_callV_I (mm_X1_isPair _ _ _ _) rfl zc_0 q704 q706 qs25 q107 q707 dv_X1_isPair rfl (Nat.le_of_ble_eq_true rfl) (Nat.le_of_ble_eq_true rfl) (Nat.le_of_ble_eq_true rfl) dX1_meets_3 fun x1 σ => ?_
  refine g_if_eq 23 dX1_meets_6 (by decide) ?_ ?_
  · refine g_iconst (-1) dX1_meets_23 (by decide) ?_
    exact g_iret rfl dX1_meets_24
  · refine g_iload_n 3 dX1_meets_9 rfl rfl ?_
    refine g_i2l dX1_meets_10 ?_
    refine g_ldc2_w dX1_meets_11 q867 ?_
    refine g_ldc2_w dX1_meets_14 q868 ?_
    refine g_callS_I (mm_X1_in _ _ _ _) rfl q346 q347 q107 q348 dd_X1_in rfl (Nat.le_of_ble_eq_true rfl) (Nat.le_of_ble_eq_true rfl) (Nat.le_of_ble_eq_true rfl) dX1_meets_17 fun x2 σ => ?_
    refine g_if_ne 25 dX1_meets_20 (by decide) ?_ ?_
    · refine g_bipush (-2) dX1_meets_25 (by decide) ?_
      refine g_istore dX1_meets_27 (lt_b rfl) ?_
      refine g_iconst 0 dX1_meets_29 (by decide) ?_
      refine g_istore dX1_meets_30 (lt_b rfl) ?_
      refine g_sipush 999 dX1_meets_32 (by decide) ?_
      refine g_istore dX1_meets_35 (lt_b rfl) ?_
      refine g_jmp (ok_X1_meets_b37 X v0 v1 v2 v3 ?_ _ _ _) rfl
      · intro a9 σ
        refine g_iload dX1_meets_87 rfl ?_
        refine g_if_ge 95 dX1_meets_89 (by decide) ?_ ?_
        · refine g_aload_n 0 dX1_meets_95 rfl rfl ?_
          refine g_iconst 0 dX1_meets_96 (by decide) ?_
          refine g_putI fo_0_52 (by decide) rfl q229 dX1_meets_97 fun σ => ?_
          refine g_aload_n 0 dX1_meets_100 rfl rfl ?_
          refine g_aload_n 0 dX1_meets_101 rfl rfl ?_
          refine g_getR fo_0_3 q175 dX1_meets_102 fun y10 => ?_
          refine g_iload_n 1 dX1_meets_105 rfl rfl ?_
          refine g_iaload dX1_meets_106 fun x11 => ?_
          refine g_iload dX1_meets_107 rfl ?_
          refine g_imul dX1_meets_109 ?_
          refine g_iload_n 1 dX1_meets_110 rfl rfl ?_
          refine g_iadd dX1_meets_111 ?_
          refine g_iload_n 3 dX1_meets_112 rfl rfl ?_
          refine g_irem dX1_meets_113 ?_
          refine g_i2l dX1_meets_114 ?_
          refine g_callV_V (mm_X1_tells _ _ _) rfl zc_0 q683 q685 qs21 q107 q686 dv_X1_tells rfl (Nat.le_of_ble_eq_true rfl) (Nat.le_of_ble_eq_true rfl) (Nat.le_of_ble_eq_true rfl) dX1_meets_115 fun _ σ => ?_
          refine g_aload_n 0 dX1_meets_118 rfl rfl ?_
          refine g_iload dX1_meets_119 rfl ?_
          refine g_i2l dX1_meets_121 ?_
          refine g_callV_V (mm_X1_tells _ _ _) rfl zc_0 q683 q685 qs21 q107 q686 dv_X1_tells rfl (Nat.le_of_ble_eq_true rfl) (Nat.le_of_ble_eq_true rfl) (Nat.le_of_ble_eq_true rfl) dX1_meets_122 fun _ σ => ?_
          refine g_iload dX1_meets_125 rfl ?_
          exact g_iret rfl dX1_meets_127
        · refine g_bipush (-2) dX1_meets_92 (by decide) ?_
          exact g_iret rfl dX1_meets_94
    · refine g_iconst (-1) dX1_meets_23 (by decide) ?_
      exact g_iret rfl dX1_meets_24
theorem dd_X1_meets : yX1_meets.cls ≠ "java/lang/invoke/MethodHandle" ∧ yX1_meets.cls ≠ "java/lang/invoke/VarHandle" ∧ (parseMethodDescriptor yX1_meets.desc).map (fun d => d.parameters.length) = some 3 := by decide +kernel
theorem dv_X1_meets : yX1_meets.cls = RX1 ∧ yX1_meets.cls ≠ "java/lang/invoke/MethodHandle" ∧ yX1_meets.cls ≠ "java/lang/invoke/VarHandle" ∧ (parseMethodDescriptor yX1_meets.desc).map (fun d => d.parameters.length) = some 3 := ⟨rfl, dd_X1_meets⟩
/-! RockingHorse.found(III)I -/
abbrev mi_X1_found : Mi := (cX1_found, 4, "RockingHorse", 2, some .int, "found")
def f_X1_found (v0 : Option Nat) (v1 : Int32) (v2 : Int32) (v3 : Int32) (σ : Hp) : Option (Int32 × Hp) :=
  bnd (f_X1_in (Int32.toInt64 v1) 0 7 σ) fun x1 σ =>
  if x1 = 0 then
    some ((-1), σ)
  else
    ob 0 σ v0 fun _ => bnd (f_X1_isRider v0 v2 σ) fun x2 σ =>
    if x2 = 0 then
      some ((-1), σ)
    else
      bnd (f_X1_in (Int32.toInt64 v3) 0 1 σ) fun x3 σ =>
      if x3 = 0 then
        some ((-1), σ)
      else
        gI 0 44 σ v0 fun x4 =>
        if x4 = 12 then
          some ((-1), σ)
        else
          gR 0 45 σ v0 fun y5 =>
          gI 0 44 σ v0 fun x6 =>
          sI σ y5 x6 v1 fun σ =>
          gR 0 46 σ v0 fun y7 =>
          gI 0 44 σ v0 fun x8 =>
          sI σ y7 x8 v2 fun σ =>
          gR 0 47 σ v0 fun y9 =>
          gI 0 44 σ v0 fun x10 =>
          sI σ y9 x10 v3 fun σ =>
          gI 0 44 σ v0 fun x11 =>
          pI 0 0 44 σ v0 (x11 + 1) fun σ =>
          gI 0 44 σ v0 fun x12 =>
          some (x12, σ)
theorem mm_X1_found (v0 : Option Nat) (v1 : Int32) (v2 : Int32) (v3 : Int32) (σ : Hp) : MM yX1_found mi_X1_found rI [vA v0, vI v1, vI v2, vI v3] σ (f_X1_found v0 v1 v2 v3 σ) := by
  refine mm_of (by decide +kernel) rfl rfl (Nat.le_of_ble_eq_true rfl) ?_
  intro X
  unfold f_X1_found
  refine g_iload_n 1 dX1_found_0 rfl rfl ?_
  refine g_i2l dX1_found_1 ?_
  refine g_lconst 0 dX1_found_2 (by decide) ?_
  refine g_ldc2_w dX1_found_3 q580 ?_
  refine g_callS_I (mm_X1_in _ _ _ _) rfl q346 q347 q107 q348 dd_X1_in rfl (Nat.le_of_ble_eq_true rfl) (Nat.le_of_ble_eq_true rfl) (Nat.le_of_ble_eq_true rfl) dX1_found_6 fun x1 σ => ?_
  refine g_if_eq 39 dX1_found_9 (by decide) ?_ ?_
  · refine g_iconst (-1) dX1_found_39 (by decide) ?_
    exact g_iret rfl dX1_found_40
  · refine g_aload_n 0 dX1_found_12 rfl rfl ?_
    refine g_iload_n 2 dX1_found_13 rfl rfl ?_
    refine g_callV_I (mm_X1_isRider _ _ _) rfl zc_0 q576 q578 qs12 q107 q579 dv_X1_isRider rfl (Nat.le_of_ble_eq_true rfl) (Nat.le_of_ble_eq_true rfl) (Nat.le_of_ble_eq_true rfl) dX1_found_14 fun x2 σ => ?_
    refine g_if_eq 39 dX1_found_17 (by decide) ?_ ?_
    · refine g_iconst (-1) dX1_found_39 (by decide) ?_
      exact g_iret rfl dX1_found_40
    · refine g_iload_n 3 dX1_found_20 rfl rfl ?_
      refine g_i2l dX1_found_21 ?_
      refine g_lconst 0 dX1_found_22 (by decide) ?_
      refine g_lconst 1 dX1_found_23 (by decide) ?_
      refine g_callS_I (mm_X1_in _ _ _ _) rfl q346 q347 q107 q348 dd_X1_in rfl (Nat.le_of_ble_eq_true rfl) (Nat.le_of_ble_eq_true rfl) (Nat.le_of_ble_eq_true rfl) dX1_found_24 fun x3 σ => ?_
      refine g_if_eq 39 dX1_found_27 (by decide) ?_ ?_
      · refine g_iconst (-1) dX1_found_39 (by decide) ?_
        exact g_iret rfl dX1_found_40
      · refine g_aload_n 0 dX1_found_30 rfl rfl ?_
        refine g_getI fo_0_44 (by decide) q221 dX1_found_31 fun x4 => ?_
        refine g_bipush 12 dX1_found_34 (by decide) ?_
        refine g_icmp_ne 41 dX1_found_36 (by decide) ?_ ?_
        · refine g_aload_n 0 dX1_found_41 rfl rfl ?_
          refine g_getR fo_0_45 q222 dX1_found_42 fun y5 => ?_
          refine g_aload_n 0 dX1_found_45 rfl rfl ?_
          refine g_getI fo_0_44 (by decide) q221 dX1_found_46 fun x6 => ?_
          refine g_iload_n 1 dX1_found_49 rfl rfl ?_
          refine g_iastore dX1_found_50 fun σ => ?_
          refine g_aload_n 0 dX1_found_51 rfl rfl ?_
          refine g_getR fo_0_46 q223 dX1_found_52 fun y7 => ?_
          refine g_aload_n 0 dX1_found_55 rfl rfl ?_
          refine g_getI fo_0_44 (by decide) q221 dX1_found_56 fun x8 => ?_
          refine g_iload_n 2 dX1_found_59 rfl rfl ?_
          refine g_iastore dX1_found_60 fun σ => ?_
          refine g_aload_n 0 dX1_found_61 rfl rfl ?_
          refine g_getR fo_0_47 q224 dX1_found_62 fun y9 => ?_
          refine g_aload_n 0 dX1_found_65 rfl rfl ?_
          refine g_getI fo_0_44 (by decide) q221 dX1_found_66 fun x10 => ?_
          refine g_iload_n 3 dX1_found_69 rfl rfl ?_
          refine g_iastore dX1_found_70 fun σ => ?_
          refine g_aload_n 0 dX1_found_71 rfl rfl ?_
          refine g_dup dX1_found_72 rfl ?_
          refine g_getI fo_0_44 (by decide) q221 dX1_found_73 fun x11 => ?_
          refine g_iconst 1 dX1_found_76 (by decide) ?_
          refine g_iadd dX1_found_77 ?_
          refine g_putI fo_0_44 (by decide) rfl q221 dX1_found_78 fun σ => ?_
          refine g_aload_n 0 dX1_found_81 rfl rfl ?_
          refine g_getI fo_0_44 (by decide) q221 dX1_found_82 fun x12 => ?_
          exact g_iret rfl dX1_found_85
        · refine g_iconst (-1) dX1_found_39 (by decide) ?_
          exact g_iret rfl dX1_found_40
theorem dd_X1_found : yX1_found.cls ≠ "java/lang/invoke/MethodHandle" ∧ yX1_found.cls ≠ "java/lang/invoke/VarHandle" ∧ (parseMethodDescriptor yX1_found.desc).map (fun d => d.parameters.length) = some 3 := by decide +kernel
theorem dv_X1_found : yX1_found.cls = RX1 ∧ yX1_found.cls ≠ "java/lang/invoke/MethodHandle" ∧ yX1_found.cls ≠ "java/lang/invoke/VarHandle" ∧ (parseMethodDescriptor yX1_found.desc).map (fun d => d.parameters.length) = some 3 := ⟨rfl, dd_X1_found⟩
/-! RockingHorse.forget()I -/
abbrev mi_X1_forget : Mi := (cX1_forget, 2, "RockingHorse", 0, some .int, "forget")
def f_X1_forget (v0 : Option Nat) (σ : Hp) : Option (Int32 × Hp) :=
  gI 0 44 σ v0 fun x1 =>
  pI 0 0 44 σ v0 0 fun σ =>
  some (x1, σ)
theorem mm_X1_forget (v0 : Option Nat) (σ : Hp) : MM yX1_forget mi_X1_forget rI [vA v0] σ (f_X1_forget v0 σ) := by
  refine mm_of (by decide +kernel) rfl rfl (Nat.le_of_ble_eq_true rfl) ?_
  intro X
  unfold f_X1_forget
  refine g_aload_n 0 dX1_forget_0 rfl rfl ?_
  refine g_getI fo_0_44 (by decide) q221 dX1_forget_1 fun x1 => ?_
  refine g_istore_n 1 dX1_forget_4 rfl (lt_b rfl) ?_
  refine g_aload_n 0 dX1_forget_5 rfl rfl ?_
  refine g_iconst 0 dX1_forget_6 (by decide) ?_
  refine g_putI fo_0_44 (by decide) rfl q221 dX1_forget_7 fun σ => ?_
  refine g_iload_n 1 dX1_forget_10 rfl rfl ?_
  exact g_iret rfl dX1_forget_11
theorem dd_X1_forget : yX1_forget.cls ≠ "java/lang/invoke/MethodHandle" ∧ yX1_forget.cls ≠ "java/lang/invoke/VarHandle" ∧ (parseMethodDescriptor yX1_forget.desc).map (fun d => d.parameters.length) = some 0 := by decide +kernel
theorem dv_X1_forget : yX1_forget.cls = RX1 ∧ yX1_forget.cls ≠ "java/lang/invoke/MethodHandle" ∧ yX1_forget.cls ≠ "java/lang/invoke/VarHandle" ∧ (parseMethodDescriptor yX1_forget.desc).map (fun d => d.parameters.length) = some 0 := ⟨rfl, dd_X1_forget⟩
/-! RockingHorse.isHour(I)Z -/
abbrev mi_X1_isHour : Mi := (cX1_isHour, 2, "RockingHorse", 1, some .boolean, "isHour")
def f_X1_isHour (v0 : Option Nat) (v1 : Int32) (σ : Hp) : Option (Int32 × Hp) :=
  gI 0 6 σ v0 fun x1 =>
  bnd (f_X1_in (Int32.toInt64 v1) 0 (Int32.toInt64 (x1 - 1)) σ) fun x2 σ =>
  rz1 x2 σ
theorem mm_X1_isHour (v0 : Option Nat) (v1 : Int32) (σ : Hp) : MM yX1_isHour mi_X1_isHour rI [vA v0, vI v1] σ (f_X1_isHour v0 v1 σ) := by
  refine mm_of (by decide +kernel) rfl rfl (Nat.le_of_ble_eq_true rfl) ?_
  intro X
  unfold f_X1_isHour
  refine g_iload_n 1 dX1_isHour_0 rfl rfl ?_
  refine g_i2l dX1_isHour_1 ?_
  refine g_lconst 0 dX1_isHour_2 (by decide) ?_
  refine g_aload_n 0 dX1_isHour_3 rfl rfl ?_
  refine g_getI fo_0_6 (by decide) q180 dX1_isHour_4 fun x1 => ?_
  refine g_iconst 1 dX1_isHour_7 (by decide) ?_
  refine g_isub dX1_isHour_8 ?_
  refine g_i2l dX1_isHour_9 ?_
  refine g_callS_I (mm_X1_in _ _ _ _) rfl q346 q347 q107 q348 dd_X1_in rfl (Nat.le_of_ble_eq_true rfl) (Nat.le_of_ble_eq_true rfl) (Nat.le_of_ble_eq_true rfl) dX1_isHour_10 fun x2 σ => ?_
  exact g_zret rfl dX1_isHour_13
theorem dd_X1_isHour : yX1_isHour.cls ≠ "java/lang/invoke/MethodHandle" ∧ yX1_isHour.cls ≠ "java/lang/invoke/VarHandle" ∧ (parseMethodDescriptor yX1_isHour.desc).map (fun d => d.parameters.length) = some 1 := by decide +kernel
theorem dv_X1_isHour : yX1_isHour.cls = RX1 ∧ yX1_isHour.cls ≠ "java/lang/invoke/MethodHandle" ∧ yX1_isHour.cls ≠ "java/lang/invoke/VarHandle" ∧ (parseMethodDescriptor yX1_isHour.desc).map (fun d => d.parameters.length) = some 1 := ⟨rfl, dd_X1_isHour⟩
/-! RockingHorse.tellsFraction(JJ)V -/
abbrev mi_X1_tellsFraction : Mi := (cX1_tellsFraction, 7, "RockingHorse", 101, none, "tellsFraction")
def f_X1_tellsFraction (v0 : Option Nat) (v1 : Int64) (v3 : Int64) (σ : Hp) : Option (Unit × Hp) :=
  bnd (f_X1_common 100 v1 v3 σ) fun x1 σ =>
  pI 0 0 52 σ v0 0 fun σ =>
  ldv x1 <|
  ob 0 σ v0 fun _ => bnd (f_X1_tells v0 (v1 / x1) σ) fun _ σ =>
  ldv x1 <|
  ob 0 σ v0 fun _ => bnd (f_X1_tells v0 (v3 / x1) σ) fun _ σ =>
  some ((), σ)
theorem mm_X1_tellsFraction (v0 : Option Nat) (v1 : Int64) (v3 : Int64) (σ : Hp) : MM yX1_tellsFraction mi_X1_tellsFraction rV [vA v0, vL v1, vL v3] σ (f_X1_tellsFraction v0 v1 v3 σ) := by
  refine mm_of (by decide +kernel) rfl rfl (Nat.le_of_ble_eq_true rfl) ?_
  intro X
  unfold f_X1_tellsFraction
  refine g_lload_n 1 dX1_tellsFraction_0 rfl rfl ?_
  refine g_lload_n 3 dX1_tellsFraction_1 rfl rfl ?_
  refine g_callS_L (mm_X1_common 100 _ _ _) rfl q901 q902 q107 q903 dd_X1_common rfl (Nat.le_of_ble_eq_true rfl) (Nat.le_of_ble_eq_true rfl) (Nat.le_of_ble_eq_true rfl) dX1_tellsFraction_2 fun x1 σ => ?_
  refine g_lstore dX1_tellsFraction_5 (lt_b rfl) ?_
  refine g_aload_n 0 dX1_tellsFraction_7 rfl rfl ?_
  refine g_iconst 0 dX1_tellsFraction_8 (by decide) ?_
  refine g_putI fo_0_52 (by decide) rfl q229 dX1_tellsFraction_9 fun σ => ?_
  refine g_aload_n 0 dX1_tellsFraction_12 rfl rfl ?_
  refine g_lload_n 1 dX1_tellsFraction_13 rfl rfl ?_
  refine g_lload dX1_tellsFraction_14 rfl ?_
  refine g_ldiv dX1_tellsFraction_16 ?_
  refine g_callV_V (mm_X1_tells _ _ _) rfl zc_0 q683 q685 qs21 q107 q686 dv_X1_tells rfl (Nat.le_of_ble_eq_true rfl) (Nat.le_of_ble_eq_true rfl) (Nat.le_of_ble_eq_true rfl) dX1_tellsFraction_17 fun _ σ => ?_
  refine g_aload_n 0 dX1_tellsFraction_20 rfl rfl ?_
  refine g_lload_n 3 dX1_tellsFraction_21 rfl rfl ?_
  refine g_lload dX1_tellsFraction_22 rfl ?_
  refine g_ldiv dX1_tellsFraction_24 ?_
  refine g_callV_V (mm_X1_tells _ _ _) rfl zc_0 q683 q685 qs21 q107 q686 dv_X1_tells rfl (Nat.le_of_ble_eq_true rfl) (Nat.le_of_ble_eq_true rfl) (Nat.le_of_ble_eq_true rfl) dX1_tellsFraction_25 fun _ σ => ?_
  exact g_vret rfl dX1_tellsFraction_28
theorem dd_X1_tellsFraction : yX1_tellsFraction.cls ≠ "java/lang/invoke/MethodHandle" ∧ yX1_tellsFraction.cls ≠ "java/lang/invoke/VarHandle" ∧ (parseMethodDescriptor yX1_tellsFraction.desc).map (fun d => d.parameters.length) = some 2 := by decide +kernel
theorem dv_X1_tellsFraction : yX1_tellsFraction.cls = RX1 ∧ yX1_tellsFraction.cls ≠ "java/lang/invoke/MethodHandle" ∧ yX1_tellsFraction.cls ≠ "java/lang/invoke/VarHandle" ∧ (parseMethodDescriptor yX1_tellsFraction.desc).map (fun d => d.parameters.length) = some 2 := ⟨rfl, dd_X1_tellsFraction⟩
/-! RockingHorse.tenTo(I)J -/
abbrev mi_X1_tenTo : Mi := (cX1_tenTo, 4, "RockingHorse", 0, some .long, "tenTo")
def f_X1_tenTo_b4 (v0 : Int32) (k0 : Int64 → Hp → Option (Int64 × Hp)) (ag : (Int64 × Int32) → Hp → Option (Int64 × Hp)) (a : Int64 × Int32) (σ : Hp) : Option (Int64 × Hp) :=
  if v0 ≤ a.2 then
    k0 a.1 σ
  else
    ag ((a.1 * 10), (a.2 + 1)) σ
def f_X1_tenTo (v0 : Int32) (σ : Hp) : Option (Int64 × Hp) :=
  lp 2000 (f_X1_tenTo_b4 v0 (fun (a1 : Int64) σ =>
      some (a1, σ))) (1, 0) σ
theorem ok_X1_tenTo_b4 (X : Mx) (v0 : Int32) {k0 : Int64 → Hp → Option (Int64 × Hp)} (hk0 : ∀ (a : Int64) (σ : Hp), GG X mi_X1_tenTo (QM X rL) 21 [(1, vL a)] [] σ (k0 a σ)) : ∀ (m : Nat) (a : Int64 × Int32) (σ : Hp), GG X mi_X1_tenTo (QM X rL) 4 [(0, vI v0), (1, vL a.1), (3, vI a.2)] [] σ (lp m (f_X1_tenTo_b4 v0 k0) a σ) := by
  refine g_lp (fun (a : Int64 × Int32) => [(0, vI v0), (1, vL a.1), (3, vI a.2)]) ?_
  intro ag hag a σ
  unfold f_X1_tenTo_b4
  refine g_iload_n 3 dX1_tenTo_4 rfl rfl ?_
  refine g_iload_n 0 dX1_tenTo_5 rfl rfl ?_
  refine g_icmp_ge 21 dX1_tenTo_6 (by decide) ?_ ?_
  · exact g_jmp (hk0 _ _) rfl
  · refine g_lload_n 1 dX1_tenTo_9 rfl rfl ?_
    refine g_ldc2_w dX1_tenTo_10 q919 ?_
    refine g_lmul dX1_tenTo_13 ?_
    refine g_lstore_n 1 dX1_tenTo_14 rfl (lt_b rfl) ?_
    refine g_iinc 1 dX1_tenTo_15 (by decide) rfl (lt_b rfl) ?_
    refine g_goto 4 dX1_tenTo_18 (by decide) ?_
    exact g_jmp (hag _ _) rfl
theorem mm_X1_tenTo (v0 : Int32) (σ : Hp) : MM yX1_tenTo mi_X1_tenTo rL [vI v0] σ (f_X1_tenTo v0 σ) := by
  refine mm_of (by decide +kernel) rfl rfl (Nat.le_of_ble_eq_true rfl) ?_
  intro X
  unfold f_X1_tenTo
  refine g_lconst 1 dX1_tenTo_0 (by decide) ?_
  refine g_lstore_n 1 dX1_tenTo_1 rfl (lt_b rfl) ?_
  refine g_iconst 0 dX1_tenTo_2 (by decide) ?_
  refine g_istore_n 3 dX1_tenTo_3 rfl (lt_b rfl) ?_
  refine g_jmp (ok_X1_tenTo_b4 X v0 ?_ _ _ _) rfl
  · intro a1 σ
    refine g_lload_n 1 dX1_tenTo_21 rfl rfl ?_
    exact g_lret rfl dX1_tenTo_22
theorem dd_X1_tenTo : yX1_tenTo.cls ≠ "java/lang/invoke/MethodHandle" ∧ yX1_tenTo.cls ≠ "java/lang/invoke/VarHandle" ∧ (parseMethodDescriptor yX1_tenTo.desc).map (fun d => d.parameters.length) = some 1 := by decide +kernel
/-! RockingHorse.isRest(IIII)Z -/
abbrev mi_X1_isRest : Mi := (cX1_isRest, 7, "RockingHorse", 0, some .boolean, "isRest")
def f_X1_isRest_b31 (v0 : Int32) (v1 : Int32) (v2 : Int32) (v3 : Int32) (v4 : Int32) (v5 : Int32) (k0 : Unit → Hp → Option (Int32 × Hp)) (k1 : Unit → Hp → Option (Int32 × Hp)) (ag : Int32 → Hp → Option (Int32 × Hp)) (a : Int32) (σ : Hp) : Option (Int32 × Hp) :=
  if 9 < a then
    k0 () σ
  else
    jn (fun (a5 : Int32) σ =>
        if v4 < a5 then
          k1 () σ
        else
          jn (fun (a7 : Int32) σ =>
              if a7 ≤ v5 then
                ag (a + 1) σ
              else
                k1 () σ) fun j8 =>
          if v0 < a then
            j8 (v3 - v0) σ
          else
            j8 0 σ) fun j6 =>
    if a < v1 then
      j6 0 σ
    else
      j6 (v2 - v1) σ
def f_X1_isRest (v0 : Int32) (v1 : Int32) (v2 : Int32) (v3 : Int32) (σ : Hp) : Option (Int32 × Hp) :=
  jn (fun (a1 : Int32) σ =>
      jn (fun (a3 : Int32) σ =>
          lp 2000 (f_X1_isRest_b31 v0 v1 v2 v3 a1 a3 (fun (a9 : Unit) σ =>
              rz1 1 σ) (fun (a10 : Unit) σ =>
              rz1 0 σ)) 0 σ) fun j4 =>
      if v0 < v1 then
        j4 (v3 - v0) σ
      else
        j4 0 σ) fun j2 =>
  if v0 < v1 then
    j2 0 σ
  else
    j2 (v2 - v1) σ
theorem ok_X1_isRest_b31 (X : Mx) (v0 : Int32) (v1 : Int32) (v2 : Int32) (v3 : Int32) (v4 : Int32) (v5 : Int32) {k0 : Unit → Hp → Option (Int32 × Hp)} {k1 : Unit → Hp → Option (Int32 × Hp)} (hk0 : ∀ (a : Unit) (σ : Hp), GG X mi_X1_isRest (QM X rI) 82 [] [] σ (k0 a σ)) (hk1 : ∀ (a : Unit) (σ : Hp), GG X mi_X1_isRest (QM X rI) 74 [] [] σ (k1 a σ)) : ∀ (m : Nat) (a : Int32) (σ : Hp), GG X mi_X1_isRest (QM X rI) 31 [(0, vI v0), (1, vI v1), (2, vI v2), (3, vI v3), (4, vI v4), (5, vI v5), (6, vI a)] [] σ (lp m (f_X1_isRest_b31 v0 v1 v2 v3 v4 v5 k0 k1) a σ) := by
  refine g_lp (fun (a : Int32) => [(0, vI v0), (1, vI v1), (2, vI v2), (3, vI v3), (4, vI v4), (5, vI v5), (6, vI a)]) ?_
  intro ag hag a σ
  unfold f_X1_isRest_b31
  refine g_iload dX1_isRest_31 rfl ?_
  refine g_bipush 9 dX1_isRest_33 (by decide) ?_
  refine g_icmp_gt 82 dX1_isRest_35 (by decide) ?_ ?_
  · exact g_jmp (hk0 _ _) rfl
  · refine g_iload dX1_isRest_38 rfl ?_
    refine g_iload_n 1 dX1_isRest_40 rfl rfl ?_
    refine g_jn (fun j6 => ∀ (a5 : Int32) (σ : Hp), GG X mi_X1_isRest (QM X rI) 51 [(0, vI v0), (1, vI v1), (2, vI v2), (3, vI v3), (4, vI v4), (5, vI v5), (6, vI a)] [vI a5] σ (j6 a5 σ)) ?_ ?_
    · intro a5 σ
      refine g_iload dX1_isRest_51 rfl ?_
      refine g_icmp_gt 74 dX1_isRest_53 (by decide) ?_ ?_
      · exact g_jmp (hk1 _ _) rfl
      · refine g_iload_n 0 dX1_isRest_56 rfl rfl ?_
        refine g_iload dX1_isRest_57 rfl ?_
        refine g_jn (fun j8 => ∀ (a7 : Int32) (σ : Hp), GG X mi_X1_isRest (QM X rI) 69 [(0, vI v0), (1, vI v1), (2, vI v2), (3, vI v3), (4, vI v4), (5, vI v5), (6, vI a)] [vI a7] σ (j8 a7 σ)) ?_ ?_
        · intro a7 σ
          refine g_iload dX1_isRest_69 rfl ?_
          refine g_icmp_le 76 dX1_isRest_71 (by decide) ?_ ?_
          · refine g_iinc 1 dX1_isRest_76 (by decide) rfl (lt_b rfl) ?_
            refine g_goto 31 dX1_isRest_79 (by decide) ?_
            exact g_jmp (hag _ _) rfl
          · exact g_jmp (hk1 _ _) rfl
        · intro j8 hj8
          refine g_icmp_lt 66 dX1_isRest_59 (by decide) ?_ ?_
          · refine g_iload_n 3 dX1_isRest_66 rfl rfl ?_
            refine g_iload_n 0 dX1_isRest_67 rfl rfl ?_
            refine g_isub dX1_isRest_68 ?_
            exact g_jmp (hj8 _ _) rfl
          · refine g_iconst 0 dX1_isRest_62 (by decide) ?_
            refine g_goto 69 dX1_isRest_63 (by decide) ?_
            exact g_jmp (hj8 _ _) rfl
    · intro j6 hj6
      refine g_icmp_lt 50 dX1_isRest_41 (by decide) ?_ ?_
      · refine g_iconst 0 dX1_isRest_50 (by decide) ?_
        exact g_jmp (hj6 _ _) rfl
      · refine g_iload_n 2 dX1_isRest_44 rfl rfl ?_
        refine g_iload_n 1 dX1_isRest_45 rfl rfl ?_
        refine g_isub dX1_isRest_46 ?_
        refine g_goto 51 dX1_isRest_47 (by decide) ?_
        exact g_jmp (hj6 _ _) rfl
theorem mm_X1_isRest (v0 : Int32) (v1 : Int32) (v2 : Int32) (v3 : Int32) (σ : Hp) : MM yX1_isRest mi_X1_isRest rI [vI v0, vI v1, vI v2, vI v3] σ (f_X1_isRest v0 v1 v2 v3 σ) := by
  refine mm_of (by decide +kernel) rfl rfl (Nat.le_of_ble_eq_true rfl) ?_
  intro X
  unfold f_X1_isRest
  refine g_iload_n 0 dX1_isRest_0 rfl rfl ?_
  refine g_iload_n 1 dX1_isRest_1 rfl rfl ?_
  refine g_jn (fun j2 => ∀ (a1 : Int32) (σ : Hp), GG X mi_X1_isRest (QM X rI) 12 [(0, vI v0), (1, vI v1), (2, vI v2), (3, vI v3)] [vI a1] σ (j2 a1 σ)) ?_ ?_
  · intro a1 σ
    refine g_istore dX1_isRest_12 (lt_b rfl) ?_
    refine g_iload_n 0 dX1_isRest_14 rfl rfl ?_
    refine g_iload_n 1 dX1_isRest_15 rfl rfl ?_
    refine g_jn (fun j4 => ∀ (a3 : Int32) (σ : Hp), GG X mi_X1_isRest (QM X rI) 26 [(0, vI v0), (1, vI v1), (2, vI v2), (3, vI v3), (4, vI a1)] [vI a3] σ (j4 a3 σ)) ?_ ?_
    · intro a3 σ
      refine g_istore dX1_isRest_26 (lt_b rfl) ?_
      refine g_iconst 0 dX1_isRest_28 (by decide) ?_
      refine g_istore dX1_isRest_29 (lt_b rfl) ?_
      refine g_jmp (ok_X1_isRest_b31 X v0 v1 v2 v3 a1 a3 ?_ ?_ _ _ _) rfl
      · intro a9 σ
        refine g_iconst 1 dX1_isRest_82 (by decide) ?_
        exact g_zret rfl dX1_isRest_83
      · intro a10 σ
        refine g_iconst 0 dX1_isRest_74 (by decide) ?_
        exact g_zret rfl dX1_isRest_75
    · intro j4 hj4
      refine g_icmp_lt 23 dX1_isRest_16 (by decide) ?_ ?_
      · refine g_iload_n 3 dX1_isRest_23 rfl rfl ?_
        refine g_iload_n 0 dX1_isRest_24 rfl rfl ?_
        refine g_isub dX1_isRest_25 ?_
        exact g_jmp (hj4 _ _) rfl
      · refine g_iconst 0 dX1_isRest_19 (by decide) ?_
        refine g_goto 26 dX1_isRest_20 (by decide) ?_
        exact g_jmp (hj4 _ _) rfl
  · intro j2 hj2
    refine g_icmp_lt 11 dX1_isRest_2 (by decide) ?_ ?_
    · refine g_iconst 0 dX1_isRest_11 (by decide) ?_
      exact g_jmp (hj2 _ _) rfl
    · refine g_iload_n 2 dX1_isRest_5 rfl rfl ?_
      refine g_iload_n 1 dX1_isRest_6 rfl rfl ?_
      refine g_isub dX1_isRest_7 ?_
      refine g_goto 12 dX1_isRest_8 (by decide) ?_
      exact g_jmp (hj2 _ _) rfl
theorem dd_X1_isRest : yX1_isRest.cls ≠ "java/lang/invoke/MethodHandle" ∧ yX1_isRest.cls ≠ "java/lang/invoke/VarHandle" ∧ (parseMethodDescriptor yX1_isRest.desc).map (fun d => d.parameters.length) = some 4 := by decide +kernel
/-! RockingHorse.draws(I)I -/
abbrev mi_X1_draws : Mi := (cX1_draws, 2, "RockingHorse", 0, some .int, "draws")
def f_X1_draws (v0 : Option Nat) (v1 : Int32) (σ : Hp) : Option (Int32 × Hp) :=
  gI 0 48 σ v0 fun x1 =>
  pI 0 0 48 σ v0 ((x1 * 1103515245) + 12345) fun σ =>
  gI 0 48 σ v0 fun x2 =>
  idv v1 <|
  some ((irm (ush x2 16) v1), σ)
theorem mm_X1_draws (v0 : Option Nat) (v1 : Int32) (σ : Hp) : MM yX1_draws mi_X1_draws rI [vA v0, vI v1] σ (f_X1_draws v0 v1 σ) := by
  refine mm_of (by decide +kernel) rfl rfl (Nat.le_of_ble_eq_true rfl) ?_
  intro X
  unfold f_X1_draws
  refine g_aload_n 0 dX1_draws_0 rfl rfl ?_
  refine g_aload_n 0 dX1_draws_1 rfl rfl ?_
  refine g_getI fo_0_48 (by decide) q225 dX1_draws_2 fun x1 => ?_
  refine g_ldc_w dX1_draws_5 q954 ?_
  refine g_imul dX1_draws_8 ?_
  refine g_sipush 12345 dX1_draws_9 (by decide) ?_
  refine g_iadd dX1_draws_12 ?_
  refine g_putI fo_0_48 (by decide) rfl q225 dX1_draws_13 fun σ => ?_
  refine g_aload_n 0 dX1_draws_16 rfl rfl ?_
  refine g_getI fo_0_48 (by decide) q225 dX1_draws_17 fun x2 => ?_
  refine g_bipush 16 dX1_draws_20 (by decide) ?_
  refine g_iushr dX1_draws_22 ?_
  refine g_iload_n 1 dX1_draws_23 rfl rfl ?_
  refine g_irem dX1_draws_24 ?_
  exact g_iret rfl dX1_draws_25
theorem dd_X1_draws : yX1_draws.cls ≠ "java/lang/invoke/MethodHandle" ∧ yX1_draws.cls ≠ "java/lang/invoke/VarHandle" ∧ (parseMethodDescriptor yX1_draws.desc).map (fun d => d.parameters.length) = some 1 := by decide +kernel
theorem dv_X1_draws : yX1_draws.cls = RX1 ∧ yX1_draws.cls ≠ "java/lang/invoke/MethodHandle" ∧ yX1_draws.cls ≠ "java/lang/invoke/VarHandle" ∧ (parseMethodDescriptor yX1_draws.desc).map (fun d => d.parameters.length) = some 1 := ⟨rfl, dd_X1_draws⟩
/-! RockingHorse.count(I)I -/
abbrev mi_X1_count : Mi := (cX1_count, 2, "RockingHorse", 1, some .int, "count")
def f_X1_count (v0 : Option Nat) (v1 : Int32) (σ : Hp) : Option (Int32 × Hp) :=
  if v1 = 0 then
    gI 0 6 σ v0 fun x22 =>
    some (x22, σ)
  else
  if v1 = 1 then
    gI 0 7 σ v0 fun x21 =>
    some (x21, σ)
  else
  if v1 = 2 then
    gI 0 5 σ v0 fun x20 =>
    some (x20, σ)
  else
  if v1 = 3 then
    gR 0 0 σ v0 fun y18 =>
    gI 1 2 σ y18 fun x19 =>
    some (x19, σ)
  else
  if v1 = 4 then
    gR 0 0 σ v0 fun y16 =>
    gI 1 3 σ y16 fun x17 =>
    some (x17, σ)
  else
  if v1 = 5 then
    gR 0 0 σ v0 fun y14 =>
    gI 1 4 σ y14 fun x15 =>
    some (x15, σ)
  else
  if v1 = 6 then
    gR 0 0 σ v0 fun y12 =>
    gI 1 5 σ y12 fun x13 =>
    some (x13, σ)
  else
  if v1 = 7 then
    gR 0 0 σ v0 fun y9 =>
    gR 1 1 σ y9 fun y10 =>
    ob 0 σ v0 fun _ => bnd (f_X1_sumOf v0 y10 σ) fun x11 σ =>
    some (x11, σ)
  else
  if v1 = 8 then
    gI 0 44 σ v0 fun x8 =>
    some (x8, σ)
  else
  if v1 = 9 then
    gI 0 25 σ v0 fun x7 =>
    some (x7, σ)
  else
  if v1 = 10 then
    gI 0 52 σ v0 fun x6 =>
    some (x6, σ)
  else
  if v1 = 11 then
    gI 0 10 σ v0 fun x5 =>
    some (x5, σ)
  else
  bnd (f_X1_in (Int32.toInt64 v1) 20 27 σ) fun x1 σ =>
  if x1 = 0 then
    some ((-100), σ)
  else
    gR 0 0 σ v0 fun y2 =>
    gR 1 0 σ y2 fun y3 =>
    lI 100 σ y3 (v1 - 20) fun x4 =>
    some (x4, σ)
theorem mm_X1_count (v0 : Option Nat) (v1 : Int32) (σ : Hp) : MM yX1_count mi_X1_count rI [vA v0, vI v1] σ (f_X1_count v0 v1 σ) := by
  refine mm_of (by decide +kernel) rfl rfl (Nat.le_of_ble_eq_true rfl) ?_
  intro X
  unfold f_X1_count
  refine g_iload_n 1 dX1_count_0 rfl rfl ?_
  refine g_case (fun h1 => ?_) (fun h1 => ?_)
  · refine g_tableIn (off := 63) 64 dX1_count_1 (by rw [h1]; decide) (by rw [h1]; decide) (by rw [h1]; try rfl) (by decide) ?_
    refine g_aload_n 0 dX1_count_64 rfl rfl ?_
    refine g_getI fo_0_6 (by decide) q180 dX1_count_65 fun x22 => ?_
    exact g_iret rfl dX1_count_68
  · refine g_case (fun h2 => ?_) (fun h2 => ?_)
    · refine g_tableIn (off := 68) 69 dX1_count_1 (by rw [h2]; decide) (by rw [h2]; decide) (by rw [h2]; try rfl) (by decide) ?_
      refine g_aload_n 0 dX1_count_69 rfl rfl ?_
      refine g_getI fo_0_7 (by decide) q181 dX1_count_70 fun x21 => ?_
      exact g_iret rfl dX1_count_73
    · refine g_case (fun h3 => ?_) (fun h3 => ?_)
      · refine g_tableIn (off := 73) 74 dX1_count_1 (by rw [h3]; decide) (by rw [h3]; decide) (by rw [h3]; try rfl) (by decide) ?_
        refine g_aload_n 0 dX1_count_74 rfl rfl ?_
        refine g_getI fo_0_5 (by decide) q179 dX1_count_75 fun x20 => ?_
        exact g_iret rfl dX1_count_78
      · refine g_case (fun h4 => ?_) (fun h4 => ?_)
        · refine g_tableIn (off := 78) 79 dX1_count_1 (by rw [h4]; decide) (by rw [h4]; decide) (by rw [h4]; try rfl) (by decide) ?_
          refine g_aload_n 0 dX1_count_79 rfl rfl ?_
          refine g_getR fo_0_0 q171 dX1_count_80 fun y18 => ?_
          refine g_getIN fo_1_2 (by decide) nf_147 dX1_count_83 fun x19 => ?_
          exact g_iret rfl dX1_count_86
        · refine g_case (fun h5 => ?_) (fun h5 => ?_)
          · refine g_tableIn (off := 86) 87 dX1_count_1 (by rw [h5]; decide) (by rw [h5]; decide) (by rw [h5]; try rfl) (by decide) ?_
            refine g_aload_n 0 dX1_count_87 rfl rfl ?_
            refine g_getR fo_0_0 q171 dX1_count_88 fun y16 => ?_
            refine g_getIN fo_1_3 (by decide) nf_150 dX1_count_91 fun x17 => ?_
            exact g_iret rfl dX1_count_94
          · refine g_case (fun h6 => ?_) (fun h6 => ?_)
            · refine g_tableIn (off := 94) 95 dX1_count_1 (by rw [h6]; decide) (by rw [h6]; decide) (by rw [h6]; try rfl) (by decide) ?_
              refine g_aload_n 0 dX1_count_95 rfl rfl ?_
              refine g_getR fo_0_0 q171 dX1_count_96 fun y14 => ?_
              refine g_getIN fo_1_4 (by decide) nf_152 dX1_count_99 fun x15 => ?_
              exact g_iret rfl dX1_count_102
            · refine g_case (fun h7 => ?_) (fun h7 => ?_)
              · refine g_tableIn (off := 102) 103 dX1_count_1 (by rw [h7]; decide) (by rw [h7]; decide) (by rw [h7]; try rfl) (by decide) ?_
                refine g_aload_n 0 dX1_count_103 rfl rfl ?_
                refine g_getR fo_0_0 q171 dX1_count_104 fun y12 => ?_
                refine g_getIN fo_1_5 (by decide) nf_154 dX1_count_107 fun x13 => ?_
                exact g_iret rfl dX1_count_110
              · refine g_case (fun h8 => ?_) (fun h8 => ?_)
                · refine g_tableIn (off := 110) 111 dX1_count_1 (by rw [h8]; decide) (by rw [h8]; decide) (by rw [h8]; try rfl) (by decide) ?_
                  refine g_aload_n 0 dX1_count_111 rfl rfl ?_
                  refine g_aload_n 0 dX1_count_112 rfl rfl ?_
                  refine g_getR fo_0_0 q171 dX1_count_113 fun y9 => ?_
                  refine g_getRN fo_1_1 nf_145 dX1_count_116 fun y10 => ?_
                  refine g_callV_I (mm_X1_sumOf _ _ _) rfl zc_0 q620 q622 qs14 q107 q623 dv_X1_sumOf rfl (Nat.le_of_ble_eq_true rfl) (Nat.le_of_ble_eq_true rfl) (Nat.le_of_ble_eq_true rfl) dX1_count_119 fun x11 σ => ?_
                  exact g_iret rfl dX1_count_122
                · refine g_case (fun h9 => ?_) (fun h9 => ?_)
                  · refine g_tableIn (off := 122) 123 dX1_count_1 (by rw [h9]; decide) (by rw [h9]; decide) (by rw [h9]; try rfl) (by decide) ?_
                    refine g_aload_n 0 dX1_count_123 rfl rfl ?_
                    refine g_getI fo_0_44 (by decide) q221 dX1_count_124 fun x8 => ?_
                    exact g_iret rfl dX1_count_127
                  · refine g_case (fun h10 => ?_) (fun h10 => ?_)
                    · refine g_tableIn (off := 127) 128 dX1_count_1 (by rw [h10]; decide) (by rw [h10]; decide) (by rw [h10]; try rfl) (by decide) ?_
                      refine g_aload_n 0 dX1_count_128 rfl rfl ?_
                      refine g_getI fo_0_25 (by decide) q202 dX1_count_129 fun x7 => ?_
                      exact g_iret rfl dX1_count_132
                    · refine g_case (fun h11 => ?_) (fun h11 => ?_)
                      · refine g_tableIn (off := 132) 133 dX1_count_1 (by rw [h11]; decide) (by rw [h11]; decide) (by rw [h11]; try rfl) (by decide) ?_
                        refine g_aload_n 0 dX1_count_133 rfl rfl ?_
                        refine g_getI fo_0_52 (by decide) q229 dX1_count_134 fun x6 => ?_
                        exact g_iret rfl dX1_count_137
                      · refine g_case (fun h12 => ?_) (fun h12 => ?_)
                        · refine g_tableIn (off := 137) 138 dX1_count_1 (by rw [h12]; decide) (by rw [h12]; decide) (by rw [h12]; try rfl) (by decide) ?_
                          refine g_aload_n 0 dX1_count_138 rfl rfl ?_
                          refine g_getI fo_0_10 (by decide) q184 dX1_count_139 fun x5 => ?_
                          exact g_iret rfl dX1_count_142
                        · refine g_tableOut 143 dX1_count_1 (by have := lv_neT h1 (a := 0) (by decide); have := lv_neT h2 (a := 1) (by decide); have := lv_neT h3 (a := 2) (by decide); have := lv_neT h4 (a := 3) (by decide); have := lv_neT h5 (a := 4) (by decide); have := lv_neT h6 (a := 5) (by decide); have := lv_neT h7 (a := 6) (by decide); have := lv_neT h8 (a := 7) (by decide); have := lv_neT h9 (a := 8) (by decide); have := lv_neT h10 (a := 9) (by decide); have := lv_neT h11 (a := 10) (by decide); have := lv_neT h12 (a := 11) (by decide); omega) (by decide) ?_
                          refine g_iload_n 1 dX1_count_143 rfl rfl ?_
                          refine g_i2l dX1_count_144 ?_
                          refine g_ldc2_w dX1_count_145 q967 ?_
                          refine g_ldc2_w dX1_count_148 q968 ?_
                          refine g_callS_I (mm_X1_in _ _ _ _) rfl q346 q347 q107 q348 dd_X1_in rfl (Nat.le_of_ble_eq_true rfl) (Nat.le_of_ble_eq_true rfl) (Nat.le_of_ble_eq_true rfl) dX1_count_151 fun x1 σ => ?_
                          refine g_if_eq 172 dX1_count_154 (by decide) ?_ ?_
                          · refine g_bipush (-100) dX1_count_172 (by decide) ?_
                            exact g_iret rfl dX1_count_174
                          · refine g_aload_n 0 dX1_count_157 rfl rfl ?_
                            refine g_getR fo_0_0 q171 dX1_count_158 fun y2 => ?_
                            refine g_getRN fo_1_0 nf_142 dX1_count_161 fun y3 => ?_
                            refine g_iload_n 1 dX1_count_164 rfl rfl ?_
                            refine g_bipush 20 dX1_count_165 (by decide) ?_
                            refine g_isub dX1_count_167 ?_
                            refine g_iaload dX1_count_168 fun x4 => ?_
                            refine g_goto 174 dX1_count_169 (by decide) ?_
                            exact g_iret rfl dX1_count_174
theorem dd_X1_count : yX1_count.cls ≠ "java/lang/invoke/MethodHandle" ∧ yX1_count.cls ≠ "java/lang/invoke/VarHandle" ∧ (parseMethodDescriptor yX1_count.desc).map (fun d => d.parameters.length) = some 1 := by decide +kernel
theorem dv_X1_count : yX1_count.cls = RX1 ∧ yX1_count.cls ≠ "java/lang/invoke/MethodHandle" ∧ yX1_count.cls ≠ "java/lang/invoke/VarHandle" ∧ (parseMethodDescriptor yX1_count.desc).map (fun d => d.parameters.length) = some 1 := ⟨rfl, dd_X1_count⟩
/-! RockingHorse.row(I)J -/
abbrev mi_X1_row : Mi := (cX1_row, 2, "RockingHorse", 6, some .long, "row")
def f_X1_row (v0 : Option Nat) (v1 : Int32) (σ : Hp) : Option (Option Int64 × Hp) :=
  gI 0 52 σ v0 fun x1 =>
  bnd (f_X1_in (Int32.toInt64 v1) 0 (Int32.toInt64 (x1 - 1)) σ) fun x2 σ =>
  if x2 = 0 then
    some (none, nw σ 7 6)
  else
    gR 0 51 σ v0 fun y3 =>
    lL σ y3 v1 fun x4 =>
    some (some x4, σ)
theorem mm_X1_row (v0 : Option Nat) (v1 : Int32) (σ : Hp) : MMX yX1_row mi_X1_row rL [vA v0, vI v1] σ (f_X1_row v0 v1 σ) := by
  refine mmx_of (by decide +kernel) rfl rfl (Nat.le_of_ble_eq_true rfl) ?_
  intro X hem
  unfold f_X1_row
  refine g_iload_n 1 dX1_row_0 rfl rfl ?_
  refine g_i2l dX1_row_1 ?_
  refine g_lconst 0 dX1_row_2 (by decide) ?_
  refine g_aload_n 0 dX1_row_3 rfl rfl ?_
  refine g_getI fo_0_52 (by decide) q229 dX1_row_4 fun x1 => ?_
  refine g_iconst 1 dX1_row_7 (by decide) ?_
  refine g_isub dX1_row_8 ?_
  refine g_i2l dX1_row_9 ?_
  refine g_callS_I (mm_X1_in _ _ _ _) rfl q346 q347 q107 q348 dd_X1_in rfl (Nat.le_of_ble_eq_true rfl) (Nat.le_of_ble_eq_true rfl) (Nat.le_of_ble_eq_true rfl) dX1_row_10 fun x2 σ => ?_
  refine g_if_ne 24 dX1_row_13 (by decide) ?_ ?_
  · refine g_aload_n 0 dX1_row_24 rfl rfl ?_
    refine g_getR fo_0_51 q228 dX1_row_25 fun y3 => ?_
    refine g_iload_n 1 dX1_row_28 rfl rfl ?_
    refine g_laload dX1_row_29 fun x4 => ?_
    exact g_lretX rfl dX1_row_30
  · exact g_throwX rfl (by decide) hem dX1_row_16 dX1_row_19 dX1_row_20 dX1_row_23
theorem dd_X1_row : yX1_row.cls ≠ "java/lang/invoke/MethodHandle" ∧ yX1_row.cls ≠ "java/lang/invoke/VarHandle" ∧ (parseMethodDescriptor yX1_row.desc).map (fun d => d.parameters.length) = some 1 := by decide +kernel
theorem dv_X1_row : yX1_row.cls = RX1 ∧ yX1_row.cls ≠ "java/lang/invoke/MethodHandle" ∧ yX1_row.cls ≠ "java/lang/invoke/VarHandle" ∧ (parseMethodDescriptor yX1_row.desc).map (fun d => d.parameters.length) = some 1 := ⟨rfl, dd_X1_row⟩
/-! RockingHorse$Horse.<init>()V -/
abbrev mi_X2_init : Mi := (cX2_init, 1, "RockingHorse$Horse", 1, none, "<init>")
def f_X2_init (v0 : Option Nat) (σ : Hp) : Option (Unit × Hp) :=
  nn v0 <|
  nA 100 σ 8 fun y1 σ =>
  sI σ y1 0 (-1) fun σ =>
  sI σ y1 1 (-1) fun σ =>
  sI σ y1 2 (-1) fun σ =>
  sI σ y1 3 (-1) fun σ =>
  sI σ y1 4 (-1) fun σ =>
  sI σ y1 5 (-1) fun σ =>
  sI σ y1 6 (-1) fun σ =>
  sI σ y1 7 (-1) fun σ =>
  pR 1 0 σ v0 y1 fun σ =>
  nA 100 σ 8 fun y2 σ =>
  pR 1 1 σ v0 y2 fun σ =>
  some ((), σ)
theorem mm_X2_init (v0 : Option Nat) (σ : Hp) : MM yX2_init mi_X2_init rV [vA v0] σ (f_X2_init v0 σ) := by
  refine mm_of (by decide +kernel) rfl rfl (Nat.le_of_ble_eq_true rfl) ?_
  intro X
  unfold f_X2_init
  refine g_aload_n 0 dX2_init_0 rfl rfl ?_
  refine g_objInit q140 (by decide) (Nat.le_of_ble_eq_true rfl) dX2_init_1 ?_
  refine g_aload_n 0 dX2_init_4 rfl rfl ?_
  refine g_bipush 8 dX2_init_5 (by decide) ?_
  refine g_newarray_int dX2_init_7 fun y1 σ => ?_
  refine g_dup dX2_init_9 rfl ?_
  refine g_iconst 0 dX2_init_10 (by decide) ?_
  refine g_iconst (-1) dX2_init_11 (by decide) ?_
  refine g_iastore dX2_init_12 fun σ => ?_
  refine g_dup dX2_init_13 rfl ?_
  refine g_iconst 1 dX2_init_14 (by decide) ?_
  refine g_iconst (-1) dX2_init_15 (by decide) ?_
  refine g_iastore dX2_init_16 fun σ => ?_
  refine g_dup dX2_init_17 rfl ?_
  refine g_iconst 2 dX2_init_18 (by decide) ?_
  refine g_iconst (-1) dX2_init_19 (by decide) ?_
  refine g_iastore dX2_init_20 fun σ => ?_
  refine g_dup dX2_init_21 rfl ?_
  refine g_iconst 3 dX2_init_22 (by decide) ?_
  refine g_iconst (-1) dX2_init_23 (by decide) ?_
  refine g_iastore dX2_init_24 fun σ => ?_
  refine g_dup dX2_init_25 rfl ?_
  refine g_iconst 4 dX2_init_26 (by decide) ?_
  refine g_iconst (-1) dX2_init_27 (by decide) ?_
  refine g_iastore dX2_init_28 fun σ => ?_
  refine g_dup dX2_init_29 rfl ?_
  refine g_iconst 5 dX2_init_30 (by decide) ?_
  refine g_iconst (-1) dX2_init_31 (by decide) ?_
  refine g_iastore dX2_init_32 fun σ => ?_
  refine g_dup dX2_init_33 rfl ?_
  refine g_bipush 6 dX2_init_34 (by decide) ?_
  refine g_iconst (-1) dX2_init_36 (by decide) ?_
  refine g_iastore dX2_init_37 fun σ => ?_
  refine g_dup dX2_init_38 rfl ?_
  refine g_bipush 7 dX2_init_39 (by decide) ?_
  refine g_iconst (-1) dX2_init_41 (by decide) ?_
  refine g_iastore dX2_init_42 fun σ => ?_
  refine g_putRF rfl fo_1_0 rfl rfl q141 dX2_init_43 fun σ => ?_
  refine g_aload_n 0 dX2_init_46 rfl rfl ?_
  refine g_bipush 8 dX2_init_47 (by decide) ?_
  refine g_newarray_int dX2_init_49 fun y2 σ => ?_
  refine g_putRF rfl fo_1_1 rfl rfl q143 dX2_init_51 fun σ => ?_
  exact g_vret rfl dX2_init_54
theorem dd_X2_init : yX2_init.cls ≠ "java/lang/invoke/MethodHandle" ∧ yX2_init.cls ≠ "java/lang/invoke/VarHandle" ∧ (parseMethodDescriptor yX2_init.desc).map (fun d => d.parameters.length) = some 0 := by decide +kernel
theorem dv_X2_init : yX2_init.cls = RX2 ∧ yX2_init.cls ≠ "java/lang/invoke/MethodHandle" ∧ yX2_init.cls ≠ "java/lang/invoke/VarHandle" ∧ (parseMethodDescriptor yX2_init.desc).map (fun d => d.parameters.length) = some 0 := ⟨rfl, dd_X2_init⟩
/-! RockingHorse$Horse.becomes(LRockingHorse$Horse;)V -/
abbrev mi_X2_becomes : Mi := (cX2_becomes, 2, "RockingHorse$Horse", 1, none, "becomes")
def f_X2_becomes (v0 : Option Nat) (v1 : Option Nat) (σ : Hp) : Option (Unit × Hp) :=
  gR 1 0 σ v1 fun y1 =>
  gR 1 0 σ v0 fun y2 =>
  cpA σ y1 0 y2 0 8 fun σ =>
  gR 1 1 σ v1 fun y3 =>
  gR 1 1 σ v0 fun y4 =>
  cpA σ y3 0 y4 0 8 fun σ =>
  gI 1 2 σ v1 fun x5 =>
  pI 0 1 2 σ v0 x5 fun σ =>
  gI 1 3 σ v1 fun x6 =>
  pI 0 1 3 σ v0 x6 fun σ =>
  gI 1 4 σ v1 fun x7 =>
  pI 0 1 4 σ v0 x7 fun σ =>
  gI 1 5 σ v1 fun x8 =>
  pI 0 1 5 σ v0 x8 fun σ =>
  some ((), σ)
theorem mm_X2_becomes (v0 : Option Nat) (v1 : Option Nat) (σ : Hp) : MM yX2_becomes mi_X2_becomes rV [vA v0, vA v1] σ (f_X2_becomes v0 v1 σ) := by
  refine mm_of (by decide +kernel) rfl rfl (Nat.le_of_ble_eq_true rfl) ?_
  intro X
  unfold f_X2_becomes
  refine g_aload_n 1 dX2_becomes_0 rfl rfl ?_
  refine g_getR fo_1_0 q141 dX2_becomes_1 fun y1 => ?_
  refine g_iconst 0 dX2_becomes_4 (by decide) ?_
  refine g_aload_n 0 dX2_becomes_5 rfl rfl ?_
  refine g_getR fo_1_0 q141 dX2_becomes_6 fun y2 => ?_
  refine g_iconst 0 dX2_becomes_9 (by decide) ?_
  refine g_bipush 8 dX2_becomes_10 (by decide) ?_
  refine g_arraycopy q632 (by decide) (Nat.le_of_ble_eq_true rfl) dX2_becomes_12 fun σ => ?_
  refine g_aload_n 1 dX2_becomes_15 rfl rfl ?_
  refine g_getR fo_1_1 q143 dX2_becomes_16 fun y3 => ?_
  refine g_iconst 0 dX2_becomes_19 (by decide) ?_
  refine g_aload_n 0 dX2_becomes_20 rfl rfl ?_
  refine g_getR fo_1_1 q143 dX2_becomes_21 fun y4 => ?_
  refine g_iconst 0 dX2_becomes_24 (by decide) ?_
  refine g_bipush 8 dX2_becomes_25 (by decide) ?_
  refine g_arraycopy q632 (by decide) (Nat.le_of_ble_eq_true rfl) dX2_becomes_27 fun σ => ?_
  refine g_aload_n 0 dX2_becomes_30 rfl rfl ?_
  refine g_aload_n 1 dX2_becomes_31 rfl rfl ?_
  refine g_getI fo_1_2 (by decide) q146 dX2_becomes_32 fun x5 => ?_
  refine g_putI fo_1_2 (by decide) rfl q146 dX2_becomes_35 fun σ => ?_
  refine g_aload_n 0 dX2_becomes_38 rfl rfl ?_
  refine g_aload_n 1 dX2_becomes_39 rfl rfl ?_
  refine g_getI fo_1_3 (by decide) q148 dX2_becomes_40 fun x6 => ?_
  refine g_putI fo_1_3 (by decide) rfl q148 dX2_becomes_43 fun σ => ?_
  refine g_aload_n 0 dX2_becomes_46 rfl rfl ?_
  refine g_aload_n 1 dX2_becomes_47 rfl rfl ?_
  refine g_getI fo_1_4 (by decide) q151 dX2_becomes_48 fun x7 => ?_
  refine g_putI fo_1_4 (by decide) rfl q151 dX2_becomes_51 fun σ => ?_
  refine g_aload_n 0 dX2_becomes_54 rfl rfl ?_
  refine g_aload_n 1 dX2_becomes_55 rfl rfl ?_
  refine g_getI fo_1_5 (by decide) q153 dX2_becomes_56 fun x8 => ?_
  refine g_putI fo_1_5 (by decide) rfl q153 dX2_becomes_59 fun σ => ?_
  exact g_vret rfl dX2_becomes_62
theorem dd_X2_becomes : yX2_becomes.cls ≠ "java/lang/invoke/MethodHandle" ∧ yX2_becomes.cls ≠ "java/lang/invoke/VarHandle" ∧ (parseMethodDescriptor yX2_becomes.desc).map (fun d => d.parameters.length) = some 1 := by decide +kernel
theorem dv_X2_becomes : yX2_becomes.cls = RX2 ∧ yX2_becomes.cls ≠ "java/lang/invoke/MethodHandle" ∧ yX2_becomes.cls ≠ "java/lang/invoke/VarHandle" ∧ (parseMethodDescriptor yX2_becomes.desc).map (fun d => d.parameters.length) = some 1 := ⟨rfl, dd_X2_becomes⟩
/-! RockingHorse$Horse.hoursOf(I)I -/
abbrev mi_X2_hoursOf : Mi := (cX2_hoursOf, 4, "RockingHorse$Horse", 0, some .int, "hoursOf")
def f_X2_hoursOf_b4 (v0 : Option Nat) (v1 : Int32) (k0 : Int32 → Hp → Option (Int32 × Hp)) (ag : (Int32 × Int32) → Hp → Option (Int32 × Hp)) (a : Int32 × Int32) (σ : Hp) : Option (Int32 × Hp) :=
  if 8 ≤ a.2 then
    k0 a.1 σ
  else
    gR 1 0 σ v0 fun y1 =>
    lI 100 σ y1 a.2 fun x2 =>
    jn (fun (a3 : Int32) σ =>
        ag ((a.1 ||| a3), (a.2 + 1)) σ) fun j4 =>
    if x2 = v1 then
      j4 (shl 1 a.2) σ
    else
      j4 0 σ
def f_X2_hoursOf (v0 : Option Nat) (v1 : Int32) (σ : Hp) : Option (Int32 × Hp) :=
  lp 2000 (f_X2_hoursOf_b4 v0 v1 (fun (a5 : Int32) σ =>
      some (a5, σ))) (0, 0) σ
theorem ok_X2_hoursOf_b4 (X : Mx) (v0 : Option Nat) (v1 : Int32) {k0 : Int32 → Hp → Option (Int32 × Hp)} (hk0 : ∀ (a : Int32) (σ : Hp), GG X mi_X2_hoursOf (QM X rI) 36 [(2, vI a)] [] σ (k0 a σ)) : ∀ (m : Nat) (a : Int32 × Int32) (σ : Hp), GG X mi_X2_hoursOf (QM X rI) 4 [(0, vA v0), (1, vI v1), (2, vI a.1), (3, vI a.2)] [] σ (lp m (f_X2_hoursOf_b4 v0 v1 k0) a σ) := by
  refine g_lp (fun (a : Int32 × Int32) => [(0, vA v0), (1, vI v1), (2, vI a.1), (3, vI a.2)]) ?_
  intro ag hag a σ
  unfold f_X2_hoursOf_b4
  refine g_iload_n 3 dX2_hoursOf_4 rfl rfl ?_
  refine g_bipush 8 dX2_hoursOf_5 (by decide) ?_
  refine g_icmp_ge 36 dX2_hoursOf_7 (by decide) ?_ ?_
  · exact g_jmp (hk0 _ _) rfl
  · refine g_iload_n 2 dX2_hoursOf_10 rfl rfl ?_
    refine g_aload_n 0 dX2_hoursOf_11 rfl rfl ?_
    refine g_getR fo_1_0 q141 dX2_hoursOf_12 fun y1 => ?_
    refine g_iload_n 3 dX2_hoursOf_15 rfl rfl ?_
    refine g_iaload dX2_hoursOf_16 fun x2 => ?_
    refine g_iload_n 1 dX2_hoursOf_17 rfl rfl ?_
    refine g_jn (fun j4 => ∀ (a3 : Int32) (σ : Hp), GG X mi_X2_hoursOf (QM X rI) 28 [(0, vA v0), (1, vI v1), (3, vI a.2)] [vI a3, vI a.1] σ (j4 a3 σ)) ?_ ?_
    · intro a3 σ
      refine g_ior dX2_hoursOf_28 ?_
      refine g_istore_n 2 dX2_hoursOf_29 rfl (lt_b rfl) ?_
      refine g_iinc 1 dX2_hoursOf_30 (by decide) rfl (lt_b rfl) ?_
      refine g_goto 4 dX2_hoursOf_33 (by decide) ?_
      exact g_jmp (hag _ _) rfl
    · intro j4 hj4
      refine g_icmp_ne 27 dX2_hoursOf_18 (by decide) ?_ ?_
      · refine g_iconst 0 dX2_hoursOf_27 (by decide) ?_
        exact g_jmp (hj4 _ _) rfl
      · refine g_iconst 1 dX2_hoursOf_21 (by decide) ?_
        refine g_iload_n 3 dX2_hoursOf_22 rfl rfl ?_
        refine g_ishl dX2_hoursOf_23 ?_
        refine g_goto 28 dX2_hoursOf_24 (by decide) ?_
        exact g_jmp (hj4 _ _) rfl
theorem mm_X2_hoursOf (v0 : Option Nat) (v1 : Int32) (σ : Hp) : MM yX2_hoursOf mi_X2_hoursOf rI [vA v0, vI v1] σ (f_X2_hoursOf v0 v1 σ) := by
  refine mm_of (by decide +kernel) rfl rfl (Nat.le_of_ble_eq_true rfl) ?_
  intro X
  unfold f_X2_hoursOf
  refine g_iconst 0 dX2_hoursOf_0 (by decide) ?_
  refine g_istore_n 2 dX2_hoursOf_1 rfl (lt_b rfl) ?_
  refine g_iconst 0 dX2_hoursOf_2 (by decide) ?_
  refine g_istore_n 3 dX2_hoursOf_3 rfl (lt_b rfl) ?_
  refine g_jmp (ok_X2_hoursOf_b4 X v0 v1 ?_ _ _ _) rfl
  · intro a5 σ
    refine g_iload_n 2 dX2_hoursOf_36 rfl rfl ?_
    exact g_iret rfl dX2_hoursOf_37
theorem dd_X2_hoursOf : yX2_hoursOf.cls ≠ "java/lang/invoke/MethodHandle" ∧ yX2_hoursOf.cls ≠ "java/lang/invoke/VarHandle" ∧ (parseMethodDescriptor yX2_hoursOf.desc).map (fun d => d.parameters.length) = some 1 := by decide +kernel
theorem dv_X2_hoursOf : yX2_hoursOf.cls = RX2 ∧ yX2_hoursOf.cls ≠ "java/lang/invoke/MethodHandle" ∧ yX2_hoursOf.cls ≠ "java/lang/invoke/VarHandle" ∧ (parseMethodDescriptor yX2_hoursOf.desc).map (fun d => d.parameters.length) = some 1 := ⟨rfl, dd_X2_hoursOf⟩
/-! RockingHorseModel.<init>()V -/
abbrev mi_X3_init : Mi := (cX3_init, 2, "RockingHorseModel", 1, none, "<init>")
def f_X3_init_b266 (v0 : Option Nat) (k0 : Unit → Hp → Option (Unit × Hp)) (ag : Int32 → Hp → Option (Unit × Hp)) (a : Int32) (σ : Hp) : Option (Unit × Hp) :=
  if 8 ≤ a then
    k0 () σ
  else
    gR 2 0 σ v0 fun y31 =>
    sI σ y31 a (-1) fun σ =>
    ag (a + 1) σ
def f_X3_init (v0 : Option Nat) (σ : Hp) : Option (Unit × Hp) :=
  nn v0 <|
  nA 100 σ 27 fun y1 σ =>
  pR 2 0 σ v0 y1 fun σ =>
  pI 0 2 1 σ v0 8 fun σ =>
  pI 0 2 2 σ v0 4 fun σ =>
  nA 100 σ 8 fun y2 σ =>
  pR 2 4 σ v0 y2 fun σ =>
  nA 100 σ 8 fun y3 σ =>
  pR 2 5 σ v0 y3 fun σ =>
  nA 100 σ 8 fun y4 σ =>
  pR 2 6 σ v0 y4 fun σ =>
  nA 101 σ 80 fun y5 σ =>
  pR 2 7 σ v0 y5 fun σ =>
  nA 103 σ 16 fun y6 σ =>
  pR 2 9 σ v0 y6 fun σ =>
  nA 100 σ 24 fun y7 σ =>
  pR 2 17 σ v0 y7 fun σ =>
  nA 101 σ 40 fun y8 σ =>
  pR 2 18 σ v0 y8 fun σ =>
  nA 101 σ 40 fun y9 σ =>
  pR 2 19 σ v0 y9 fun σ =>
  nA 100 σ 7 fun y10 σ =>
  pR 2 22 σ v0 y10 fun σ =>
  nA 100 σ 324 fun y11 σ =>
  pR 2 23 σ v0 y11 fun σ =>
  nA 100 σ 27 fun y12 σ =>
  pR 2 25 σ v0 y12 fun σ =>
  nA 100 σ 27 fun y13 σ =>
  pR 2 26 σ v0 y13 fun σ =>
  nA 100 σ 8 fun y14 σ =>
  pR 2 29 σ v0 y14 fun σ =>
  nA 100 σ 8 fun y15 σ =>
  pR 2 30 σ v0 y15 fun σ =>
  nA 100 σ 240 fun y16 σ =>
  pR 2 31 σ v0 y16 fun σ =>
  nA 100 σ 8 fun y17 σ =>
  pR 2 32 σ v0 y17 fun σ =>
  nA 100 σ 8 fun y18 σ =>
  pR 2 33 σ v0 y18 fun σ =>
  nA 100 σ 8 fun y19 σ =>
  pR 2 34 σ v0 y19 fun σ =>
  nA 100 σ 8 fun y20 σ =>
  pR 2 35 σ v0 y20 fun σ =>
  nA 100 σ 64 fun y21 σ =>
  pR 2 36 σ v0 y21 fun σ =>
  nA 100 σ 2304 fun y22 σ =>
  pR 2 37 σ v0 y22 fun σ =>
  nA 100 σ 2304 fun y23 σ =>
  pR 2 38 σ v0 y23 fun σ =>
  pI 0 2 39 σ v0 1000000000 fun σ =>
  nA 100 σ 8 fun y24 σ =>
  pR 2 40 σ v0 y24 fun σ =>
  nA 102 σ 256 fun y25 σ =>
  pR 2 41 σ v0 y25 fun σ =>
  nA 100 σ 12 fun y26 σ =>
  pR 2 42 σ v0 y26 fun σ =>
  nA 100 σ 12 fun y27 σ =>
  pR 2 43 σ v0 y27 fun σ =>
  nA 100 σ 54 fun y28 σ =>
  pR 2 48 σ v0 y28 fun σ =>
  nA 102 σ 2 fun y29 σ =>
  pR 2 49 σ v0 y29 fun σ =>
  nA 100 σ 2 fun y30 σ =>
  pR 2 50 σ v0 y30 fun σ =>
  lp 2000 (f_X3_init_b266 v0 (fun (a32 : Unit) σ =>
      some ((), σ))) 0 σ
theorem ok_X3_init_b266 (X : Mx) (v0 : Option Nat) {k0 : Unit → Hp → Option (Unit × Hp)} (hk0 : ∀ (a : Unit) (σ : Hp), GG X mi_X3_init (QM X rV) 285 [] [] σ (k0 a σ)) : ∀ (m : Nat) (a : Int32) (σ : Hp), GG X mi_X3_init (QM X rV) 266 [(0, vA v0), (1, vI a)] [] σ (lp m (f_X3_init_b266 v0 k0) a σ) := by
  refine g_lp (fun (a : Int32) => [(0, vA v0), (1, vI a)]) ?_
  intro ag hag a σ
  unfold f_X3_init_b266
  refine g_iload_n 1 dX3_init_266 rfl rfl ?_
  refine g_bipush 8 dX3_init_267 (by decide) ?_
  refine g_icmp_ge 285 dX3_init_269 (by decide) ?_ ?_
  · exact g_jmp (hk0 _ _) rfl
  · refine g_aload_n 0 dX3_init_272 rfl rfl ?_
    refine g_getR fo_2_0 q1056 dX3_init_273 fun y31 => ?_
    refine g_iload_n 1 dX3_init_276 rfl rfl ?_
    refine g_iconst (-1) dX3_init_277 (by decide) ?_
    refine g_iastore dX3_init_278 fun σ => ?_
    refine g_iinc 1 dX3_init_279 (by decide) rfl (lt_b rfl) ?_
    refine g_goto 266 dX3_init_282 (by decide) ?_
    exact g_jmp (hag _ _) rfl
theorem mm_X3_init (v0 : Option Nat) (σ : Hp) : MM yX3_init mi_X3_init rV [vA v0] σ (f_X3_init v0 σ) := by
  refine mm_of (by decide +kernel) rfl rfl (Nat.le_of_ble_eq_true rfl) ?_
  intro X
  unfold f_X3_init
  refine g_aload_n 0 dX3_init_0 rfl rfl ?_
  refine g_objInit q1054 (by decide) (Nat.le_of_ble_eq_true rfl) dX3_init_1 ?_
  refine g_aload_n 0 dX3_init_4 rfl rfl ?_
  refine g_bipush 27 dX3_init_5 (by decide) ?_
  refine g_newarray_int dX3_init_7 fun y1 σ => ?_
  refine g_putRF rfl fo_2_0 rfl rfl q1056 dX3_init_9 fun σ => ?_
  refine g_aload_n 0 dX3_init_12 rfl rfl ?_
  refine g_bipush 8 dX3_init_13 (by decide) ?_
  refine g_putI fo_2_1 (by decide) rfl q1057 dX3_init_15 fun σ => ?_
  refine g_aload_n 0 dX3_init_18 rfl rfl ?_
  refine g_iconst 4 dX3_init_19 (by decide) ?_
  refine g_putI fo_2_2 (by decide) rfl q1058 dX3_init_20 fun σ => ?_
  refine g_aload_n 0 dX3_init_23 rfl rfl ?_
  refine g_bipush 8 dX3_init_24 (by decide) ?_
  refine g_newarray_int dX3_init_26 fun y2 σ => ?_
  refine g_putRF rfl fo_2_4 rfl rfl q1060 dX3_init_28 fun σ => ?_
  refine g_aload_n 0 dX3_init_31 rfl rfl ?_
  refine g_bipush 8 dX3_init_32 (by decide) ?_
  refine g_newarray_int dX3_init_34 fun y3 σ => ?_
  refine g_putRF rfl fo_2_5 rfl rfl q1061 dX3_init_36 fun σ => ?_
  refine g_aload_n 0 dX3_init_39 rfl rfl ?_
  refine g_bipush 8 dX3_init_40 (by decide) ?_
  refine g_newarray_int dX3_init_42 fun y4 σ => ?_
  refine g_putRF rfl fo_2_6 rfl rfl q1062 dX3_init_44 fun σ => ?_
  refine g_aload_n 0 dX3_init_47 rfl rfl ?_
  refine g_bipush 80 dX3_init_48 (by decide) ?_
  refine g_newarray_byte dX3_init_50 fun y5 σ => ?_
  refine g_putRF rfl fo_2_7 rfl rfl q1063 dX3_init_52 fun σ => ?_
  refine g_aload_n 0 dX3_init_55 rfl rfl ?_
  refine g_bipush 16 dX3_init_56 (by decide) ?_
  refine g_newarray_long dX3_init_58 fun y6 σ => ?_
  refine g_putRF rfl fo_2_9 rfl rfl q1065 dX3_init_60 fun σ => ?_
  refine g_aload_n 0 dX3_init_63 rfl rfl ?_
  refine g_bipush 24 dX3_init_64 (by decide) ?_
  refine g_newarray_int dX3_init_66 fun y7 σ => ?_
  refine g_putRF rfl fo_2_17 rfl rfl q1073 dX3_init_68 fun σ => ?_
  refine g_aload_n 0 dX3_init_71 rfl rfl ?_
  refine g_bipush 40 dX3_init_72 (by decide) ?_
  refine g_newarray_byte dX3_init_74 fun y8 σ => ?_
  refine g_putR fo_2_18 rfl q1074 dX3_init_76 fun σ => ?_
  refine g_aload_n 0 dX3_init_79 rfl rfl ?_
  refine g_bipush 40 dX3_init_80 (by decide) ?_
  refine g_newarray_byte dX3_init_82 fun y9 σ => ?_
  refine g_putR fo_2_19 rfl q1075 dX3_init_84 fun σ => ?_
  refine g_aload_n 0 dX3_init_87 rfl rfl ?_
  refine g_bipush 7 dX3_init_88 (by decide) ?_
  refine g_newarray_int dX3_init_90 fun y10 σ => ?_
  refine g_putRF rfl fo_2_22 rfl rfl q1078 dX3_init_92 fun σ => ?_
  refine g_aload_n 0 dX3_init_95 rfl rfl ?_
  refine g_sipush 324 dX3_init_96 (by decide) ?_
  refine g_newarray_int dX3_init_99 fun y11 σ => ?_
  refine g_putRF rfl fo_2_23 rfl rfl q1079 dX3_init_101 fun σ => ?_
  refine g_aload_n 0 dX3_init_104 rfl rfl ?_
  refine g_bipush 27 dX3_init_105 (by decide) ?_
  refine g_newarray_int dX3_init_107 fun y12 σ => ?_
  refine g_putRF rfl fo_2_25 rfl rfl q1081 dX3_init_109 fun σ => ?_
  refine g_aload_n 0 dX3_init_112 rfl rfl ?_
  refine g_bipush 27 dX3_init_113 (by decide) ?_
  refine g_newarray_int dX3_init_115 fun y13 σ => ?_
  refine g_putRF rfl fo_2_26 rfl rfl q1082 dX3_init_117 fun σ => ?_
  refine g_aload_n 0 dX3_init_120 rfl rfl ?_
  refine g_bipush 8 dX3_init_121 (by decide) ?_
  refine g_newarray_int dX3_init_123 fun y14 σ => ?_
  refine g_putRF rfl fo_2_29 rfl rfl q1085 dX3_init_125 fun σ => ?_
  refine g_aload_n 0 dX3_init_128 rfl rfl ?_
  refine g_bipush 8 dX3_init_129 (by decide) ?_
  refine g_newarray_int dX3_init_131 fun y15 σ => ?_
  refine g_putRF rfl fo_2_30 rfl rfl q1086 dX3_init_133 fun σ => ?_
  refine g_aload_n 0 dX3_init_136 rfl rfl ?_
  refine g_sipush 240 dX3_init_137 (by decide) ?_
  refine g_newarray_int dX3_init_140 fun y16 σ => ?_
  refine g_putRF rfl fo_2_31 rfl rfl q1087 dX3_init_142 fun σ => ?_
  refine g_aload_n 0 dX3_init_145 rfl rfl ?_
  refine g_bipush 8 dX3_init_146 (by decide) ?_
  refine g_newarray_int dX3_init_148 fun y17 σ => ?_
  refine g_putRF rfl fo_2_32 rfl rfl q1088 dX3_init_150 fun σ => ?_
  refine g_aload_n 0 dX3_init_153 rfl rfl ?_
  refine g_bipush 8 dX3_init_154 (by decide) ?_
  refine g_newarray_int dX3_init_156 fun y18 σ => ?_
  refine g_putRF rfl fo_2_33 rfl rfl q1089 dX3_init_158 fun σ => ?_
  refine g_aload_n 0 dX3_init_161 rfl rfl ?_
  refine g_bipush 8 dX3_init_162 (by decide) ?_
  refine g_newarray_int dX3_init_164 fun y19 σ => ?_
  refine g_putRF rfl fo_2_34 rfl rfl q1090 dX3_init_166 fun σ => ?_
  refine g_aload_n 0 dX3_init_169 rfl rfl ?_
  refine g_bipush 8 dX3_init_170 (by decide) ?_
  refine g_newarray_int dX3_init_172 fun y20 σ => ?_
  refine g_putRF rfl fo_2_35 rfl rfl q1091 dX3_init_174 fun σ => ?_
  refine g_aload_n 0 dX3_init_177 rfl rfl ?_
  refine g_bipush 64 dX3_init_178 (by decide) ?_
  refine g_newarray_int dX3_init_180 fun y21 σ => ?_
  refine g_putRF rfl fo_2_36 rfl rfl q1092 dX3_init_182 fun σ => ?_
  refine g_aload_n 0 dX3_init_185 rfl rfl ?_
  refine g_sipush 2304 dX3_init_186 (by decide) ?_
  refine g_newarray_int dX3_init_189 fun y22 σ => ?_
  refine g_putRF rfl fo_2_37 rfl rfl q1093 dX3_init_191 fun σ => ?_
  refine g_aload_n 0 dX3_init_194 rfl rfl ?_
  refine g_sipush 2304 dX3_init_195 (by decide) ?_
  refine g_newarray_int dX3_init_198 fun y23 σ => ?_
  refine g_putRF rfl fo_2_38 rfl rfl q1094 dX3_init_200 fun σ => ?_
  refine g_aload_n 0 dX3_init_203 rfl rfl ?_
  refine g_ldc dX3_init_204 q1055 ?_
  refine g_putI fo_2_39 (by decide) rfl q1095 dX3_init_206 fun σ => ?_
  refine g_aload_n 0 dX3_init_209 rfl rfl ?_
  refine g_bipush 8 dX3_init_210 (by decide) ?_
  refine g_newarray_int dX3_init_212 fun y24 σ => ?_
  refine g_putRF rfl fo_2_40 rfl rfl q1096 dX3_init_214 fun σ => ?_
  refine g_aload_n 0 dX3_init_217 rfl rfl ?_
  refine g_sipush 256 dX3_init_218 (by decide) ?_
  refine g_newarray_boolean dX3_init_221 fun y25 σ => ?_
  refine g_putRF rfl fo_2_41 rfl rfl q1097 dX3_init_223 fun σ => ?_
  refine g_aload_n 0 dX3_init_226 rfl rfl ?_
  refine g_bipush 12 dX3_init_227 (by decide) ?_
  refine g_newarray_int dX3_init_229 fun y26 σ => ?_
  refine g_putRF rfl fo_2_42 rfl rfl q1098 dX3_init_231 fun σ => ?_
  refine g_aload_n 0 dX3_init_234 rfl rfl ?_
  refine g_bipush 12 dX3_init_235 (by decide) ?_
  refine g_newarray_int dX3_init_237 fun y27 σ => ?_
  refine g_putRF rfl fo_2_43 rfl rfl q1099 dX3_init_239 fun σ => ?_
  refine g_aload_n 0 dX3_init_242 rfl rfl ?_
  refine g_bipush 54 dX3_init_243 (by decide) ?_
  refine g_newarray_int dX3_init_245 fun y28 σ => ?_
  refine g_putRF rfl fo_2_48 rfl rfl q1104 dX3_init_247 fun σ => ?_
  refine g_aload_n 0 dX3_init_250 rfl rfl ?_
  refine g_iconst 2 dX3_init_251 (by decide) ?_
  refine g_newarray_boolean dX3_init_252 fun y29 σ => ?_
  refine g_putRF rfl fo_2_49 rfl rfl q1105 dX3_init_254 fun σ => ?_
  refine g_aload_n 0 dX3_init_257 rfl rfl ?_
  refine g_iconst 2 dX3_init_258 (by decide) ?_
  refine g_newarray_int dX3_init_259 fun y30 σ => ?_
  refine g_putRF rfl fo_2_50 rfl rfl q1106 dX3_init_261 fun σ => ?_
  refine g_iconst 0 dX3_init_264 (by decide) ?_
  refine g_istore_n 1 dX3_init_265 rfl (lt_b rfl) ?_
  refine g_jmp (ok_X3_init_b266 X v0 ?_ _ _ _) rfl
  · intro a32 σ
    exact g_vret rfl dX3_init_285
theorem dd_X3_init : yX3_init.cls ≠ "java/lang/invoke/MethodHandle" ∧ yX3_init.cls ≠ "java/lang/invoke/VarHandle" ∧ (parseMethodDescriptor yX3_init.desc).map (fun d => d.parameters.length) = some 0 := by decide +kernel
theorem dv_X3_init : yX3_init.cls = RX3 ∧ yX3_init.cls ≠ "java/lang/invoke/MethodHandle" ∧ yX3_init.cls ≠ "java/lang/invoke/VarHandle" ∧ (parseMethodDescriptor yX3_init.desc).map (fun d => d.parameters.length) = some 0 := ⟨rfl, dd_X3_init⟩
/-! RockingHorseModel.thrown()I -/
abbrev mi_X3_thrown : Mi := (cX3_thrown, 1, "RockingHorseModel", 0, some .int, "thrown")
def f_X3_thrown (v0 : Option Nat) (σ : Hp) : Option (Int32 × Hp) :=
  gI 2 11 σ v0 fun x1 =>
  some (x1, σ)
theorem mm_X3_thrown (v0 : Option Nat) (σ : Hp) : MM yX3_thrown mi_X3_thrown rI [vA v0] σ (f_X3_thrown v0 σ) := by
  refine mm_of (by decide +kernel) rfl rfl (Nat.le_of_ble_eq_true rfl) ?_
  intro X
  unfold f_X3_thrown
  refine g_aload_n 0 dX3_thrown_0 rfl rfl ?_
  refine g_getI fo_2_11 (by decide) q1067 dX3_thrown_1 fun x1 => ?_
  exact g_iret rfl dX3_thrown_4
theorem dd_X3_thrown : yX3_thrown.cls ≠ "java/lang/invoke/MethodHandle" ∧ yX3_thrown.cls ≠ "java/lang/invoke/VarHandle" ∧ (parseMethodDescriptor yX3_thrown.desc).map (fun d => d.parameters.length) = some 0 := by decide +kernel
theorem dv_X3_thrown : yX3_thrown.cls = RX3 ∧ yX3_thrown.cls ≠ "java/lang/invoke/MethodHandle" ∧ yX3_thrown.cls ≠ "java/lang/invoke/VarHandle" ∧ (parseMethodDescriptor yX3_thrown.desc).map (fun d => d.parameters.length) = some 0 := ⟨rfl, dd_X3_thrown⟩
