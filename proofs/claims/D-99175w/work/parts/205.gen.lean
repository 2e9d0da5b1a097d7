set_option maxRecDepth 100000
/-! RockingHorse.does(I)Z -/
abbrev mi_X1_does : Mi := (cX1_does, 3, "RockingHorse", 105, some .boolean, "does")
def f_X1_does (v0 : Option Nat) (v1 : Int32) (σ : Hp) : Option (Int32 × Hp) :=
  gR 0 32 σ v0 fun y1 =>
  lI 100 σ y1 v1 fun x2 =>
  gR 0 31 σ v0 fun y3 =>
  lI 100 σ y3 v1 fun x4 =>
  if x4 = 103 then
    gR 0 0 σ v0 fun y12 =>
    gR 0 33 σ v0 fun y13 =>
    lI 100 σ y13 v1 fun x14 =>
    ob 0 σ v0 fun _ => bnd (f_X1_gives v0 y12 x2 x14 σ) fun x15 σ =>
    rz1 x15 σ
  else
  if x4 = 105 then
    gR 0 0 σ v0 fun y10 =>
    ob 0 σ v0 fun _ => bnd (f_X1_falls v0 y10 x2 σ) fun x11 σ =>
    if x11 < 0 then
      rz1 0 σ
    else
      rz1 1 σ
  else
  if x4 = 120 then
    gR 0 0 σ v0 fun y6 =>
    gR 0 33 σ v0 fun y7 =>
    lI 100 σ y7 v1 fun x8 =>
    ob 0 σ v0 fun _ => bnd (f_X1_exchanges v0 y6 x2 x8 σ) fun x9 σ =>
    rz1 x9 σ
  else
  gR 0 0 σ v0 fun y5 =>
  ob 0 σ v0 fun _ => bnd (f_X1_nightsGo v0 y5 x2 σ) fun _ σ =>
  rz1 1 σ
theorem mm_X1_does (v0 : Option Nat) (v1 : Int32) (σ : Hp) : MM yX1_does mi_X1_does rI [vA v0, vI v1] σ (f_X1_does v0 v1 σ) := by
  refine mm_of (by decide +kernel) rfl rfl (Nat.le_of_ble_eq_true rfl) ?_
  intro X
  unfold f_X1_does
  refine g_aload_n 0 dX1_does_0 rfl rfl ?_
  refine g_getR fo_0_32 q209 dX1_does_1 fun y1 => ?_
  refine g_iload_n 1 dX1_does_4 rfl rfl ?_
  refine g_iaload dX1_does_5 fun x2 => ?_
  refine g_istore_n 2 dX1_does_6 rfl (lt_b rfl) ?_
  refine g_aload_n 0 dX1_does_7 rfl rfl ?_
  refine g_getR fo_0_31 q208 dX1_does_8 fun y3 => ?_
  refine g_iload_n 1 dX1_does_11 rfl rfl ?_
  refine g_iaload dX1_does_12 fun x4 => ?_
  refine g_case (fun h1 => ?_) (fun h1 => ?_)
  · refine g_lookup (off := 53) 66 dX1_does_13 (by decide) (by rw [h1]; try rfl) (by decide) ?_
    refine g_aload_n 0 dX1_does_66 rfl rfl ?_
    refine g_aload_n 0 dX1_does_67 rfl rfl ?_
    refine g_getR fo_0_0 q171 dX1_does_68 fun y12 => ?_
    refine g_iload_n 2 dX1_does_71 rfl rfl ?_
    refine g_aload_n 0 dX1_does_72 rfl rfl ?_
    refine g_getR fo_0_33 q210 dX1_does_73 fun y13 => ?_
    refine g_iload_n 1 dX1_does_76 rfl rfl ?_
    refine g_iaload dX1_does_77 fun x14 => ?_
    refine g_callV_I (mm_X1_gives _ _ _ _ _) rfl zc_0 q647 q649 qs16 q107 q650 dv_X1_gives rfl (Nat.le_of_ble_eq_true rfl) (Nat.le_of_ble_eq_true rfl) (Nat.le_of_ble_eq_true rfl) dX1_does_78 fun x15 σ => ?_
    exact g_zret rfl dX1_does_81
  · refine g_case (fun h2 => ?_) (fun h2 => ?_)
    · refine g_lookup (off := 35) 48 dX1_does_13 (by decide) (by rw [h2]; try rfl) (by decide) ?_
      refine g_aload_n 0 dX1_does_48 rfl rfl ?_
      refine g_aload_n 0 dX1_does_49 rfl rfl ?_
      refine g_getR fo_0_0 q171 dX1_does_50 fun y10 => ?_
      refine g_iload_n 2 dX1_does_53 rfl rfl ?_
      refine g_callV_I (mm_X1_falls _ _ _ _) rfl zc_0 q655 q657 qs17 q107 q658 dv_X1_falls rfl (Nat.le_of_ble_eq_true rfl) (Nat.le_of_ble_eq_true rfl) (Nat.le_of_ble_eq_true rfl) dX1_does_54 fun x11 σ => ?_
      refine g_if_lt 64 dX1_does_57 (by decide) ?_ ?_
      · refine g_iconst 0 dX1_does_64 (by decide) ?_
        exact g_zret rfl dX1_does_65
      · refine g_iconst 1 dX1_does_60 (by decide) ?_
        refine g_goto 65 dX1_does_61 (by decide) ?_
        exact g_zret rfl dX1_does_65
    · refine g_case (fun h3 => ?_) (fun h3 => ?_)
      · refine g_lookup (off := 69) 82 dX1_does_13 (by decide) (by rw [h3]; try rfl) (by decide) ?_
        refine g_aload_n 0 dX1_does_82 rfl rfl ?_
        refine g_aload_n 0 dX1_does_83 rfl rfl ?_
        refine g_getR fo_0_0 q171 dX1_does_84 fun y6 => ?_
        refine g_iload_n 2 dX1_does_87 rfl rfl ?_
        refine g_aload_n 0 dX1_does_88 rfl rfl ?_
        refine g_getR fo_0_33 q210 dX1_does_89 fun y7 => ?_
        refine g_iload_n 1 dX1_does_92 rfl rfl ?_
        refine g_iaload dX1_does_93 fun x8 => ?_
        refine g_callV_I (mm_X1_exchanges _ _ _ _ _) rfl zc_0 q700 q702 qs24 q107 q703 dv_X1_exchanges rfl (Nat.le_of_ble_eq_true rfl) (Nat.le_of_ble_eq_true rfl) (Nat.le_of_ble_eq_true rfl) dX1_does_94 fun x9 σ => ?_
        exact g_zret rfl dX1_does_97
      · refine g_lookup (off := 85) 98 dX1_does_13 (by decide) (by rw [lv_osw h1 (by decide)]; rw [lv_osw h2 (by decide)]; rw [lv_osw h3 (by decide)]; try rfl) (by decide) ?_
        refine g_aload_n 0 dX1_does_98 rfl rfl ?_
        refine g_aload_n 0 dX1_does_99 rfl rfl ?_
        refine g_getR fo_0_0 q171 dX1_does_100 fun y5 => ?_
        refine g_iload_n 2 dX1_does_103 rfl rfl ?_
        refine g_callV_V (mm_X1_nightsGo _ _ _ _) rfl zc_0 q665 q667 qs18 q107 q668 dv_X1_nightsGo rfl (Nat.le_of_ble_eq_true rfl) (Nat.le_of_ble_eq_true rfl) (Nat.le_of_ble_eq_true rfl) dX1_does_104 fun _ σ => ?_
        refine g_iconst 1 dX1_does_107 (by decide) ?_
        exact g_zret rfl dX1_does_108
theorem dd_X1_does : yX1_does.cls ≠ "java/lang/invoke/MethodHandle" ∧ yX1_does.cls ≠ "java/lang/invoke/VarHandle" ∧ (parseMethodDescriptor yX1_does.desc).map (fun d => d.parameters.length) = some 1 := by decide +kernel
theorem dv_X1_does : yX1_does.cls = RX1 ∧ yX1_does.cls ≠ "java/lang/invoke/MethodHandle" ∧ yX1_does.cls ≠ "java/lang/invoke/VarHandle" ∧ (parseMethodDescriptor yX1_does.desc).map (fun d => d.parameters.length) = some 1 := ⟨rfl, dd_X1_does⟩
/-! RockingHorse.later(I)I -/
abbrev mi_X1_later : Mi := (cX1_later, 4, "RockingHorse", 105, some .int, "later")
def f_X1_later_b38 (v0 : Option Nat) (k0 : Int32 → Hp → Option (Int32 × Hp)) (ag : (Int32 × Int32) → Hp → Option (Int32 × Hp)) (a : Int32 × Int32) (σ : Hp) : Option (Int32 × Hp) :=
  gI 0 5 σ v0 fun x5 =>
  if x5 ≤ a.2 then
    k0 a.1 σ
  else
    gR 0 1 σ v0 fun y6 =>
    gR 1 1 σ y6 fun y7 =>
    lI 100 σ y7 a.2 fun x8 =>
    ag ((imax a.1 x8), (a.2 + 1)) σ
def f_X1_later (v0 : Option Nat) (v1 : Int32) (σ : Hp) : Option (Int32 × Hp) :=
  bnd (f_X1_in (Int32.toInt64 v1) 0 60 σ) fun x1 σ =>
  if x1 = 0 then
    some ((-1), σ)
  else
    gR 0 1 σ v0 fun y2 =>
    gR 0 0 σ v0 fun y3 =>
    ob 1 σ y2 fun _ => bnd (f_X2_becomes y2 y3 σ) fun _ σ =>
    gR 0 1 σ v0 fun y4 =>
    ob 0 σ v0 fun _ => bnd (f_X1_nightsGo v0 y4 v1 σ) fun _ σ =>
    lp 2000 (f_X1_later_b38 v0 (fun (a9 : Int32) σ =>
        pI 0 0 52 σ v0 0 fun σ =>
        gR 0 1 σ v0 fun y10 =>
        gR 1 1 σ y10 fun y11 =>
        ob 0 σ v0 fun _ => bnd (f_X1_sumOf v0 y11 σ) fun x12 σ =>
        ob 0 σ v0 fun _ => bnd (f_X1_tells v0 (Int32.toInt64 x12) σ) fun _ σ =>
        ob 0 σ v0 fun _ => bnd (f_X1_tells v0 (Int32.toInt64 a9) σ) fun _ σ =>
        gR 0 1 σ v0 fun y13 =>
        gI 1 4 σ y13 fun x14 =>
        gR 0 0 σ v0 fun y15 =>
        gI 1 4 σ y15 fun x16 =>
        some ((x14 - x16), σ))) (0, 0) σ
theorem ok_X1_later_b38 (X : Mx) (v0 : Option Nat) {k0 : Int32 → Hp → Option (Int32 × Hp)} (hk0 : ∀ (a : Int32) (σ : Hp), GG X mi_X1_later (QM X rI) 66 [(0, vA v0), (2, vI a)] [] σ (k0 a σ)) : ∀ (m : Nat) (a : Int32 × Int32) (σ : Hp), GG X mi_X1_later (QM X rI) 38 [(0, vA v0), (2, vI a.1), (3, vI a.2)] [] σ (lp m (f_X1_later_b38 v0 k0) a σ) := by
  refine g_lp (fun (a : Int32 × Int32) => [(0, vA v0), (2, vI a.1), (3, vI a.2)]) ?_
  intro ag hag a σ
  unfold f_X1_later_b38
  refine g_iload_n 3 dX1_later_38 rfl rfl ?_
  refine g_aload_n 0 dX1_later_39 rfl rfl ?_
  refine g_getI fo_0_5 (by decide) q179 dX1_later_40 fun x5 => ?_
  refine g_icmp_ge 66 dX1_later_43 (by decide) ?_ ?_
  · exact g_jmp (hk0 _ _) rfl
  · refine g_iload_n 2 dX1_later_46 rfl rfl ?_
    refine g_aload_n 0 dX1_later_47 rfl rfl ?_
    refine g_getR fo_0_1 q172 dX1_later_48 fun y6 => ?_
    refine g_getRN fo_1_1 nf_145 dX1_later_51 fun y7 => ?_
    refine g_iload_n 3 dX1_later_54 rfl rfl ?_
    refine g_iaload dX1_later_55 fun x8 => ?_
    refine g_mmax q608 (by decide) (Nat.le_of_ble_eq_true rfl) dX1_later_56 ?_
    refine g_istore_n 2 dX1_later_59 rfl (lt_b rfl) ?_
    refine g_iinc 1 dX1_later_60 (by decide) rfl (lt_b rfl) ?_
    refine g_goto 38 dX1_later_63 (by decide) ?_
    exact g_jmp (hag _ _) rfl
theorem mm_X1_later (v0 : Option Nat) (v1 : Int32) (σ : Hp) : MM yX1_later mi_X1_later rI [vA v0, vI v1] σ (f_X1_later v0 v1 σ) := by
  refine mm_of (by decide +kernel) rfl rfl (Nat.le_of_ble_eq_true rfl) ?_
  intro X
  unfold f_X1_later
  refine g_iload_n 1 dX1_later_0 rfl rfl ?_
  refine g_i2l dX1_later_1 ?_
  refine g_lconst 0 dX1_later_2 (by decide) ?_
  refine g_ldc2_w dX1_later_3 q716 ?_
  refine g_callS_I (mm_X1_in _ _ _ _) rfl q346 q347 q107 q348 dd_X1_in rfl (Nat.le_of_ble_eq_true rfl) (Nat.le_of_ble_eq_true rfl) (Nat.le_of_ble_eq_true rfl) dX1_later_6 fun x1 σ => ?_
  refine g_if_ne 14 dX1_later_9 (by decide) ?_ ?_
  · refine g_aload_n 0 dX1_later_14 rfl rfl ?_
    refine g_getR fo_0_1 q172 dX1_later_15 fun y2 => ?_
    refine g_aload_n 0 dX1_later_18 rfl rfl ?_
    refine g_getR fo_0_0 q171 dX1_later_19 fun y3 => ?_
    refine g_callV_V (mm_X2_becomes _ _ _) rfl zc_1 q628 q629 q630 q108 q631 dv_X2_becomes rfl (Nat.le_of_ble_eq_true rfl) (Nat.le_of_ble_eq_true rfl) (Nat.le_of_ble_eq_true rfl) dX1_later_22 fun _ σ => ?_
    refine g_aload_n 0 dX1_later_25 rfl rfl ?_
    refine g_aload_n 0 dX1_later_26 rfl rfl ?_
    refine g_getR fo_0_1 q172 dX1_later_27 fun y4 => ?_
    refine g_iload_n 1 dX1_later_30 rfl rfl ?_
    refine g_callV_V (mm_X1_nightsGo _ _ _ _) rfl zc_0 q665 q667 qs18 q107 q668 dv_X1_nightsGo rfl (Nat.le_of_ble_eq_true rfl) (Nat.le_of_ble_eq_true rfl) (Nat.le_of_ble_eq_true rfl) dX1_later_31 fun _ σ => ?_
    refine g_iconst 0 dX1_later_34 (by decide) ?_
    refine g_istore_n 2 dX1_later_35 rfl (lt_b rfl) ?_
    refine g_iconst 0 dX1_later_36 (by decide) ?_
    refine g_istore_n 3 dX1_later_37 rfl (lt_b rfl) ?_
    refine g_jmp (ok_X1_later_b38 X v0 ?_ _ _ _) rfl
    · intro a9 σ
      refine g_aload_n 0 dX1_later_66 rfl rfl ?_
      refine g_iconst 0 dX1_later_67 (by decide) ?_
      refine g_putI fo_0_52 (by decide) rfl q229 dX1_later_68 fun σ => ?_
      refine g_aload_n 0 dX1_later_71 rfl rfl ?_
      refine g_aload_n 0 dX1_later_72 rfl rfl ?_
      refine g_aload_n 0 dX1_later_73 rfl rfl ?_
      refine g_getR fo_0_1 q172 dX1_later_74 fun y10 => ?_
      refine g_getRN fo_1_1 nf_145 dX1_later_77 fun y11 => ?_
      refine g_callV_I (mm_X1_sumOf _ _ _) rfl zc_0 q620 q622 qs14 q107 q623 dv_X1_sumOf rfl (Nat.le_of_ble_eq_true rfl) (Nat.le_of_ble_eq_true rfl) (Nat.le_of_ble_eq_true rfl) dX1_later_80 fun x12 σ => ?_
      refine g_i2l dX1_later_83 ?_
      refine g_callV_V (mm_X1_tells _ _ _) rfl zc_0 q683 q685 qs21 q107 q686 dv_X1_tells rfl (Nat.le_of_ble_eq_true rfl) (Nat.le_of_ble_eq_true rfl) (Nat.le_of_ble_eq_true rfl) dX1_later_84 fun _ σ => ?_
      refine g_aload_n 0 dX1_later_87 rfl rfl ?_
      refine g_iload_n 2 dX1_later_88 rfl rfl ?_
      refine g_i2l dX1_later_89 ?_
      refine g_callV_V (mm_X1_tells _ _ _) rfl zc_0 q683 q685 qs21 q107 q686 dv_X1_tells rfl (Nat.le_of_ble_eq_true rfl) (Nat.le_of_ble_eq_true rfl) (Nat.le_of_ble_eq_true rfl) dX1_later_90 fun _ σ => ?_
      refine g_aload_n 0 dX1_later_93 rfl rfl ?_
      refine g_getR fo_0_1 q172 dX1_later_94 fun y13 => ?_
      refine g_getIN fo_1_4 (by decide) nf_152 dX1_later_97 fun x14 => ?_
      refine g_aload_n 0 dX1_later_100 rfl rfl ?_
      refine g_getR fo_0_0 q171 dX1_later_101 fun y15 => ?_
      refine g_getIN fo_1_4 (by decide) nf_152 dX1_later_104 fun x16 => ?_
      refine g_isub dX1_later_107 ?_
      exact g_iret rfl dX1_later_108
  · refine g_iconst (-1) dX1_later_12 (by decide) ?_
    exact g_iret rfl dX1_later_13
theorem dd_X1_later : yX1_later.cls ≠ "java/lang/invoke/MethodHandle" ∧ yX1_later.cls ≠ "java/lang/invoke/VarHandle" ∧ (parseMethodDescriptor yX1_later.desc).map (fun d => d.parameters.length) = some 1 := by decide +kernel
theorem dv_X1_later : yX1_later.cls = RX1 ∧ yX1_later.cls ≠ "java/lang/invoke/MethodHandle" ∧ yX1_later.cls ≠ "java/lang/invoke/VarHandle" ∧ (parseMethodDescriptor yX1_later.desc).map (fun d => d.parameters.length) = some 1 := ⟨rfl, dd_X1_later⟩
/-! RockingHorse.easiestBut(I)I -/
abbrev mi_X1_easiestBut : Mi := (cX1_easiestBut, 2, "RockingHorse", 103, some .int, "easiestBut")
def f_X1_easiestBut (v0 : Option Nat) (v1 : Int32) (σ : Hp) : Option (Int32 × Hp) :=
  ob 0 σ v0 fun _ => bnd (f_X1_opens v0 v1 σ) fun _ σ =>
  ob 0 σ v0 fun _ => bnd (f_X1_pricesHard v0 σ) fun _ σ =>
  ob 0 σ v0 fun _ => bnd (f_X1_laysLeast v0 σ) fun x1 σ =>
  some (x1, σ)
theorem mm_X1_easiestBut (v0 : Option Nat) (v1 : Int32) (σ : Hp) : MM yX1_easiestBut mi_X1_easiestBut rI [vA v0, vI v1] σ (f_X1_easiestBut v0 v1 σ) := by
  refine mm_of (by decide +kernel) rfl rfl (Nat.le_of_ble_eq_true rfl) ?_
  intro X
  unfold f_X1_easiestBut
  refine g_aload_n 0 dX1_easiestBut_0 rfl rfl ?_
  refine g_iload_n 1 dX1_easiestBut_1 rfl rfl ?_
  refine g_callV_V (mm_X1_opens _ _ _) rfl zc_0 q741 q743 qs27 q107 q744 dv_X1_opens rfl (Nat.le_of_ble_eq_true rfl) (Nat.le_of_ble_eq_true rfl) (Nat.le_of_ble_eq_true rfl) dX1_easiestBut_2 fun _ σ => ?_
  refine g_aload_n 0 dX1_easiestBut_5 rfl rfl ?_
  refine g_callV_V (mm_X1_pricesHard _ _) rfl zc_0 q749 q751 qs29 q107 q752 dv_X1_pricesHard rfl (Nat.le_of_ble_eq_true rfl) (Nat.le_of_ble_eq_true rfl) (Nat.le_of_ble_eq_true rfl) dX1_easiestBut_6 fun _ σ => ?_
  refine g_aload_n 0 dX1_easiestBut_9 rfl rfl ?_
  refine g_callV_I (mm_X1_laysLeast _ _) rfl zc_0 q753 q755 qs30 q107 q756 dv_X1_laysLeast rfl (Nat.le_of_ble_eq_true rfl) (Nat.le_of_ble_eq_true rfl) (Nat.le_of_ble_eq_true rfl) dX1_easiestBut_10 fun x1 σ => ?_
  exact g_iret rfl dX1_easiestBut_13
theorem dd_X1_easiestBut : yX1_easiestBut.cls ≠ "java/lang/invoke/MethodHandle" ∧ yX1_easiestBut.cls ≠ "java/lang/invoke/VarHandle" ∧ (parseMethodDescriptor yX1_easiestBut.desc).map (fun d => d.parameters.length) = some 1 := by decide +kernel
theorem dv_X1_easiestBut : yX1_easiestBut.cls = RX1 ∧ yX1_easiestBut.cls ≠ "java/lang/invoke/MethodHandle" ∧ yX1_easiestBut.cls ≠ "java/lang/invoke/VarHandle" ∧ (parseMethodDescriptor yX1_easiestBut.desc).map (fun d => d.parameters.length) = some 1 := ⟨rfl, dd_X1_easiestBut⟩
/-! RockingHorse.takes()I -/
abbrev mi_X1_takes_2 : Mi := (cX1_takes_2, 4, "RockingHorse", 104, some .int, "takes")
def f_X1_takes_2_b32 (v0 : Option Nat) (k0 : Int32 → Hp → Option (Int32 × Hp)) (ag : (Int32 × Int32) → Hp → Option (Int32 × Hp)) (a : Int32 × Int32) (σ : Hp) : Option (Int32 × Hp) :=
  gI 0 6 σ v0 fun x3 =>
  if x3 ≤ a.2 then
    k0 a.1 σ
  else
    gR 0 0 σ v0 fun y4 =>
    gR 1 0 σ y4 fun y5 =>
    lI 100 σ y5 a.2 fun x6 =>
    gR 0 40 σ v0 fun y7 =>
    lI 100 σ y7 a.2 fun x8 =>
    jn (fun (a9 : Int32) σ =>
        gR 0 0 σ v0 fun y11 =>
        gR 1 0 σ y11 fun y12 =>
        gR 0 40 σ v0 fun y13 =>
        lI 100 σ y13 a.2 fun x14 =>
        sI σ y12 a.2 x14 fun σ =>
        ag ((a.1 + a9), (a.2 + 1)) σ) fun j10 =>
    if x6 = x8 then
      j10 0 σ
    else
      j10 1 σ
def f_X1_takes_2 (v0 : Option Nat) (σ : Hp) : Option (Int32 × Hp) :=
  ob 0 σ v0 fun _ => bnd (f_X1_easiestBut v0 0 σ) fun x1 σ =>
  if x1 = 1000000 then
    some ((-2), σ)
  else
    ob 0 σ v0 fun _ => bnd (f_X1_laysTurn v0 x1 σ) fun _ σ =>
    gR 0 0 σ v0 fun y2 =>
    ob 0 σ v0 fun _ => bnd (f_X1_putsBy v0 y2 σ) fun _ σ =>
    lp 2000 (f_X1_takes_2_b32 v0 (fun (a15 : Int32) σ =>
        some (a15, σ))) (0, 0) σ
theorem ok_X1_takes_2_b32 (X : Mx) (v0 : Option Nat) {k0 : Int32 → Hp → Option (Int32 × Hp)} (hk0 : ∀ (a : Int32) (σ : Hp), GG X mi_X1_takes_2 (QM X rI) 87 [(2, vI a)] [] σ (k0 a σ)) : ∀ (m : Nat) (a : Int32 × Int32) (σ : Hp), GG X mi_X1_takes_2 (QM X rI) 32 [(0, vA v0), (2, vI a.1), (3, vI a.2)] [] σ (lp m (f_X1_takes_2_b32 v0 k0) a σ) := by
  refine g_lp (fun (a : Int32 × Int32) => [(0, vA v0), (2, vI a.1), (3, vI a.2)]) ?_
  intro ag hag a σ
  unfold f_X1_takes_2_b32
  refine g_iload_n 3 dX1_takes_2_32 rfl rfl ?_
  refine g_aload_n 0 dX1_takes_2_33 rfl rfl ?_
  refine g_getI fo_0_6 (by decide) q180 dX1_takes_2_34 fun x3 => ?_
  refine g_icmp_ge 87 dX1_takes_2_37 (by decide) ?_ ?_
  · exact g_jmp (hk0 _ _) rfl
  · refine g_iload_n 2 dX1_takes_2_40 rfl rfl ?_
    refine g_aload_n 0 dX1_takes_2_41 rfl rfl ?_
    refine g_getR fo_0_0 q171 dX1_takes_2_42 fun y4 => ?_
    refine g_getRN fo_1_0 nf_142 dX1_takes_2_45 fun y5 => ?_
    refine g_iload_n 3 dX1_takes_2_48 rfl rfl ?_
    refine g_iaload dX1_takes_2_49 fun x6 => ?_
    refine g_aload_n 0 dX1_takes_2_50 rfl rfl ?_
    refine g_getR fo_0_40 q217 dX1_takes_2_51 fun y7 => ?_
    refine g_iload_n 3 dX1_takes_2_54 rfl rfl ?_
    refine g_iaload dX1_takes_2_55 fun x8 => ?_
    refine g_jn (fun j10 => ∀ (a9 : Int32) (σ : Hp), GG X mi_X1_takes_2 (QM X rI) 64 [(0, vA v0), (3, vI a.2)] [vI a9, vI a.1] σ (j10 a9 σ)) ?_ ?_
    · intro a9 σ
      refine g_iadd dX1_takes_2_64 ?_
      refine g_istore_n 2 dX1_takes_2_65 rfl (lt_b rfl) ?_
      refine g_aload_n 0 dX1_takes_2_66 rfl rfl ?_
      refine g_getR fo_0_0 q171 dX1_takes_2_67 fun y11 => ?_
      refine g_getRN fo_1_0 nf_142 dX1_takes_2_70 fun y12 => ?_
      refine g_iload_n 3 dX1_takes_2_73 rfl rfl ?_
      refine g_aload_n 0 dX1_takes_2_74 rfl rfl ?_
      refine g_getR fo_0_40 q217 dX1_takes_2_75 fun y13 => ?_
      refine g_iload_n 3 dX1_takes_2_78 rfl rfl ?_
      refine g_iaload dX1_takes_2_79 fun x14 => ?_
      refine g_iastore dX1_takes_2_80 fun σ => ?_
      refine g_iinc 1 dX1_takes_2_81 (by decide) rfl (lt_b rfl) ?_
      refine g_goto 32 dX1_takes_2_84 (by decide) ?_
      exact g_jmp (hag _ _) rfl
    · intro j10 hj10
      refine g_icmp_ne 63 dX1_takes_2_56 (by decide) ?_ ?_
      · refine g_iconst 1 dX1_takes_2_63 (by decide) ?_
        exact g_jmp (hj10 _ _) rfl
      · refine g_iconst 0 dX1_takes_2_59 (by decide) ?_
        refine g_goto 64 dX1_takes_2_60 (by decide) ?_
        exact g_jmp (hj10 _ _) rfl
theorem mm_X1_takes_2 (v0 : Option Nat) (σ : Hp) : MM yX1_takes_2 mi_X1_takes_2 rI [vA v0] σ (f_X1_takes_2 v0 σ) := by
  refine mm_of (by decide +kernel) rfl rfl (Nat.le_of_ble_eq_true rfl) ?_
  intro X
  unfold f_X1_takes_2
  refine g_aload_n 0 dX1_takes_2_0 rfl rfl ?_
  refine g_iconst 0 dX1_takes_2_1 (by decide) ?_
  refine g_callV_I (mm_X1_easiestBut _ _ _) rfl zc_0 q737 q739 qs26 q107 q740 dv_X1_easiestBut rfl (Nat.le_of_ble_eq_true rfl) (Nat.le_of_ble_eq_true rfl) (Nat.le_of_ble_eq_true rfl) dX1_takes_2_2 fun x1 σ => ?_
  refine g_istore_n 1 dX1_takes_2_5 rfl (lt_b rfl) ?_
  refine g_iload_n 1 dX1_takes_2_6 rfl rfl ?_
  refine g_ldc dX1_takes_2_7 q170 ?_
  refine g_icmp_ne 15 dX1_takes_2_9 (by decide) ?_ ?_
  · refine g_aload_n 0 dX1_takes_2_15 rfl rfl ?_
    refine g_iload_n 1 dX1_takes_2_16 rfl rfl ?_
    refine g_callV_V (mm_X1_laysTurn _ _ _) rfl zc_0 q761 q763 qs32 q107 q764 dv_X1_laysTurn rfl (Nat.le_of_ble_eq_true rfl) (Nat.le_of_ble_eq_true rfl) (Nat.le_of_ble_eq_true rfl) dX1_takes_2_17 fun _ σ => ?_
    refine g_aload_n 0 dX1_takes_2_20 rfl rfl ?_
    refine g_aload_n 0 dX1_takes_2_21 rfl rfl ?_
    refine g_getR fo_0_0 q171 dX1_takes_2_22 fun y2 => ?_
    refine g_callV_V (mm_X1_putsBy _ _ _) rfl zc_0 q639 q641 qs15 q107 q642 dv_X1_putsBy rfl (Nat.le_of_ble_eq_true rfl) (Nat.le_of_ble_eq_true rfl) (Nat.le_of_ble_eq_true rfl) dX1_takes_2_25 fun _ σ => ?_
    refine g_iconst 0 dX1_takes_2_28 (by decide) ?_
    refine g_istore_n 2 dX1_takes_2_29 rfl (lt_b rfl) ?_
    refine g_iconst 0 dX1_takes_2_30 (by decide) ?_
    refine g_istore_n 3 dX1_takes_2_31 rfl (lt_b rfl) ?_
    refine g_jmp (ok_X1_takes_2_b32 X v0 ?_ _ _ _) rfl
    · intro a15 σ
      refine g_iload_n 2 dX1_takes_2_87 rfl rfl ?_
      exact g_iret rfl dX1_takes_2_88
  · refine g_bipush (-2) dX1_takes_2_12 (by decide) ?_
    exact g_iret rfl dX1_takes_2_14
theorem dd_X1_takes_2 : yX1_takes_2.cls ≠ "java/lang/invoke/MethodHandle" ∧ yX1_takes_2.cls ≠ "java/lang/invoke/VarHandle" ∧ (parseMethodDescriptor yX1_takes_2.desc).map (fun d => d.parameters.length) = some 0 := by decide +kernel
theorem dv_X1_takes_2 : yX1_takes_2.cls = RX1 ∧ yX1_takes_2.cls ≠ "java/lang/invoke/MethodHandle" ∧ yX1_takes_2.cls ≠ "java/lang/invoke/VarHandle" ∧ (parseMethodDescriptor yX1_takes_2.desc).map (fun d => d.parameters.length) = some 0 := ⟨rfl, dd_X1_takes_2⟩
/-! RockingHorse.rotas()I -/
abbrev mi_X1_rotas : Mi := (cX1_rotas, 1, "RockingHorse", 5, some .int, "rotas")
def f_X1_rotas (v0 : Option Nat) (σ : Hp) : Option (Int32 × Hp) :=
  ob 0 σ v0 fun _ => bnd (f_X1_opens v0 0 σ) fun _ σ =>
  ob 0 σ v0 fun _ => bnd (f_X1_tellsWays v0 σ) fun x1 σ =>
  some (x1, σ)
theorem mm_X1_rotas (v0 : Option Nat) (σ : Hp) : MM yX1_rotas mi_X1_rotas rI [vA v0] σ (f_X1_rotas v0 σ) := by
  refine mm_of (by decide +kernel) rfl rfl (Nat.le_of_ble_eq_true rfl) ?_
  intro X
  unfold f_X1_rotas
  refine g_aload_n 0 dX1_rotas_0 rfl rfl ?_
  refine g_iconst 0 dX1_rotas_1 (by decide) ?_
  refine g_callV_V (mm_X1_opens _ _ _) rfl zc_0 q741 q743 qs27 q107 q744 dv_X1_opens rfl (Nat.le_of_ble_eq_true rfl) (Nat.le_of_ble_eq_true rfl) (Nat.le_of_ble_eq_true rfl) dX1_rotas_2 fun _ σ => ?_
  refine g_aload_n 0 dX1_rotas_5 rfl rfl ?_
  refine g_callV_I (mm_X1_tellsWays _ _) rfl zc_0 q802 q804 qs38 q107 q805 dv_X1_tellsWays rfl (Nat.le_of_ble_eq_true rfl) (Nat.le_of_ble_eq_true rfl) (Nat.le_of_ble_eq_true rfl) dX1_rotas_6 fun x1 σ => ?_
  exact g_iret rfl dX1_rotas_9
theorem dd_X1_rotas : yX1_rotas.cls ≠ "java/lang/invoke/MethodHandle" ∧ yX1_rotas.cls ≠ "java/lang/invoke/VarHandle" ∧ (parseMethodDescriptor yX1_rotas.desc).map (fun d => d.parameters.length) = some 0 := by decide +kernel
theorem dv_X1_rotas : yX1_rotas.cls = RX1 ∧ yX1_rotas.cls ≠ "java/lang/invoke/MethodHandle" ∧ yX1_rotas.cls ≠ "java/lang/invoke/VarHandle" ∧ (parseMethodDescriptor yX1_rotas.desc).map (fun d => d.parameters.length) = some 0 := ⟨rfl, dd_X1_rotas⟩
/-! RockingHorse.missed(I)I -/
abbrev mi_X1_missed : Mi := (cX1_missed, 4, "RockingHorse", 104, some .int, "missed")
def f_X1_missed (v0 : Option Nat) (v1 : Int32) (σ : Hp) : Option (Int32 × Hp) :=
  ob 0 σ v0 fun _ => bnd (f_X1_isRider v0 v1 σ) fun x1 σ =>
  if x1 = 0 then
    some ((-1), σ)
  else
    ob 0 σ v0 fun _ => bnd (f_X1_easiestBut v0 0 σ) fun x2 σ =>
    ob 0 σ v0 fun _ => bnd (f_X1_easiestBut v0 (shl 1 v1) σ) fun x3 σ =>
    if x3 = 1000000 then
      some ((-2), σ)
    else
      some ((x3 - x2), σ)
theorem mm_X1_missed (v0 : Option Nat) (v1 : Int32) (σ : Hp) : MM yX1_missed mi_X1_missed rI [vA v0, vI v1] σ (f_X1_missed v0 v1 σ) := by
  refine mm_of (by decide +kernel) rfl rfl (Nat.le_of_ble_eq_true rfl) ?_
  intro X
  unfold f_X1_missed
  refine g_aload_n 0 dX1_missed_0 rfl rfl ?_
  refine g_iload_n 1 dX1_missed_1 rfl rfl ?_
  refine g_callV_I (mm_X1_isRider _ _ _) rfl zc_0 q576 q578 qs12 q107 q579 dv_X1_isRider rfl (Nat.le_of_ble_eq_true rfl) (Nat.le_of_ble_eq_true rfl) (Nat.le_of_ble_eq_true rfl) dX1_missed_2 fun x1 σ => ?_
  refine g_if_ne 10 dX1_missed_5 (by decide) ?_ ?_
  · refine g_aload_n 0 dX1_missed_10 rfl rfl ?_
    refine g_iconst 0 dX1_missed_11 (by decide) ?_
    refine g_callV_I (mm_X1_easiestBut _ _ _) rfl zc_0 q737 q739 qs26 q107 q740 dv_X1_easiestBut rfl (Nat.le_of_ble_eq_true rfl) (Nat.le_of_ble_eq_true rfl) (Nat.le_of_ble_eq_true rfl) dX1_missed_12 fun x2 σ => ?_
    refine g_istore_n 2 dX1_missed_15 rfl (lt_b rfl) ?_
    refine g_aload_n 0 dX1_missed_16 rfl rfl ?_
    refine g_iconst 1 dX1_missed_17 (by decide) ?_
    refine g_iload_n 1 dX1_missed_18 rfl rfl ?_
    refine g_ishl dX1_missed_19 ?_
    refine g_callV_I (mm_X1_easiestBut _ _ _) rfl zc_0 q737 q739 qs26 q107 q740 dv_X1_easiestBut rfl (Nat.le_of_ble_eq_true rfl) (Nat.le_of_ble_eq_true rfl) (Nat.le_of_ble_eq_true rfl) dX1_missed_20 fun x3 σ => ?_
    refine g_istore_n 3 dX1_missed_23 rfl (lt_b rfl) ?_
    refine g_iload_n 3 dX1_missed_24 rfl rfl ?_
    refine g_ldc dX1_missed_25 q170 ?_
    refine g_icmp_ne 35 dX1_missed_27 (by decide) ?_ ?_
    · refine g_iload_n 3 dX1_missed_35 rfl rfl ?_
      refine g_iload_n 2 dX1_missed_36 rfl rfl ?_
      refine g_isub dX1_missed_37 ?_
      exact g_iret rfl dX1_missed_38
    · refine g_bipush (-2) dX1_missed_30 (by decide) ?_
      refine g_goto 38 dX1_missed_32 (by decide) ?_
      exact g_iret rfl dX1_missed_38
  · refine g_iconst (-1) dX1_missed_8 (by decide) ?_
    exact g_iret rfl dX1_missed_9
theorem dd_X1_missed : yX1_missed.cls ≠ "java/lang/invoke/MethodHandle" ∧ yX1_missed.cls ≠ "java/lang/invoke/VarHandle" ∧ (parseMethodDescriptor yX1_missed.desc).map (fun d => d.parameters.length) = some 1 := by decide +kernel
theorem dv_X1_missed : yX1_missed.cls = RX1 ∧ yX1_missed.cls ≠ "java/lang/invoke/MethodHandle" ∧ yX1_missed.cls ≠ "java/lang/invoke/VarHandle" ∧ (parseMethodDescriptor yX1_missed.desc).map (fun d => d.parameters.length) = some 1 := ⟨rfl, dd_X1_missed⟩
/-! RockingHorse.paid(I)I -/
abbrev mi_X1_paid : Mi := (cX1_paid, 6, "RockingHorse", 104, some .int, "paid")
def f_X1_paid_b44 (v0 : Option Nat) (v1 : Int32) (k0 : Int32 → Hp → Option (Int32 × Hp)) (ag : (Int32 × Int32) → Hp → Option (Int32 × Hp)) (a : Int32 × Int32) (σ : Hp) : Option (Int32 × Hp) :=
  gI 0 6 σ v0 fun x4 =>
  if x4 ≤ a.2 then
    k0 a.1 σ
  else
    gR 0 40 σ v0 fun y5 =>
    lI 100 σ y5 a.2 fun x6 =>
    jn (fun (a7 : Int32) σ =>
        ag ((a.1 + a7), (a.2 + 1)) σ) fun j8 =>
    if x6 = v1 then
      gR 0 0 σ v0 fun y9 =>
      ob 0 σ v0 fun _ => bnd (f_X1_hardOf v0 y9 v1 a.2 σ) fun x10 σ =>
      j8 x10 σ
    else
      j8 0 σ
def f_X1_paid (v0 : Option Nat) (v1 : Int32) (σ : Hp) : Option (Int32 × Hp) :=
  ob 0 σ v0 fun _ => bnd (f_X1_isRider v0 v1 σ) fun x1 σ =>
  if x1 = 0 then
    some ((-1), σ)
  else
    ob 0 σ v0 fun _ => bnd (f_X1_easiestBut v0 (shl 1 v1) σ) fun x2 σ =>
    ob 0 σ v0 fun _ => bnd (f_X1_easiestBut v0 0 σ) fun x3 σ =>
    if x2 = 1000000 then
      some ((-2), σ)
    else
      ob 0 σ v0 fun _ => bnd (f_X1_laysTurn v0 x3 σ) fun _ σ =>
      lp 2000 (f_X1_paid_b44 v0 v1 (fun (a11 : Int32) σ =>
          pI 0 0 52 σ v0 0 fun σ =>
          ob 0 σ v0 fun _ => bnd (f_X1_tells v0 (Int32.toInt64 a11) σ) fun _ σ =>
          ob 0 σ v0 fun _ => bnd (f_X1_tells v0 (Int32.toInt64 (x3 - a11)) σ) fun _ σ =>
          some ((x2 - (x3 - a11)), σ))) (0, 0) σ
theorem ok_X1_paid_b44 (X : Mx) (v0 : Option Nat) (v1 : Int32) (v2 : Int32) (v3 : Int32) {k0 : Int32 → Hp → Option (Int32 × Hp)} (hk0 : ∀ (a : Int32) (σ : Hp), GG X mi_X1_paid (QM X rI) 90 [(0, vA v0), (2, vI v2), (3, vI v3), (4, vI a)] [] σ (k0 a σ)) : ∀ (m : Nat) (a : Int32 × Int32) (σ : Hp), GG X mi_X1_paid (QM X rI) 44 [(0, vA v0), (1, vI v1), (2, vI v2), (3, vI v3), (4, vI a.1), (5, vI a.2)] [] σ (lp m (f_X1_paid_b44 v0 v1 k0) a σ) := by
  refine g_lp (fun (a : Int32 × Int32) => [(0, vA v0), (1, vI v1), (2, vI v2), (3, vI v3), (4, vI a.1), (5, vI a.2)]) ?_
  intro ag hag a σ
  unfold f_X1_paid_b44
  refine g_iload dX1_paid_44 rfl ?_
  refine g_aload_n 0 dX1_paid_46 rfl rfl ?_
  refine g_getI fo_0_6 (by decide) q180 dX1_paid_47 fun x4 => ?_
  refine g_icmp_ge 90 dX1_paid_50 (by decide) ?_ ?_
  · exact g_jmp (hk0 _ _) rfl
  · refine g_iload dX1_paid_53 rfl ?_
    refine g_aload_n 0 dX1_paid_55 rfl rfl ?_
    refine g_getR fo_0_40 q217 dX1_paid_56 fun y5 => ?_
    refine g_iload dX1_paid_59 rfl ?_
    refine g_iaload dX1_paid_61 fun x6 => ?_
    refine g_iload_n 1 dX1_paid_62 rfl rfl ?_
    refine g_jn (fun j8 => ∀ (a7 : Int32) (σ : Hp), GG X mi_X1_paid (QM X rI) 81 [(0, vA v0), (1, vI v1), (2, vI v2), (3, vI v3), (5, vI a.2)] [vI a7, vI a.1] σ (j8 a7 σ)) ?_ ?_
    · intro a7 σ
      refine g_iadd dX1_paid_81 ?_
      refine g_istore dX1_paid_82 (lt_b rfl) ?_
      refine g_iinc 1 dX1_paid_84 (by decide) rfl (lt_b rfl) ?_
      refine g_goto 44 dX1_paid_87 (by decide) ?_
      exact g_jmp (hag _ _) rfl
    · intro j8 hj8
      refine g_icmp_ne 80 dX1_paid_63 (by decide) ?_ ?_
      · refine g_iconst 0 dX1_paid_80 (by decide) ?_
        exact g_jmp (hj8 _ _) rfl
      · refine g_aload_n 0 dX1_paid_66 rfl rfl ?_
        refine g_aload_n 0 dX1_paid_67 rfl rfl ?_
        refine g_getR fo_0_0 q171 dX1_paid_68 fun y9 => ?_
        refine g_iload_n 1 dX1_paid_71 rfl rfl ?_
        refine g_iload dX1_paid_72 rfl ?_
        refine g_callV_I (mm_X1_hardOf _ _ _ _ _) rfl zc_0 q581 q583 qs13 q107 q584 dv_X1_hardOf rfl (Nat.le_of_ble_eq_true rfl) (Nat.le_of_ble_eq_true rfl) (Nat.le_of_ble_eq_true rfl) dX1_paid_74 fun x10 σ => ?_
        refine g_goto 81 dX1_paid_77 (by decide) ?_
        exact g_jmp (hj8 _ _) rfl
theorem mm_X1_paid (v0 : Option Nat) (v1 : Int32) (σ : Hp) : MM yX1_paid mi_X1_paid rI [vA v0, vI v1] σ (f_X1_paid v0 v1 σ) := by
  refine mm_of (by decide +kernel) rfl rfl (Nat.le_of_ble_eq_true rfl) ?_
  intro X
  unfold f_X1_paid
  refine g_aload_n 0 dX1_paid_0 rfl rfl ?_
  refine g_iload_n 1 dX1_paid_1 rfl rfl ?_
  refine g_callV_I (mm_X1_isRider _ _ _) rfl zc_0 q576 q578 qs12 q107 q579 dv_X1_isRider rfl (Nat.le_of_ble_eq_true rfl) (Nat.le_of_ble_eq_true rfl) (Nat.le_of_ble_eq_true rfl) dX1_paid_2 fun x1 σ => ?_
  refine g_if_ne 10 dX1_paid_5 (by decide) ?_ ?_
  · refine g_aload_n 0 dX1_paid_10 rfl rfl ?_
    refine g_iconst 1 dX1_paid_11 (by decide) ?_
    refine g_iload_n 1 dX1_paid_12 rfl rfl ?_
    refine g_ishl dX1_paid_13 ?_
    refine g_callV_I (mm_X1_easiestBut _ _ _) rfl zc_0 q737 q739 qs26 q107 q740 dv_X1_easiestBut rfl (Nat.le_of_ble_eq_true rfl) (Nat.le_of_ble_eq_true rfl) (Nat.le_of_ble_eq_true rfl) dX1_paid_14 fun x2 σ => ?_
    refine g_istore_n 2 dX1_paid_17 rfl (lt_b rfl) ?_
    refine g_aload_n 0 dX1_paid_18 rfl rfl ?_
    refine g_iconst 0 dX1_paid_19 (by decide) ?_
    refine g_callV_I (mm_X1_easiestBut _ _ _) rfl zc_0 q737 q739 qs26 q107 q740 dv_X1_easiestBut rfl (Nat.le_of_ble_eq_true rfl) (Nat.le_of_ble_eq_true rfl) (Nat.le_of_ble_eq_true rfl) dX1_paid_20 fun x3 σ => ?_
    refine g_istore_n 3 dX1_paid_23 rfl (lt_b rfl) ?_
    refine g_iload_n 2 dX1_paid_24 rfl rfl ?_
    refine g_ldc dX1_paid_25 q170 ?_
    refine g_icmp_ne 33 dX1_paid_27 (by decide) ?_ ?_
    · refine g_aload_n 0 dX1_paid_33 rfl rfl ?_
      refine g_iload_n 3 dX1_paid_34 rfl rfl ?_
      refine g_callV_V (mm_X1_laysTurn _ _ _) rfl zc_0 q761 q763 qs32 q107 q764 dv_X1_laysTurn rfl (Nat.le_of_ble_eq_true rfl) (Nat.le_of_ble_eq_true rfl) (Nat.le_of_ble_eq_true rfl) dX1_paid_35 fun _ σ => ?_
      refine g_iconst 0 dX1_paid_38 (by decide) ?_
      refine g_istore dX1_paid_39 (lt_b rfl) ?_
      refine g_iconst 0 dX1_paid_41 (by decide) ?_
      refine g_istore dX1_paid_42 (lt_b rfl) ?_
      refine g_jmp (ok_X1_paid_b44 X v0 v1 x2 x3 ?_ _ _ _) rfl
      · intro a11 σ
        refine g_aload_n 0 dX1_paid_90 rfl rfl ?_
        refine g_iconst 0 dX1_paid_91 (by decide) ?_
        refine g_putI fo_0_52 (by decide) rfl q229 dX1_paid_92 fun σ => ?_
        refine g_aload_n 0 dX1_paid_95 rfl rfl ?_
        refine g_iload dX1_paid_96 rfl ?_
        refine g_i2l dX1_paid_98 ?_
        refine g_callV_V (mm_X1_tells _ _ _) rfl zc_0 q683 q685 qs21 q107 q686 dv_X1_tells rfl (Nat.le_of_ble_eq_true rfl) (Nat.le_of_ble_eq_true rfl) (Nat.le_of_ble_eq_true rfl) dX1_paid_99 fun _ σ => ?_
        refine g_aload_n 0 dX1_paid_102 rfl rfl ?_
        refine g_iload_n 3 dX1_paid_103 rfl rfl ?_
        refine g_iload dX1_paid_104 rfl ?_
        refine g_isub dX1_paid_106 ?_
        refine g_i2l dX1_paid_107 ?_
        refine g_callV_V (mm_X1_tells _ _ _) rfl zc_0 q683 q685 qs21 q107 q686 dv_X1_tells rfl (Nat.le_of_ble_eq_true rfl) (Nat.le_of_ble_eq_true rfl) (Nat.le_of_ble_eq_true rfl) dX1_paid_108 fun _ σ => ?_
        refine g_iload_n 2 dX1_paid_111 rfl rfl ?_
        refine g_iload_n 3 dX1_paid_112 rfl rfl ?_
        refine g_iload dX1_paid_113 rfl ?_
        refine g_isub dX1_paid_115 ?_
        refine g_isub dX1_paid_116 ?_
        exact g_iret rfl dX1_paid_117
    · refine g_bipush (-2) dX1_paid_30 (by decide) ?_
      exact g_iret rfl dX1_paid_32
  · refine g_iconst (-1) dX1_paid_8 (by decide) ?_
    exact g_iret rfl dX1_paid_9
theorem dd_X1_paid : yX1_paid.cls ≠ "java/lang/invoke/MethodHandle" ∧ yX1_paid.cls ≠ "java/lang/invoke/VarHandle" ∧ (parseMethodDescriptor yX1_paid.desc).map (fun d => d.parameters.length) = some 1 := by decide +kernel
theorem dv_X1_paid : yX1_paid.cls = RX1 ∧ yX1_paid.cls ≠ "java/lang/invoke/MethodHandle" ∧ yX1_paid.cls ≠ "java/lang/invoke/VarHandle" ∧ (parseMethodDescriptor yX1_paid.desc).map (fun d => d.parameters.length) = some 1 := ⟨rfl, dd_X1_paid⟩
/-! RockingHorse.fairest()I -/
abbrev mi_X1_fairest : Mi := (cX1_fairest, 5, "RockingHorse", 104, some .int, "fairest")
def f_X1_fairest_b19 (v0 : Option Nat) (k0 : Int32 → Hp → Option (Int32 × Hp)) (ag : (Int32 × Int32) → Hp → Option (Int32 × Hp)) (a : Int32 × Int32) (σ : Hp) : Option (Int32 × Hp) :=
  if a.2 ≤ a.1 then
    k0 a.2 σ
  else
    idv 2 <|
    pI 0 0 42 σ v0 ((a.1 + a.2) / 2) fun σ =>
    ob 0 σ v0 fun _ => bnd (f_X1_laysLeast v0 σ) fun x2 σ =>
    if x2 = 1000000 then
      gI 0 42 σ v0 fun x4 =>
      ag ((x4 + 1), a.2) σ
    else
      gI 0 42 σ v0 fun x3 =>
      ag (a.1, x3) σ
def f_X1_fairest (v0 : Option Nat) (σ : Hp) : Option (Int32 × Hp) :=
  ob 0 σ v0 fun _ => bnd (f_X1_easiestBut v0 0 σ) fun x1 σ =>
  if x1 = 1000000 then
    some ((-2), σ)
  else
    lp 2000 (f_X1_fairest_b19 v0 (fun (a5 : Int32) σ =>
        pI 0 0 42 σ v0 a5 fun σ =>
        ob 0 σ v0 fun _ => bnd (f_X1_laysLeast v0 σ) fun x6 σ =>
        pI 0 0 42 σ v0 1000000 fun σ =>
        pI 0 0 52 σ v0 0 fun σ =>
        ob 0 σ v0 fun _ => bnd (f_X1_tells v0 (Int32.toInt64 x6) σ) fun _ σ =>
        some (a5, σ))) (0, x1) σ
theorem ok_X1_fairest_b19 (X : Mx) (v0 : Option Nat) {k0 : Int32 → Hp → Option (Int32 × Hp)} (hk0 : ∀ (a : Int32) (σ : Hp), GG X mi_X1_fairest (QM X rI) 60 [(0, vA v0), (3, vI a)] [] σ (k0 a σ)) : ∀ (m : Nat) (a : Int32 × Int32) (σ : Hp), GG X mi_X1_fairest (QM X rI) 19 [(0, vA v0), (2, vI a.1), (3, vI a.2)] [] σ (lp m (f_X1_fairest_b19 v0 k0) a σ) := by
  refine g_lp (fun (a : Int32 × Int32) => [(0, vA v0), (2, vI a.1), (3, vI a.2)]) ?_
  intro ag hag a σ
  unfold f_X1_fairest_b19
  refine g_iload_n 2 dX1_fairest_19 rfl rfl ?_
  refine g_iload_n 3 dX1_fairest_20 rfl rfl ?_
  refine g_icmp_ge 60 dX1_fairest_21 (by decide) ?_ ?_
  · exact g_jmp (hk0 _ _) rfl
  · refine g_aload_n 0 dX1_fairest_24 rfl rfl ?_
    refine g_iload_n 2 dX1_fairest_25 rfl rfl ?_
    refine g_iload_n 3 dX1_fairest_26 rfl rfl ?_
    refine g_iadd dX1_fairest_27 ?_
    refine g_iconst 2 dX1_fairest_28 (by decide) ?_
    refine g_idiv dX1_fairest_29 ?_
    refine g_putI fo_0_42 (by decide) rfl q219 dX1_fairest_30 fun σ => ?_
    refine g_aload_n 0 dX1_fairest_33 rfl rfl ?_
    refine g_callV_I (mm_X1_laysLeast _ _) rfl zc_0 q753 q755 qs30 q107 q756 dv_X1_laysLeast rfl (Nat.le_of_ble_eq_true rfl) (Nat.le_of_ble_eq_true rfl) (Nat.le_of_ble_eq_true rfl) dX1_fairest_34 fun x2 σ => ?_
    refine g_ldc dX1_fairest_37 q170 ?_
    refine g_icmp_ne 52 dX1_fairest_39 (by decide) ?_ ?_
    · refine g_aload_n 0 dX1_fairest_52 rfl rfl ?_
      refine g_getI fo_0_42 (by decide) q219 dX1_fairest_53 fun x3 => ?_
      refine g_istore_n 3 dX1_fairest_56 rfl (lt_b rfl) ?_
      refine g_goto 19 dX1_fairest_57 (by decide) ?_
      exact g_jmp (hag _ _) rfl
    · refine g_aload_n 0 dX1_fairest_42 rfl rfl ?_
      refine g_getI fo_0_42 (by decide) q219 dX1_fairest_43 fun x4 => ?_
      refine g_iconst 1 dX1_fairest_46 (by decide) ?_
      refine g_iadd dX1_fairest_47 ?_
      refine g_istore_n 2 dX1_fairest_48 rfl (lt_b rfl) ?_
      refine g_goto 19 dX1_fairest_49 (by decide) ?_
      exact g_jmp (hag _ _) rfl
theorem mm_X1_fairest (v0 : Option Nat) (σ : Hp) : MM yX1_fairest mi_X1_fairest rI [vA v0] σ (f_X1_fairest v0 σ) := by
  refine mm_of (by decide +kernel) rfl rfl (Nat.le_of_ble_eq_true rfl) ?_
  intro X
  unfold f_X1_fairest
  refine g_aload_n 0 dX1_fairest_0 rfl rfl ?_
  refine g_iconst 0 dX1_fairest_1 (by decide) ?_
  refine g_callV_I (mm_X1_easiestBut _ _ _) rfl zc_0 q737 q739 qs26 q107 q740 dv_X1_easiestBut rfl (Nat.le_of_ble_eq_true rfl) (Nat.le_of_ble_eq_true rfl) (Nat.le_of_ble_eq_true rfl) dX1_fairest_2 fun x1 σ => ?_
  refine g_istore_n 1 dX1_fairest_5 rfl (lt_b rfl) ?_
  refine g_iload_n 1 dX1_fairest_6 rfl rfl ?_
  refine g_ldc dX1_fairest_7 q170 ?_
  refine g_icmp_ne 15 dX1_fairest_9 (by decide) ?_ ?_
  · refine g_iconst 0 dX1_fairest_15 (by decide) ?_
    refine g_istore_n 2 dX1_fairest_16 rfl (lt_b rfl) ?_
    refine g_iload_n 1 dX1_fairest_17 rfl rfl ?_
    refine g_istore_n 3 dX1_fairest_18 rfl (lt_b rfl) ?_
    refine g_jmp (ok_X1_fairest_b19 X v0 ?_ _ _ _) rfl
    · intro a5 σ
      refine g_aload_n 0 dX1_fairest_60 rfl rfl ?_
      refine g_iload_n 3 dX1_fairest_61 rfl rfl ?_
      refine g_putI fo_0_42 (by decide) rfl q219 dX1_fairest_62 fun σ => ?_
      refine g_aload_n 0 dX1_fairest_65 rfl rfl ?_
      refine g_callV_I (mm_X1_laysLeast _ _) rfl zc_0 q753 q755 qs30 q107 q756 dv_X1_laysLeast rfl (Nat.le_of_ble_eq_true rfl) (Nat.le_of_ble_eq_true rfl) (Nat.le_of_ble_eq_true rfl) dX1_fairest_66 fun x6 σ => ?_
      refine g_istore dX1_fairest_69 (lt_b rfl) ?_
      refine g_aload_n 0 dX1_fairest_71 rfl rfl ?_
      refine g_ldc dX1_fairest_72 q170 ?_
      refine g_putI fo_0_42 (by decide) rfl q219 dX1_fairest_74 fun σ => ?_
      refine g_aload_n 0 dX1_fairest_77 rfl rfl ?_
      refine g_iconst 0 dX1_fairest_78 (by decide) ?_
      refine g_putI fo_0_52 (by decide) rfl q229 dX1_fairest_79 fun σ => ?_
      refine g_aload_n 0 dX1_fairest_82 rfl rfl ?_
      refine g_iload dX1_fairest_83 rfl ?_
      refine g_i2l dX1_fairest_85 ?_
      refine g_callV_V (mm_X1_tells _ _ _) rfl zc_0 q683 q685 qs21 q107 q686 dv_X1_tells rfl (Nat.le_of_ble_eq_true rfl) (Nat.le_of_ble_eq_true rfl) (Nat.le_of_ble_eq_true rfl) dX1_fairest_86 fun _ σ => ?_
      refine g_iload_n 3 dX1_fairest_89 rfl rfl ?_
      exact g_iret rfl dX1_fairest_90
  · refine g_bipush (-2) dX1_fairest_12 (by decide) ?_
    exact g_iret rfl dX1_fairest_14
theorem dd_X1_fairest : yX1_fairest.cls ≠ "java/lang/invoke/MethodHandle" ∧ yX1_fairest.cls ≠ "java/lang/invoke/VarHandle" ∧ (parseMethodDescriptor yX1_fairest.desc).map (fun d => d.parameters.length) = some 0 := by decide +kernel
theorem dv_X1_fairest : yX1_fairest.cls = RX1 ∧ yX1_fairest.cls ≠ "java/lang/invoke/MethodHandle" ∧ yX1_fairest.cls ≠ "java/lang/invoke/VarHandle" ∧ (parseMethodDescriptor yX1_fairest.desc).map (fun d => d.parameters.length) = some 0 := ⟨rfl, dd_X1_fairest⟩
/-! RockingHorseModel.riders()I -/
abbrev mi_X3_riders : Mi := (cX3_riders, 4, "RockingHorseModel", 4, some .int, "riders")
def f_X3_riders_b24 (v0 : Option Nat) (k0 : Int32 → Hp → Option (Int32 × Hp)) (ag : (Int32 × Int32) → Hp → Option (Int32 × Hp)) (a : Int32 × Int32) (σ : Hp) : Option (Int32 × Hp) :=
  if a.2 = 0 then
    k0 a.1 σ
  else
    ob 2 σ v0 fun _ => bnd (f_X3_fine v0 σ) fun x2 σ =>
    if x2 = 0 then
      k0 a.1 σ
    else
      gI 2 3 σ v0 fun x3 =>
      jn (fun (a4 : Unit) σ =>
          ob 2 σ v0 fun _ => bnd (f_X3_passes v0 59 σ) fun x6 σ =>
          ag ((a.1 + 1), x6) σ) fun j5 =>
      if (x3 + a.1) = 8 then
        gI 2 15 σ v0 fun x7 =>
        ob 2 σ v0 fun _ => bnd (f_X3_fault v0 x7 σ) fun _ σ =>
        j5 () σ
      else
        ob 2 σ v0 fun _ => bnd (f_X3_readMan v0 (3 * a.1) σ) fun _ σ =>
        j5 () σ
def f_X3_riders_b93 (v0 : Option Nat) (v1 : Int32) (k0 : Unit → Hp → Option (Int32 × Hp)) (ag : Int32 → Hp → Option (Int32 × Hp)) (a : Int32) (σ : Hp) : Option (Int32 × Hp) :=
  if v1 ≤ a then
    k0 () σ
  else
    gR 2 4 σ v0 fun y10 =>
    gI 2 3 σ v0 fun x11 =>
    gR 2 17 σ v0 fun y12 =>
    lI 100 σ y12 (3 * a) fun x13 =>
    sI σ y10 x11 x13 fun σ =>
    gR 2 5 σ v0 fun y14 =>
    gI 2 3 σ v0 fun x15 =>
    gR 2 17 σ v0 fun y16 =>
    lI 100 σ y16 ((3 * a) + 1) fun x17 =>
    sI σ y14 x15 x17 fun σ =>
    gR 2 6 σ v0 fun y18 =>
    gI 2 3 σ v0 fun x19 =>
    gR 2 17 σ v0 fun y20 =>
    lI 100 σ y20 ((3 * a) + 2) fun x21 =>
    sI σ y18 x19 x21 fun σ =>
    gR 2 0 σ v0 fun y22 =>
    gI 2 3 σ v0 fun x23 =>
    sI σ y22 (8 + x23) 0 fun σ =>
    gR 2 0 σ v0 fun y24 =>
    gI 2 3 σ v0 fun x25 =>
    sI σ y24 (16 + x25) 0 fun σ =>
    gI 2 3 σ v0 fun x26 =>
    pI 0 2 3 σ v0 (x26 + 1) fun σ =>
    ag (a + 1) σ
def f_X3_riders (v0 : Option Nat) (σ : Hp) : Option (Int32 × Hp) :=
  pI 0 2 11 σ v0 0 fun σ =>
  ob 2 σ v0 fun _ => bnd (f_X3_beginText v0 76 σ) fun _ σ =>
  gI 2 13 σ v0 fun x1 =>
  if x1 = 0 then
    some (0, σ)
  else
    lp 2000 (f_X3_riders_b24 v0 (fun (a8 : Int32) σ =>
        ob 2 σ v0 fun _ => bnd (f_X3_wasRight v0 σ) fun x9 σ =>
        if x9 = 0 then
          gI 2 16 σ v0 fun x29 =>
          some (((-1) - x29), σ)
        else
          lp 2000 (f_X3_riders_b93 v0 a8 (fun (a27 : Unit) σ =>
              pI 0 2 24 σ v0 0 fun σ =>
              gI 2 47 σ v0 fun x28 =>
              pI 0 2 47 σ v0 (x28 + 1) fun σ =>
              some (a8, σ))) 0 σ)) (0, 1) σ
theorem ok_X3_riders_b24 (X : Mx) (v0 : Option Nat) {k0 : Int32 → Hp → Option (Int32 × Hp)} (hk0 : ∀ (a : Int32) (σ : Hp), GG X mi_X3_riders (QM X rI) 77 [(0, vA v0), (1, vI a)] [] σ (k0 a σ)) : ∀ (m : Nat) (a : Int32 × Int32) (σ : Hp), GG X mi_X3_riders (QM X rI) 24 [(0, vA v0), (1, vI a.1), (2, vI a.2)] [] σ (lp m (f_X3_riders_b24 v0 k0) a σ) := by
  refine g_lp (fun (a : Int32 × Int32) => [(0, vA v0), (1, vI a.1), (2, vI a.2)]) ?_
  intro ag hag a σ
  unfold f_X3_riders_b24
  refine g_iload_n 2 dX3_riders_24 rfl rfl ?_
  refine g_if_eq 77 dX3_riders_25 (by decide) ?_ ?_
  · exact g_jmp (hk0 _ _) rfl
  · refine g_aload_n 0 dX3_riders_28 rfl rfl ?_
    refine g_callV_I (mm_X3_fine _ _) rfl zc_2 q1238 q1240 qs52 q109 q1241 dv_X3_fine rfl (Nat.le_of_ble_eq_true rfl) (Nat.le_of_ble_eq_true rfl) (Nat.le_of_ble_eq_true rfl) dX3_riders_29 fun x2 σ => ?_
    refine g_if_eq 77 dX3_riders_32 (by decide) ?_ ?_
    · exact g_jmp (hk0 _ _) rfl
    · refine g_aload_n 0 dX3_riders_35 rfl rfl ?_
      refine g_getI fo_2_3 (by decide) q1059 dX3_riders_36 fun x3 => ?_
      refine g_iload_n 1 dX3_riders_39 rfl rfl ?_
      refine g_iadd dX3_riders_40 ?_
      refine g_bipush 8 dX3_riders_41 (by decide) ?_
      refine g_jn (fun j5 => ∀ (a4 : Unit) (σ : Hp), GG X mi_X3_riders (QM X rI) 64 [(0, vA v0), (1, vI a.1)] [] σ (j5 a4 σ)) ?_ ?_
      · intro a4 σ
        refine g_iinc 1 dX3_riders_64 (by decide) rfl (lt_b rfl) ?_
        refine g_aload_n 0 dX3_riders_67 rfl rfl ?_
        refine g_bipush 59 dX3_riders_68 (by decide) ?_
        refine g_callV_I (mm_X3_passes _ _ _) rfl zc_2 q1258 q1260 qs57 q109 q1261 dv_X3_passes rfl (Nat.le_of_ble_eq_true rfl) (Nat.le_of_ble_eq_true rfl) (Nat.le_of_ble_eq_true rfl) dX3_riders_70 fun x6 σ => ?_
        refine g_istore_n 2 dX3_riders_73 rfl (lt_b rfl) ?_
        refine g_goto 24 dX3_riders_74 (by decide) ?_
        exact g_jmp (hag _ _) rfl
      · intro j5 hj5
        refine g_icmp_ne 57 dX3_riders_43 (by decide) ?_ ?_
        · refine g_aload_n 0 dX3_riders_57 rfl rfl ?_
          refine g_iconst 3 dX3_riders_58 (by decide) ?_
          refine g_iload_n 1 dX3_riders_59 rfl rfl ?_
          refine g_imul dX3_riders_60 ?_
          refine g_callV_V (mm_X3_readMan _ _ _) rfl zc_2 q1246 q1248 qs54 q109 q1249 dv_X3_readMan rfl (Nat.le_of_ble_eq_true rfl) (Nat.le_of_ble_eq_true rfl) (Nat.le_of_ble_eq_true rfl) dX3_riders_61 fun _ σ => ?_
          exact g_jmp (hj5 _ _) rfl
        · refine g_aload_n 0 dX3_riders_46 rfl rfl ?_
          refine g_aload_n 0 dX3_riders_47 rfl rfl ?_
          refine g_getI fo_2_15 (by decide) q1071 dX3_riders_48 fun x7 => ?_
          refine g_callV_V (mm_X3_fault _ _ _) rfl zc_2 q1242 q1244 qs53 q109 q1245 dv_X3_fault rfl (Nat.le_of_ble_eq_true rfl) (Nat.le_of_ble_eq_true rfl) (Nat.le_of_ble_eq_true rfl) dX3_riders_51 fun _ σ => ?_
          refine g_goto 64 dX3_riders_54 (by decide) ?_
          exact g_jmp (hj5 _ _) rfl
theorem ok_X3_riders_b93 (X : Mx) (v0 : Option Nat) (v1 : Int32) {k0 : Unit → Hp → Option (Int32 × Hp)} (hk0 : ∀ (a : Unit) (σ : Hp), GG X mi_X3_riders (QM X rI) 195 [(0, vA v0), (1, vI v1)] [] σ (k0 a σ)) : ∀ (m : Nat) (a : Int32) (σ : Hp), GG X mi_X3_riders (QM X rI) 93 [(0, vA v0), (1, vI v1), (3, vI a)] [] σ (lp m (f_X3_riders_b93 v0 v1 k0) a σ) := by
  refine g_lp (fun (a : Int32) => [(0, vA v0), (1, vI v1), (3, vI a)]) ?_
  intro ag hag a σ
  unfold f_X3_riders_b93
  refine g_iload_n 3 dX3_riders_93 rfl rfl ?_
  refine g_iload_n 1 dX3_riders_94 rfl rfl ?_
  refine g_icmp_ge 195 dX3_riders_95 (by decide) ?_ ?_
  · exact g_jmp (hk0 _ _) rfl
  · refine g_aload_n 0 dX3_riders_98 rfl rfl ?_
    refine g_getR fo_2_4 q1060 dX3_riders_99 fun y10 => ?_
    refine g_aload_n 0 dX3_riders_102 rfl rfl ?_
    refine g_getI fo_2_3 (by decide) q1059 dX3_riders_103 fun x11 => ?_
    refine g_aload_n 0 dX3_riders_106 rfl rfl ?_
    refine g_getR fo_2_17 q1073 dX3_riders_107 fun y12 => ?_
    refine g_iconst 3 dX3_riders_110 (by decide) ?_
    refine g_iload_n 3 dX3_riders_111 rfl rfl ?_
    refine g_imul dX3_riders_112 ?_
    refine g_iaload dX3_riders_113 fun x13 => ?_
    refine g_iastore dX3_riders_114 fun σ => ?_
    refine g_aload_n 0 dX3_riders_115 rfl rfl ?_
    refine g_getR fo_2_5 q1061 dX3_riders_116 fun y14 => ?_
    refine g_aload_n 0 dX3_riders_119 rfl rfl ?_
    refine g_getI fo_2_3 (by decide) q1059 dX3_riders_120 fun x15 => ?_
    refine g_aload_n 0 dX3_riders_123 rfl rfl ?_
    refine g_getR fo_2_17 q1073 dX3_riders_124 fun y16 => ?_
    refine g_iconst 3 dX3_riders_127 (by decide) ?_
    refine g_iload_n 3 dX3_riders_128 rfl rfl ?_
    refine g_imul dX3_riders_129 ?_
    refine g_iconst 1 dX3_riders_130 (by decide) ?_
    refine g_iadd dX3_riders_131 ?_
    refine g_iaload dX3_riders_132 fun x17 => ?_
    refine g_iastore dX3_riders_133 fun σ => ?_
    refine g_aload_n 0 dX3_riders_134 rfl rfl ?_
    refine g_getR fo_2_6 q1062 dX3_riders_135 fun y18 => ?_
    refine g_aload_n 0 dX3_riders_138 rfl rfl ?_
    refine g_getI fo_2_3 (by decide) q1059 dX3_riders_139 fun x19 => ?_
    refine g_aload_n 0 dX3_riders_142 rfl rfl ?_
    refine g_getR fo_2_17 q1073 dX3_riders_143 fun y20 => ?_
    refine g_iconst 3 dX3_riders_146 (by decide) ?_
    refine g_iload_n 3 dX3_riders_147 rfl rfl ?_
    refine g_imul dX3_riders_148 ?_
    refine g_iconst 2 dX3_riders_149 (by decide) ?_
    refine g_iadd dX3_riders_150 ?_
    refine g_iaload dX3_riders_151 fun x21 => ?_
    refine g_iastore dX3_riders_152 fun σ => ?_
    refine g_aload_n 0 dX3_riders_153 rfl rfl ?_
    refine g_getR fo_2_0 q1056 dX3_riders_154 fun y22 => ?_
    refine g_bipush 8 dX3_riders_157 (by decide) ?_
    refine g_aload_n 0 dX3_riders_159 rfl rfl ?_
    refine g_getI fo_2_3 (by decide) q1059 dX3_riders_160 fun x23 => ?_
    refine g_iadd dX3_riders_163 ?_
    refine g_iconst 0 dX3_riders_164 (by decide) ?_
    refine g_iastore dX3_riders_165 fun σ => ?_
    refine g_aload_n 0 dX3_riders_166 rfl rfl ?_
    refine g_getR fo_2_0 q1056 dX3_riders_167 fun y24 => ?_
    refine g_bipush 16 dX3_riders_170 (by decide) ?_
    refine g_aload_n 0 dX3_riders_172 rfl rfl ?_
    refine g_getI fo_2_3 (by decide) q1059 dX3_riders_173 fun x25 => ?_
    refine g_iadd dX3_riders_176 ?_
    refine g_iconst 0 dX3_riders_177 (by decide) ?_
    refine g_iastore dX3_riders_178 fun σ => ?_
    refine g_aload_n 0 dX3_riders_179 rfl rfl ?_
    refine g_dup dX3_riders_180 rfl ?_
    refine g_getI fo_2_3 (by decide) q1059 dX3_riders_181 fun x26 => ?_
    refine g_iconst 1 dX3_riders_184 (by decide) ?_
    refine g_iadd dX3_riders_185 ?_
    refine g_putI fo_2_3 (by decide) rfl q1059 dX3_riders_186 fun σ => ?_
    refine g_iinc 1 dX3_riders_189 (by decide) rfl (lt_b rfl) ?_
    refine g_goto 93 dX3_riders_192 (by decide) ?_
    exact g_jmp (hag _ _) rfl
theorem mm_X3_riders (v0 : Option Nat) (σ : Hp) : MM yX3_riders mi_X3_riders rI [vA v0] σ (f_X3_riders v0 σ) := by
  refine mm_of (by decide +kernel) rfl rfl (Nat.le_of_ble_eq_true rfl) ?_
  intro X
  unfold f_X3_riders
  refine g_aload_n 0 dX3_riders_0 rfl rfl ?_
  refine g_iconst 0 dX3_riders_1 (by decide) ?_
  refine g_putI fo_2_11 (by decide) rfl q1067 dX3_riders_2 fun σ => ?_
  refine g_aload_n 0 dX3_riders_5 rfl rfl ?_
  refine g_bipush 76 dX3_riders_6 (by decide) ?_
  refine g_callV_V (mm_X3_beginText _ _ _) rfl zc_2 q1230 q1232 qs50 q109 q1233 dv_X3_beginText rfl (Nat.le_of_ble_eq_true rfl) (Nat.le_of_ble_eq_true rfl) (Nat.le_of_ble_eq_true rfl) dX3_riders_8 fun _ σ => ?_
  refine g_aload_n 0 dX3_riders_11 rfl rfl ?_
  refine g_getI fo_2_13 (by decide) q1069 dX3_riders_12 fun x1 => ?_
  refine g_if_ne 20 dX3_riders_15 (by decide) ?_ ?_
  · refine g_iconst 0 dX3_riders_20 (by decide) ?_
    refine g_istore_n 1 dX3_riders_21 rfl (lt_b rfl) ?_
    refine g_iconst 1 dX3_riders_22 (by decide) ?_
    refine g_istore_n 2 dX3_riders_23 rfl (lt_b rfl) ?_
    refine g_jmp (ok_X3_riders_b24 X v0 ?_ _ _ _) rfl
    · intro a8 σ
      refine g_aload_n 0 dX3_riders_77 rfl rfl ?_
      refine g_callV_I (mm_X3_wasRight _ _) rfl zc_2 q1262 q1264 qs58 q109 q1265 dv_X3_wasRight rfl (Nat.le_of_ble_eq_true rfl) (Nat.le_of_ble_eq_true rfl) (Nat.le_of_ble_eq_true rfl) dX3_riders_78 fun x9 σ => ?_
      refine g_if_ne 91 dX3_riders_81 (by decide) ?_ ?_
      · refine g_iconst 0 dX3_riders_91 (by decide) ?_
        refine g_istore_n 3 dX3_riders_92 rfl (lt_b rfl) ?_
        refine g_jmp (ok_X3_riders_b93 X v0 a8 ?_ _ _ _) rfl
        · intro a27 σ
          refine g_aload_n 0 dX3_riders_195 rfl rfl ?_
          refine g_iconst 0 dX3_riders_196 (by decide) ?_
          refine g_putI fo_2_24 (by decide) rfl q1080 dX3_riders_197 fun σ => ?_
          refine g_aload_n 0 dX3_riders_200 rfl rfl ?_
          refine g_dup dX3_riders_201 rfl ?_
          refine g_getI fo_2_47 (by decide) q1103 dX3_riders_202 fun x28 => ?_
          refine g_iconst 1 dX3_riders_205 (by decide) ?_
          refine g_iadd dX3_riders_206 ?_
          refine g_putI fo_2_47 (by decide) rfl q1103 dX3_riders_207 fun σ => ?_
          refine g_iload_n 1 dX3_riders_210 rfl rfl ?_
          exact g_iret rfl dX3_riders_211
      · refine g_iconst (-1) dX3_riders_84 (by decide) ?_
        refine g_aload_n 0 dX3_riders_85 rfl rfl ?_
        refine g_getI fo_2_16 (by decide) q1072 dX3_riders_86 fun x29 => ?_
        refine g_isub dX3_riders_89 ?_
        exact g_iret rfl dX3_riders_90
  · refine g_iconst 0 dX3_riders_18 (by decide) ?_
    exact g_iret rfl dX3_riders_19
theorem dd_X3_riders : yX3_riders.cls ≠ "java/lang/invoke/MethodHandle" ∧ yX3_riders.cls ≠ "java/lang/invoke/VarHandle" ∧ (parseMethodDescriptor yX3_riders.desc).map (fun d => d.parameters.length) = some 0 := by decide +kernel
theorem dv_X3_riders : yX3_riders.cls = RX3 ∧ yX3_riders.cls ≠ "java/lang/invoke/MethodHandle" ∧ yX3_riders.cls ≠ "java/lang/invoke/VarHandle" ∧ (parseMethodDescriptor yX3_riders.desc).map (fun d => d.parameters.length) = some 0 := ⟨rfl, dd_X3_riders⟩
/-! RockingHorseModel.rule()I -/
abbrev mi_X3_rule : Mi := (cX3_rule, 3, "RockingHorseModel", 205, some .int, "rule")
def f_X3_rule_b26 (v0 : Option Nat) (v1 : Int32) (k0 : Unit → Hp → Option (Int32 × Hp)) (ag : Int32 → Hp → Option (Int32 × Hp)) (a : Int32) (σ : Hp) : Option (Int32 × Hp) :=
  if v1 ≤ a then
    k0 () σ
  else
    gR 2 18 σ v0 fun y3 =>
    gR 2 7 σ v0 fun y4 =>
    lI 101 σ y4 a fun x5 =>
    sB σ y3 a x5 fun σ =>
    ag (a + 1) σ
def f_X3_rule (v0 : Option Nat) (σ : Hp) : Option (Int32 × Hp) :=
  pI 0 2 11 σ v0 0 fun σ =>
  gI 2 8 σ v0 fun x1 =>
  ob 2 σ v0 fun _ => bnd (f_X3_readRule v0 σ) fun x2 σ =>
  if x2 = 0 then
    gI 2 16 σ v0 fun x7 =>
    some (((-1) - x7), σ)
  else
    lp 2000 (f_X3_rule_b26 v0 x1 (fun (a6 : Unit) σ =>
        pI 0 2 20 σ v0 x1 fun σ =>
        some (0, σ))) 0 σ
theorem ok_X3_rule_b26 (X : Mx) (v0 : Option Nat) (v1 : Int32) {k0 : Unit → Hp → Option (Int32 × Hp)} (hk0 : ∀ (a : Unit) (σ : Hp), GG X mi_X3_rule (QM X rI) 49 [(0, vA v0), (1, vI v1)] [] σ (k0 a σ)) : ∀ (m : Nat) (a : Int32) (σ : Hp), GG X mi_X3_rule (QM X rI) 26 [(0, vA v0), (1, vI v1), (2, vI a)] [] σ (lp m (f_X3_rule_b26 v0 v1 k0) a σ) := by
  refine g_lp (fun (a : Int32) => [(0, vA v0), (1, vI v1), (2, vI a)]) ?_
  intro ag hag a σ
  unfold f_X3_rule_b26
  refine g_iload_n 2 dX3_rule_26 rfl rfl ?_
  refine g_iload_n 1 dX3_rule_27 rfl rfl ?_
  refine g_icmp_ge 49 dX3_rule_28 (by decide) ?_ ?_
  · exact g_jmp (hk0 _ _) rfl
  · refine g_aload_n 0 dX3_rule_31 rfl rfl ?_
    refine g_getR fo_2_18 q1074 dX3_rule_32 fun y3 => ?_
    refine g_iload_n 2 dX3_rule_35 rfl rfl ?_
    refine g_aload_n 0 dX3_rule_36 rfl rfl ?_
    refine g_getR fo_2_7 q1063 dX3_rule_37 fun y4 => ?_
    refine g_iload_n 2 dX3_rule_40 rfl rfl ?_
    refine g_baload dX3_rule_41 fun x5 => ?_
    refine g_bastore dX3_rule_42 fun σ => ?_
    refine g_iinc 1 dX3_rule_43 (by decide) rfl (lt_b rfl) ?_
    refine g_goto 26 dX3_rule_46 (by decide) ?_
    exact g_jmp (hag _ _) rfl
theorem mm_X3_rule (v0 : Option Nat) (σ : Hp) : MM yX3_rule mi_X3_rule rI [vA v0] σ (f_X3_rule v0 σ) := by
  refine mm_of (by decide +kernel) rfl rfl (Nat.le_of_ble_eq_true rfl) ?_
  intro X
  unfold f_X3_rule
  refine g_aload_n 0 dX3_rule_0 rfl rfl ?_
  refine g_iconst 0 dX3_rule_1 (by decide) ?_
  refine g_putI fo_2_11 (by decide) rfl q1067 dX3_rule_2 fun σ => ?_
  refine g_aload_n 0 dX3_rule_5 rfl rfl ?_
  refine g_getI fo_2_8 (by decide) q1064 dX3_rule_6 fun x1 => ?_
  refine g_istore_n 1 dX3_rule_9 rfl (lt_b rfl) ?_
  refine g_aload_n 0 dX3_rule_10 rfl rfl ?_
  refine g_callV_I (mm_X3_readRule _ _) rfl zc_2 q1270 q1272 qs59 q109 q1273 dv_X3_readRule rfl (Nat.le_of_ble_eq_true rfl) (Nat.le_of_ble_eq_true rfl) (Nat.le_of_ble_eq_true rfl) dX3_rule_11 fun x2 σ => ?_
  refine g_if_ne 24 dX3_rule_14 (by decide) ?_ ?_
  · refine g_iconst 0 dX3_rule_24 (by decide) ?_
    refine g_istore_n 2 dX3_rule_25 rfl (lt_b rfl) ?_
    refine g_jmp (ok_X3_rule_b26 X v0 x1 ?_ _ _ _) rfl
    · intro a6 σ
      refine g_aload_n 0 dX3_rule_49 rfl rfl ?_
      refine g_iload_n 1 dX3_rule_50 rfl rfl ?_
      refine g_putI fo_2_20 (by decide) rfl q1076 dX3_rule_51 fun σ => ?_
      refine g_iconst 0 dX3_rule_54 (by decide) ?_
      exact g_iret rfl dX3_rule_55
  · refine g_iconst (-1) dX3_rule_17 (by decide) ?_
    refine g_aload_n 0 dX3_rule_18 rfl rfl ?_
    refine g_getI fo_2_16 (by decide) q1072 dX3_rule_19 fun x7 => ?_
    refine g_isub dX3_rule_22 ?_
    exact g_iret rfl dX3_rule_23
theorem dd_X3_rule : yX3_rule.cls ≠ "java/lang/invoke/MethodHandle" ∧ yX3_rule.cls ≠ "java/lang/invoke/VarHandle" ∧ (parseMethodDescriptor yX3_rule.desc).map (fun d => d.parameters.length) = some 0 := by decide +kernel
theorem dv_X3_rule : yX3_rule.cls = RX3 ∧ yX3_rule.cls ≠ "java/lang/invoke/MethodHandle" ∧ yX3_rule.cls ≠ "java/lang/invoke/VarHandle" ∧ (parseMethodDescriptor yX3_rule.desc).map (fun d => d.parameters.length) = some 0 := ⟨rfl, dd_X3_rule⟩
/-! RockingHorseModel.hard(II)I -/
abbrev mi_X3_hard : Mi := (cX3_hard, 3, "RockingHorseModel", 205, some .int, "hard")
def f_X3_hard (v0 : Option Nat) (v1 : Int32) (v2 : Int32) (σ : Hp) : Option (Int32 × Hp) :=
  pI 0 2 11 σ v0 0 fun σ =>
  ob 2 σ v0 fun _ => bnd (f_X3_isMan v0 v1 σ) fun x1 σ =>
  if x1 = 0 then
    some ((-1), σ)
  else
    bnd (f_X3_isHour v2 σ) fun x2 σ =>
    if x2 = 0 then
      some ((-1), σ)
    else
      gR 2 0 σ v0 fun y3 =>
      ob 2 σ v0 fun _ => bnd (f_X3_hardOf v0 y3 v1 v2 σ) fun x4 σ =>
      some (x4, σ)
theorem mm_X3_hard (v0 : Option Nat) (v1 : Int32) (v2 : Int32) (σ : Hp) : MM yX3_hard mi_X3_hard rI [vA v0, vI v1, vI v2] σ (f_X3_hard v0 v1 v2 σ) := by
  refine mm_of (by decide +kernel) rfl rfl (Nat.le_of_ble_eq_true rfl) ?_
  intro X
  unfold f_X3_hard
  refine g_aload_n 0 dX3_hard_0 rfl rfl ?_
  refine g_iconst 0 dX3_hard_1 (by decide) ?_
  refine g_putI fo_2_11 (by decide) rfl q1067 dX3_hard_2 fun σ => ?_
  refine g_aload_n 0 dX3_hard_5 rfl rfl ?_
  refine g_iload_n 1 dX3_hard_6 rfl rfl ?_
  refine g_callV_I (mm_X3_isMan _ _ _) rfl zc_2 q1305 q1307 qs66 q109 q1308 dv_X3_isMan rfl (Nat.le_of_ble_eq_true rfl) (Nat.le_of_ble_eq_true rfl) (Nat.le_of_ble_eq_true rfl) dX3_hard_7 fun x1 σ => ?_
  refine g_if_eq 33 dX3_hard_10 (by decide) ?_ ?_
  · refine g_iconst (-1) dX3_hard_33 (by decide) ?_
    exact g_iret rfl dX3_hard_34
  · refine g_iload_n 2 dX3_hard_13 rfl rfl ?_
    refine g_callS_I (mm_X3_isHour _ _) rfl q1321 q1322 q109 q1323 dd_X3_isHour rfl (Nat.le_of_ble_eq_true rfl) (Nat.le_of_ble_eq_true rfl) (Nat.le_of_ble_eq_true rfl) dX3_hard_14 fun x2 σ => ?_
    refine g_if_eq 33 dX3_hard_17 (by decide) ?_ ?_
    · refine g_iconst (-1) dX3_hard_33 (by decide) ?_
      exact g_iret rfl dX3_hard_34
    · refine g_aload_n 0 dX3_hard_20 rfl rfl ?_
      refine g_aload_n 0 dX3_hard_21 rfl rfl ?_
      refine g_getR fo_2_0 q1056 dX3_hard_22 fun y3 => ?_
      refine g_iload_n 1 dX3_hard_25 rfl rfl ?_
      refine g_iload_n 2 dX3_hard_26 rfl rfl ?_
      refine g_callV_I (mm_X3_hardOf _ _ _ _ _) rfl zc_2 q1324 q1326 qs69 q109 q1327 dv_X3_hardOf rfl (Nat.le_of_ble_eq_true rfl) (Nat.le_of_ble_eq_true rfl) (Nat.le_of_ble_eq_true rfl) dX3_hard_27 fun x4 σ => ?_
      refine g_goto 34 dX3_hard_30 (by decide) ?_
      exact g_iret rfl dX3_hard_34
theorem dd_X3_hard : yX3_hard.cls ≠ "java/lang/invoke/MethodHandle" ∧ yX3_hard.cls ≠ "java/lang/invoke/VarHandle" ∧ (parseMethodDescriptor yX3_hard.desc).map (fun d => d.parameters.length) = some 2 := by decide +kernel
theorem dv_X3_hard : yX3_hard.cls = RX3 ∧ yX3_hard.cls ≠ "java/lang/invoke/MethodHandle" ∧ yX3_hard.cls ≠ "java/lang/invoke/VarHandle" ∧ (parseMethodDescriptor yX3_hard.desc).map (fun d => d.parameters.length) = some 2 := ⟨rfl, dd_X3_hard⟩
/-! RockingHorseModel.goNights([II)V -/
abbrev mi_X3_goNights : Mi := (cX3_goNights, 4, "RockingHorseModel", 206, none, "goNights")
def f_X3_goNights_b2 (v0 : Option Nat) (v1 : Option Nat) (v2 : Int32) (k0 : Unit → Hp → Option (Unit × Hp)) (ag : Int32 → Hp → Option (Unit × Hp)) (a : Int32) (σ : Hp) : Option (Unit × Hp) :=
  if v2 ≤ a then
    k0 () σ
  else
    ob 2 σ v0 fun _ => bnd (f_X3_goNight v0 v1 σ) fun _ σ =>
    ag (a + 1) σ
def f_X3_goNights (v0 : Option Nat) (v1 : Option Nat) (v2 : Int32) (σ : Hp) : Option (Unit × Hp) :=
  lp 2000 (f_X3_goNights_b2 v0 v1 v2 (fun (a1 : Unit) σ =>
      some ((), σ))) 0 σ
theorem ok_X3_goNights_b2 (X : Mx) (v0 : Option Nat) (v1 : Option Nat) (v2 : Int32) {k0 : Unit → Hp → Option (Unit × Hp)} (hk0 : ∀ (a : Unit) (σ : Hp), GG X mi_X3_goNights (QM X rV) 18 [] [] σ (k0 a σ)) : ∀ (m : Nat) (a : Int32) (σ : Hp), GG X mi_X3_goNights (QM X rV) 2 [(0, vA v0), (1, vA v1), (2, vI v2), (3, vI a)] [] σ (lp m (f_X3_goNights_b2 v0 v1 v2 k0) a σ) := by
  refine g_lp (fun (a : Int32) => [(0, vA v0), (1, vA v1), (2, vI v2), (3, vI a)]) ?_
  intro ag hag a σ
  unfold f_X3_goNights_b2
  refine g_iload_n 3 dX3_goNights_2 rfl rfl ?_
  refine g_iload_n 2 dX3_goNights_3 rfl rfl ?_
  refine g_icmp_ge 18 dX3_goNights_4 (by decide) ?_ ?_
  · exact g_jmp (hk0 _ _) rfl
  · refine g_aload_n 0 dX3_goNights_7 rfl rfl ?_
    refine g_aload_n 1 dX3_goNights_8 rfl rfl ?_
    refine g_callV_V (mm_X3_goNight _ _ _) rfl zc_2 q1374 q1376 qs74 q109 q1377 dv_X3_goNight rfl (Nat.le_of_ble_eq_true rfl) (Nat.le_of_ble_eq_true rfl) (Nat.le_of_ble_eq_true rfl) dX3_goNights_9 fun _ σ => ?_
    refine g_iinc 1 dX3_goNights_12 (by decide) rfl (lt_b rfl) ?_
    refine g_goto 2 dX3_goNights_15 (by decide) ?_
    exact g_jmp (hag _ _) rfl
theorem mm_X3_goNights (v0 : Option Nat) (v1 : Option Nat) (v2 : Int32) (σ : Hp) : MM yX3_goNights mi_X3_goNights rV [vA v0, vA v1, vI v2] σ (f_X3_goNights v0 v1 v2 σ) := by
  refine mm_of (by decide +kernel) rfl rfl (Nat.le_of_ble_eq_true rfl) ?_
  intro X
  unfold f_X3_goNights
  refine g_iconst 0 dX3_goNights_0 (by decide) ?_
  refine g_istore_n 3 dX3_goNights_1 rfl (lt_b rfl) ?_
  refine g_jmp (ok_X3_goNights_b2 X v0 v1 v2 ?_ _ _ _) rfl
  · intro a1 σ
    exact g_vret rfl dX3_goNights_18
theorem dd_X3_goNights : yX3_goNights.cls ≠ "java/lang/invoke/MethodHandle" ∧ yX3_goNights.cls ≠ "java/lang/invoke/VarHandle" ∧ (parseMethodDescriptor yX3_goNights.desc).map (fun d => d.parameters.length) = some 2 := by decide +kernel
theorem dv_X3_goNights : yX3_goNights.cls = RX3 ∧ yX3_goNights.cls ≠ "java/lang/invoke/MethodHandle" ∧ yX3_goNights.cls ≠ "java/lang/invoke/VarHandle" ∧ (parseMethodDescriptor yX3_goNights.desc).map (fun d => d.parameters.length) = some 2 := ⟨rfl, dd_X3_goNights⟩
/-! RockingHorseModel.act(III)Z -/
abbrev mi_X3_act : Mi := (cX3_act, 4, "RockingHorseModel", 207, some .boolean, "act")
def f_X3_act (v0 : Option Nat) (v1 : Int32) (v2 : Int32) (v3 : Int32) (σ : Hp) : Option (Int32 × Hp) :=
  if v1 = 103 then
    ob 2 σ v0 fun _ => bnd (f_X3_isGift v0 v2 v3 σ) fun x7 σ =>
    if x7 = 0 then
      rz1 0 σ
    else
      gR 2 0 σ v0 fun y8 =>
      sI σ y8 v2 v3 fun σ =>
      rz1 1 σ
  else
  if v1 = 105 then
    ob 2 σ v0 fun _ => bnd (f_X3_isMan v0 v2 σ) fun x3 σ =>
    if x3 = 0 then
      rz1 0 σ
    else
      gR 2 0 σ v0 fun y4 =>
      gR 2 0 σ v0 fun y5 =>
      lI 100 σ y5 (16 + v2) fun x6 =>
      sI σ y4 (16 + v2) (1 - x6) fun σ =>
      rz1 1 σ
  else
  if v1 = 110 then
    gR 2 0 σ v0 fun y2 =>
    ob 2 σ v0 fun _ => bnd (f_X3_goNights v0 y2 v2 σ) fun _ σ =>
    rz1 1 σ
  else
  ob 2 σ v0 fun _ => bnd (f_X3_areTwo v0 v2 v3 σ) fun x1 σ =>
  if x1 = 0 then
    rz1 0 σ
  else
    ob 2 σ v0 fun _ => bnd (f_X3_goExchange v0 v2 v3 σ) fun _ σ =>
    rz1 1 σ
theorem mm_X3_act (v0 : Option Nat) (v1 : Int32) (v2 : Int32) (v3 : Int32) (σ : Hp) : MM yX3_act mi_X3_act rI [vA v0, vI v1, vI v2, vI v3] σ (f_X3_act v0 v1 v2 v3 σ) := by
  refine mm_of (by decide +kernel) rfl rfl (Nat.le_of_ble_eq_true rfl) ?_
  intro X
  unfold f_X3_act
  refine g_iload_n 1 dX3_act_0 rfl rfl ?_
  refine g_case (fun h1 => ?_) (fun h1 => ?_)
  · refine g_lookup (off := 78) 79 dX3_act_1 (by decide) (by rw [h1]; try rfl) (by decide) ?_
    refine g_aload_n 0 dX3_act_79 rfl rfl ?_
    refine g_iload_n 2 dX3_act_80 rfl rfl ?_
    refine g_iload_n 3 dX3_act_81 rfl rfl ?_
    refine g_callV_I (mm_X3_isGift _ _ _ _) rfl zc_2 q1354 q1356 qs71 q109 q1357 dv_X3_isGift rfl (Nat.le_of_ble_eq_true rfl) (Nat.le_of_ble_eq_true rfl) (Nat.le_of_ble_eq_true rfl) dX3_act_82 fun x7 σ => ?_
    refine g_if_ne 90 dX3_act_85 (by decide) ?_ ?_
    · refine g_aload_n 0 dX3_act_90 rfl rfl ?_
      refine g_getR fo_2_0 q1056 dX3_act_91 fun y8 => ?_
      refine g_iload_n 2 dX3_act_94 rfl rfl ?_
      refine g_iload_n 3 dX3_act_95 rfl rfl ?_
      refine g_iastore dX3_act_96 fun σ => ?_
      refine g_iconst 1 dX3_act_97 (by decide) ?_
      exact g_zret rfl dX3_act_98
    · refine g_iconst 0 dX3_act_88 (by decide) ?_
      exact g_zret rfl dX3_act_89
  · refine g_case (fun h2 => ?_) (fun h2 => ?_)
    · refine g_lookup (off := 46) 47 dX3_act_1 (by decide) (by rw [h2]; try rfl) (by decide) ?_
      refine g_aload_n 0 dX3_act_47 rfl rfl ?_
      refine g_iload_n 2 dX3_act_48 rfl rfl ?_
      refine g_callV_I (mm_X3_isMan _ _ _) rfl zc_2 q1305 q1307 qs66 q109 q1308 dv_X3_isMan rfl (Nat.le_of_ble_eq_true rfl) (Nat.le_of_ble_eq_true rfl) (Nat.le_of_ble_eq_true rfl) dX3_act_49 fun x3 σ => ?_
      refine g_if_ne 57 dX3_act_52 (by decide) ?_ ?_
      · refine g_aload_n 0 dX3_act_57 rfl rfl ?_
        refine g_getR fo_2_0 q1056 dX3_act_58 fun y4 => ?_
        refine g_bipush 16 dX3_act_61 (by decide) ?_
        refine g_iload_n 2 dX3_act_63 rfl rfl ?_
        refine g_iadd dX3_act_64 ?_
        refine g_iconst 1 dX3_act_65 (by decide) ?_
        refine g_aload_n 0 dX3_act_66 rfl rfl ?_
        refine g_getR fo_2_0 q1056 dX3_act_67 fun y5 => ?_
        refine g_bipush 16 dX3_act_70 (by decide) ?_
        refine g_iload_n 2 dX3_act_72 rfl rfl ?_
        refine g_iadd dX3_act_73 ?_
        refine g_iaload dX3_act_74 fun x6 => ?_
        refine g_isub dX3_act_75 ?_
        refine g_iastore dX3_act_76 fun σ => ?_
        refine g_iconst 1 dX3_act_77 (by decide) ?_
        exact g_zret rfl dX3_act_78
      · refine g_iconst 0 dX3_act_55 (by decide) ?_
        exact g_zret rfl dX3_act_56
    · refine g_case (fun h3 => ?_) (fun h3 => ?_)
      · refine g_lookup (off := 35) 36 dX3_act_1 (by decide) (by rw [h3]; try rfl) (by decide) ?_
        refine g_aload_n 0 dX3_act_36 rfl rfl ?_
        refine g_aload_n 0 dX3_act_37 rfl rfl ?_
        refine g_getR fo_2_0 q1056 dX3_act_38 fun y2 => ?_
        refine g_iload_n 2 dX3_act_41 rfl rfl ?_
        refine g_callV_V (mm_X3_goNights _ _ _ _) rfl zc_2 q1370 q1372 qs73 q109 q1373 dv_X3_goNights rfl (Nat.le_of_ble_eq_true rfl) (Nat.le_of_ble_eq_true rfl) (Nat.le_of_ble_eq_true rfl) dX3_act_42 fun _ σ => ?_
        refine g_iconst 1 dX3_act_45 (by decide) ?_
        exact g_zret rfl dX3_act_46
      · refine g_lookup (off := 98) 99 dX3_act_1 (by decide) (by rw [lv_osw h1 (by decide)]; rw [lv_osw h2 (by decide)]; rw [lv_osw h3 (by decide)]; try rfl) (by decide) ?_
        refine g_aload_n 0 dX3_act_99 rfl rfl ?_
        refine g_iload_n 2 dX3_act_100 rfl rfl ?_
        refine g_iload_n 3 dX3_act_101 rfl rfl ?_
        refine g_callV_I (mm_X3_areTwo _ _ _ _) rfl zc_2 q1402 q1404 qs79 q109 q1405 dv_X3_areTwo rfl (Nat.le_of_ble_eq_true rfl) (Nat.le_of_ble_eq_true rfl) (Nat.le_of_ble_eq_true rfl) dX3_act_102 fun x1 σ => ?_
        refine g_if_ne 110 dX3_act_105 (by decide) ?_ ?_
        · refine g_aload_n 0 dX3_act_110 rfl rfl ?_
          refine g_iload_n 2 dX3_act_111 rfl rfl ?_
          refine g_iload_n 3 dX3_act_112 rfl rfl ?_
          refine g_callV_V (mm_X3_goExchange _ _ _ _) rfl zc_2 q1406 q1408 qs80 q109 q1409 dv_X3_goExchange rfl (Nat.le_of_ble_eq_true rfl) (Nat.le_of_ble_eq_true rfl) (Nat.le_of_ble_eq_true rfl) dX3_act_113 fun _ σ => ?_
          refine g_iconst 1 dX3_act_116 (by decide) ?_
          exact g_zret rfl dX3_act_117
        · refine g_iconst 0 dX3_act_108 (by decide) ?_
          exact g_zret rfl dX3_act_109
theorem dd_X3_act : yX3_act.cls ≠ "java/lang/invoke/MethodHandle" ∧ yX3_act.cls ≠ "java/lang/invoke/VarHandle" ∧ (parseMethodDescriptor yX3_act.desc).map (fun d => d.parameters.length) = some 3 := by decide +kernel
theorem dv_X3_act : yX3_act.cls = RX3 ∧ yX3_act.cls ≠ "java/lang/invoke/MethodHandle" ∧ yX3_act.cls ≠ "java/lang/invoke/VarHandle" ∧ (parseMethodDescriptor yX3_act.desc).map (fun d => d.parameters.length) = some 3 := ⟨rfl, dd_X3_act⟩
/-! RockingHorseModel.later(I)I -/
abbrev mi_X3_later : Mi := (cX3_later, 4, "RockingHorseModel", 207, some .int, "later")
def f_X3_later_b42 (v0 : Option Nat) (k0 : Int32 → Hp → Option (Int32 × Hp)) (ag : (Int32 × Int32) → Hp → Option (Int32 × Hp)) (a : Int32 × Int32) (σ : Hp) : Option (Int32 × Hp) :=
  gI 2 3 σ v0 fun x5 =>
  if x5 ≤ a.2 then
    k0 a.1 σ
  else
    gR 2 26 σ v0 fun y6 =>
    lI 100 σ y6 (8 + a.2) fun x7 =>
    ag ((imax a.1 x7), (a.2 + 1)) σ
def f_X3_later (v0 : Option Nat) (v1 : Int32) (σ : Hp) : Option (Int32 × Hp) :=
  pI 0 2 11 σ v0 0 fun σ =>
  bnd (f_X3_in v1 0 60 σ) fun x1 σ =>
  if x1 = 0 then
    some ((-1), σ)
  else
    gR 2 0 σ v0 fun y2 =>
    gR 2 26 σ v0 fun y3 =>
    bnd (f_X3_lay y2 y3 0 σ) fun _ σ =>
    gR 2 26 σ v0 fun y4 =>
    ob 2 σ v0 fun _ => bnd (f_X3_goNights v0 y4 v1 σ) fun _ σ =>
    lp 2000 (f_X3_later_b42 v0 (fun (a8 : Int32) σ =>
        pI 0 2 10 σ v0 0 fun σ =>
        gR 2 26 σ v0 fun y9 =>
        ob 2 σ v0 fun _ => bnd (f_X3_tired v0 y9 σ) fun x10 σ =>
        ob 2 σ v0 fun _ => bnd (f_X3_tell v0 (Int32.toInt64 x10) σ) fun _ σ =>
        ob 2 σ v0 fun _ => bnd (f_X3_tell v0 (Int32.toInt64 a8) σ) fun _ σ =>
        gR 2 26 σ v0 fun y11 =>
        lI 100 σ y11 25 fun x12 =>
        gR 2 0 σ v0 fun y13 =>
        lI 100 σ y13 25 fun x14 =>
        some ((x12 - x14), σ))) (0, 0) σ
theorem ok_X3_later_b42 (X : Mx) (v0 : Option Nat) {k0 : Int32 → Hp → Option (Int32 × Hp)} (hk0 : ∀ (a : Int32) (σ : Hp), GG X mi_X3_later (QM X rI) 70 [(0, vA v0), (2, vI a)] [] σ (k0 a σ)) : ∀ (m : Nat) (a : Int32 × Int32) (σ : Hp), GG X mi_X3_later (QM X rI) 42 [(0, vA v0), (2, vI a.1), (3, vI a.2)] [] σ (lp m (f_X3_later_b42 v0 k0) a σ) := by
  refine g_lp (fun (a : Int32 × Int32) => [(0, vA v0), (2, vI a.1), (3, vI a.2)]) ?_
  intro ag hag a σ
  unfold f_X3_later_b42
  refine g_iload_n 3 dX3_later_42 rfl rfl ?_
  refine g_aload_n 0 dX3_later_43 rfl rfl ?_
  refine g_getI fo_2_3 (by decide) q1059 dX3_later_44 fun x5 => ?_
  refine g_icmp_ge 70 dX3_later_47 (by decide) ?_ ?_
  · exact g_jmp (hk0 _ _) rfl
  · refine g_iload_n 2 dX3_later_50 rfl rfl ?_
    refine g_aload_n 0 dX3_later_51 rfl rfl ?_
    refine g_getR fo_2_26 q1082 dX3_later_52 fun y6 => ?_
    refine g_bipush 8 dX3_later_55 (by decide) ?_
    refine g_iload_n 3 dX3_later_57 rfl rfl ?_
    refine g_iadd dX3_later_58 ?_
    refine g_iaload dX3_later_59 fun x7 => ?_
    refine g_mmax q1330 (by decide) (Nat.le_of_ble_eq_true rfl) dX3_later_60 ?_
    refine g_istore_n 2 dX3_later_63 rfl (lt_b rfl) ?_
    refine g_iinc 1 dX3_later_64 (by decide) rfl (lt_b rfl) ?_
    refine g_goto 42 dX3_later_67 (by decide) ?_
    exact g_jmp (hag _ _) rfl
theorem mm_X3_later (v0 : Option Nat) (v1 : Int32) (σ : Hp) : MM yX3_later mi_X3_later rI [vA v0, vI v1] σ (f_X3_later v0 v1 σ) := by
  refine mm_of (by decide +kernel) rfl rfl (Nat.le_of_ble_eq_true rfl) ?_
  intro X
  unfold f_X3_later
  refine g_aload_n 0 dX3_later_0 rfl rfl ?_
  refine g_iconst 0 dX3_later_1 (by decide) ?_
  refine g_putI fo_2_11 (by decide) rfl q1067 dX3_later_2 fun σ => ?_
  refine g_iload_n 1 dX3_later_5 rfl rfl ?_
  refine g_iconst 0 dX3_later_6 (by decide) ?_
  refine g_bipush 60 dX3_later_7 (by decide) ?_
  refine g_callS_I (mm_X3_in _ _ _ _) rfl q1223 q1224 q109 q1225 dd_X3_in rfl (Nat.le_of_ble_eq_true rfl) (Nat.le_of_ble_eq_true rfl) (Nat.le_of_ble_eq_true rfl) dX3_later_9 fun x1 σ => ?_
  refine g_if_ne 17 dX3_later_12 (by decide) ?_ ?_
  · refine g_aload_n 0 dX3_later_17 rfl rfl ?_
    refine g_getR fo_2_0 q1056 dX3_later_18 fun y2 => ?_
    refine g_aload_n 0 dX3_later_21 rfl rfl ?_
    refine g_getR fo_2_26 q1082 dX3_later_22 fun y3 => ?_
    refine g_iconst 0 dX3_later_25 (by decide) ?_
    refine g_callS_V (mm_X3_lay _ _ _ _) rfl q1347 q1348 q109 q1349 dd_X3_lay rfl (Nat.le_of_ble_eq_true rfl) (Nat.le_of_ble_eq_true rfl) (Nat.le_of_ble_eq_true rfl) dX3_later_26 fun _ σ => ?_
    refine g_aload_n 0 dX3_later_29 rfl rfl ?_
    refine g_aload_n 0 dX3_later_30 rfl rfl ?_
    refine g_getR fo_2_26 q1082 dX3_later_31 fun y4 => ?_
    refine g_iload_n 1 dX3_later_34 rfl rfl ?_
    refine g_callV_V (mm_X3_goNights _ _ _ _) rfl zc_2 q1370 q1372 qs73 q109 q1373 dv_X3_goNights rfl (Nat.le_of_ble_eq_true rfl) (Nat.le_of_ble_eq_true rfl) (Nat.le_of_ble_eq_true rfl) dX3_later_35 fun _ σ => ?_
    refine g_iconst 0 dX3_later_38 (by decide) ?_
    refine g_istore_n 2 dX3_later_39 rfl (lt_b rfl) ?_
    refine g_iconst 0 dX3_later_40 (by decide) ?_
    refine g_istore_n 3 dX3_later_41 rfl (lt_b rfl) ?_
    refine g_jmp (ok_X3_later_b42 X v0 ?_ _ _ _) rfl
    · intro a8 σ
      refine g_aload_n 0 dX3_later_70 rfl rfl ?_
      refine g_iconst 0 dX3_later_71 (by decide) ?_
      refine g_putI fo_2_10 (by decide) rfl q1066 dX3_later_72 fun σ => ?_
      refine g_aload_n 0 dX3_later_75 rfl rfl ?_
      refine g_aload_n 0 dX3_later_76 rfl rfl ?_
      refine g_aload_n 0 dX3_later_77 rfl rfl ?_
      refine g_getR fo_2_26 q1082 dX3_later_78 fun y9 => ?_
      refine g_callV_I (mm_X3_tired _ _ _) rfl zc_2 q1386 q1388 qs76 q109 q1389 dv_X3_tired rfl (Nat.le_of_ble_eq_true rfl) (Nat.le_of_ble_eq_true rfl) (Nat.le_of_ble_eq_true rfl) dX3_later_81 fun x10 σ => ?_
      refine g_i2l dX3_later_84 ?_
      refine g_callV_V (mm_X3_tell _ _ _) rfl zc_2 q1382 q1384 qs75 q109 q1385 dv_X3_tell rfl (Nat.le_of_ble_eq_true rfl) (Nat.le_of_ble_eq_true rfl) (Nat.le_of_ble_eq_true rfl) dX3_later_85 fun _ σ => ?_
      refine g_aload_n 0 dX3_later_88 rfl rfl ?_
      refine g_iload_n 2 dX3_later_89 rfl rfl ?_
      refine g_i2l dX3_later_90 ?_
      refine g_callV_V (mm_X3_tell _ _ _) rfl zc_2 q1382 q1384 qs75 q109 q1385 dv_X3_tell rfl (Nat.le_of_ble_eq_true rfl) (Nat.le_of_ble_eq_true rfl) (Nat.le_of_ble_eq_true rfl) dX3_later_91 fun _ σ => ?_
      refine g_aload_n 0 dX3_later_94 rfl rfl ?_
      refine g_getR fo_2_26 q1082 dX3_later_95 fun y11 => ?_
      refine g_bipush 25 dX3_later_98 (by decide) ?_
      refine g_iaload dX3_later_100 fun x12 => ?_
      refine g_aload_n 0 dX3_later_101 rfl rfl ?_
      refine g_getR fo_2_0 q1056 dX3_later_102 fun y13 => ?_
      refine g_bipush 25 dX3_later_105 (by decide) ?_
      refine g_iaload dX3_later_107 fun x14 => ?_
      refine g_isub dX3_later_108 ?_
      exact g_iret rfl dX3_later_109
  · refine g_iconst (-1) dX3_later_15 (by decide) ?_
    exact g_iret rfl dX3_later_16
theorem dd_X3_later : yX3_later.cls ≠ "java/lang/invoke/MethodHandle" ∧ yX3_later.cls ≠ "java/lang/invoke/VarHandle" ∧ (parseMethodDescriptor yX3_later.desc).map (fun d => d.parameters.length) = some 1 := by decide +kernel
theorem dv_X3_later : yX3_later.cls = RX3 ∧ yX3_later.cls ≠ "java/lang/invoke/MethodHandle" ∧ yX3_later.cls ≠ "java/lang/invoke/VarHandle" ∧ (parseMethodDescriptor yX3_later.desc).map (fun d => d.parameters.length) = some 1 := ⟨rfl, dd_X3_later⟩
/-! RockingHorseModel.easiestBut(I)I -/
abbrev mi_X3_easiestBut : Mi := (cX3_easiestBut, 2, "RockingHorseModel", 206, some .int, "easiestBut")
def f_X3_easiestBut (v0 : Option Nat) (v1 : Int32) (σ : Hp) : Option (Int32 × Hp) :=
  ob 2 σ v0 fun _ => bnd (f_X3_layMay v0 v1 σ) fun _ σ =>
  ob 2 σ v0 fun _ => bnd (f_X3_solve v0 0 σ) fun x1 σ =>
  some (x1, σ)
theorem mm_X3_easiestBut (v0 : Option Nat) (v1 : Int32) (σ : Hp) : MM yX3_easiestBut mi_X3_easiestBut rI [vA v0, vI v1] σ (f_X3_easiestBut v0 v1 σ) := by
  refine mm_of (by decide +kernel) rfl rfl (Nat.le_of_ble_eq_true rfl) ?_
  intro X
  unfold f_X3_easiestBut
  refine g_aload_n 0 dX3_easiestBut_0 rfl rfl ?_
  refine g_iload_n 1 dX3_easiestBut_1 rfl rfl ?_
  refine g_callV_V (mm_X3_layMay _ _ _) rfl zc_2 q1443 q1445 qs82 q109 q1446 dv_X3_layMay rfl (Nat.le_of_ble_eq_true rfl) (Nat.le_of_ble_eq_true rfl) (Nat.le_of_ble_eq_true rfl) dX3_easiestBut_2 fun _ σ => ?_
  refine g_aload_n 0 dX3_easiestBut_5 rfl rfl ?_
  refine g_iconst 0 dX3_easiestBut_6 (by decide) ?_
  refine g_callV_I (mm_X3_solve _ _ _) rfl zc_2 q1451 q1453 qs84 q109 q1454 dv_X3_solve rfl (Nat.le_of_ble_eq_true rfl) (Nat.le_of_ble_eq_true rfl) (Nat.le_of_ble_eq_true rfl) dX3_easiestBut_7 fun x1 σ => ?_
  exact g_iret rfl dX3_easiestBut_10
theorem dd_X3_easiestBut : yX3_easiestBut.cls ≠ "java/lang/invoke/MethodHandle" ∧ yX3_easiestBut.cls ≠ "java/lang/invoke/VarHandle" ∧ (parseMethodDescriptor yX3_easiestBut.desc).map (fun d => d.parameters.length) = some 1 := by decide +kernel
theorem dv_X3_easiestBut : yX3_easiestBut.cls = RX3 ∧ yX3_easiestBut.cls ≠ "java/lang/invoke/MethodHandle" ∧ yX3_easiestBut.cls ≠ "java/lang/invoke/VarHandle" ∧ (parseMethodDescriptor yX3_easiestBut.desc).map (fun d => d.parameters.length) = some 1 := ⟨rfl, dd_X3_easiestBut⟩
/-! RockingHorseModel.fewest()I -/
abbrev mi_X3_fewest : Mi := (cX3_fewest, 3, "RockingHorseModel", 207, some .int, "fewest")
def f_X3_fewest_b13 (v0 : Option Nat) (k0 : Int32 → Hp → Option (Int32 × Hp)) (ag : (Int32 × Int32) → Hp → Option (Int32 × Hp)) (a : Int32 × Int32) (σ : Hp) : Option (Int32 × Hp) :=
  gI 2 3 σ v0 fun x1 =>
  if (shl 1 x1) ≤ a.2 then
    k0 a.1 σ
  else
    gR 2 41 σ v0 fun y2 =>
    lI 102 σ y2 a.2 fun x3 =>
    jn (fun (a4 : Int32) σ =>
        ag (a4, (a.2 + 1)) σ) fun j5 =>
    if x3 = 0 then
      j5 a.1 σ
    else
      jn (fun (a6 : Unit) σ =>
          j5 a.2 σ) fun j7 =>
      if a.1 = (-1) then
        j7 () σ
      else
        bnd (f_J10_bitCount a.2 σ) fun x8 σ =>
        bnd (f_J10_bitCount a.1 σ) fun x9 σ =>
        if x9 ≤ x8 then
          j5 a.1 σ
        else
          j7 () σ
def f_X3_fewest (v0 : Option Nat) (σ : Hp) : Option (Int32 × Hp) :=
  pI 0 2 11 σ v0 0 fun σ =>
  ob 2 σ v0 fun _ => bnd (f_X3_layCanBe v0 σ) fun _ σ =>
  lp 2000 (f_X3_fewest_b13 v0 (fun (a10 : Int32) σ =>
      if a10 = (-1) then
        some ((-2), σ)
      else
        pI 0 2 10 σ v0 0 fun σ =>
        ob 2 σ v0 fun _ => bnd (f_X3_tell v0 (Int32.toInt64 a10) σ) fun _ σ =>
        bnd (f_J10_bitCount a10 σ) fun x11 σ =>
        some (x11, σ))) ((-1), 0) σ
theorem ok_X3_fewest_b13 (X : Mx) (v0 : Option Nat) {k0 : Int32 → Hp → Option (Int32 × Hp)} (hk0 : ∀ (a : Int32) (σ : Hp), GG X mi_X3_fewest (QM X rI) 56 [(0, vA v0), (1, vI a)] [] σ (k0 a σ)) : ∀ (m : Nat) (a : Int32 × Int32) (σ : Hp), GG X mi_X3_fewest (QM X rI) 13 [(0, vA v0), (1, vI a.1), (2, vI a.2)] [] σ (lp m (f_X3_fewest_b13 v0 k0) a σ) := by
  refine g_lp (fun (a : Int32 × Int32) => [(0, vA v0), (1, vI a.1), (2, vI a.2)]) ?_
  intro ag hag a σ
  unfold f_X3_fewest_b13
  refine g_iload_n 2 dX3_fewest_13 rfl rfl ?_
  refine g_iconst 1 dX3_fewest_14 (by decide) ?_
  refine g_aload_n 0 dX3_fewest_15 rfl rfl ?_
  refine g_getI fo_2_3 (by decide) q1059 dX3_fewest_16 fun x1 => ?_
  refine g_ishl dX3_fewest_19 ?_
  refine g_icmp_ge 56 dX3_fewest_20 (by decide) ?_ ?_
  · exact g_jmp (hk0 _ _) rfl
  · refine g_aload_n 0 dX3_fewest_23 rfl rfl ?_
    refine g_getR fo_2_41 q1097 dX3_fewest_24 fun y2 => ?_
    refine g_iload_n 2 dX3_fewest_27 rfl rfl ?_
    refine g_zaload dX3_fewest_28 fun x3 => ?_
    refine g_jn (fun j5 => ∀ (a4 : Int32) (σ : Hp), GG X mi_X3_fewest (QM X rI) 50 [(0, vA v0), (1, vI a4), (2, vI a.2)] [] σ (j5 a4 σ)) ?_ ?_
    · intro a4 σ
      refine g_iinc 1 dX3_fewest_50 (by decide) rfl (lt_b rfl) ?_
      refine g_goto 13 dX3_fewest_53 (by decide) ?_
      exact g_jmp (hag _ _) rfl
    · intro j5 hj5
      refine g_if_eq 50 dX3_fewest_29 (by decide) ?_ ?_
      · exact g_jmp (hj5 _ _) rfl
      · refine g_iload_n 1 dX3_fewest_32 rfl rfl ?_
        refine g_iconst (-1) dX3_fewest_33 (by decide) ?_
        refine g_jn (fun j7 => ∀ (a6 : Unit) (σ : Hp), GG X mi_X3_fewest (QM X rI) 48 [(0, vA v0), (2, vI a.2)] [] σ (j7 a6 σ)) ?_ ?_
        · intro a6 σ
          refine g_iload_n 2 dX3_fewest_48 rfl rfl ?_
          refine g_istore_n 1 dX3_fewest_49 rfl (lt_b rfl) ?_
          exact g_jmp (hj5 _ _) rfl
        · intro j7 hj7
          refine g_icmp_eq 48 dX3_fewest_34 (by decide) ?_ ?_
          · exact g_jmp (hj7 _ _) rfl
          · refine g_iload_n 2 dX3_fewest_37 rfl rfl ?_
            refine g_callS_I (mm_J10_bitCount _ _) rfl q1328 q600 q125 q601 dd_J10_bitCount rfl (Nat.le_of_ble_eq_true rfl) (Nat.le_of_ble_eq_true rfl) (Nat.le_of_ble_eq_true rfl) dX3_fewest_38 fun x8 σ => ?_
            refine g_iload_n 1 dX3_fewest_41 rfl rfl ?_
            refine g_callS_I (mm_J10_bitCount _ _) rfl q1328 q600 q125 q601 dd_J10_bitCount rfl (Nat.le_of_ble_eq_true rfl) (Nat.le_of_ble_eq_true rfl) (Nat.le_of_ble_eq_true rfl) dX3_fewest_42 fun x9 σ => ?_
            refine g_icmp_ge 50 dX3_fewest_45 (by decide) ?_ ?_
            · exact g_jmp (hj5 _ _) rfl
            · exact g_jmp (hj7 _ _) rfl
theorem mm_X3_fewest (v0 : Option Nat) (σ : Hp) : MM yX3_fewest mi_X3_fewest rI [vA v0] σ (f_X3_fewest v0 σ) := by
  refine mm_of (by decide +kernel) rfl rfl (Nat.le_of_ble_eq_true rfl) ?_
  intro X
  unfold f_X3_fewest
  refine g_aload_n 0 dX3_fewest_0 rfl rfl ?_
  refine g_iconst 0 dX3_fewest_1 (by decide) ?_
  refine g_putI fo_2_11 (by decide) rfl q1067 dX3_fewest_2 fun σ => ?_
  refine g_aload_n 0 dX3_fewest_5 rfl rfl ?_
  refine g_callV_V (mm_X3_layCanBe _ _) rfl zc_2 q1495 q1497 qs94 q109 q1498 dv_X3_layCanBe rfl (Nat.le_of_ble_eq_true rfl) (Nat.le_of_ble_eq_true rfl) (Nat.le_of_ble_eq_true rfl) dX3_fewest_6 fun _ σ => ?_
  refine g_iconst (-1) dX3_fewest_9 (by decide) ?_
  refine g_istore_n 1 dX3_fewest_10 rfl (lt_b rfl) ?_
  refine g_iconst 0 dX3_fewest_11 (by decide) ?_
  refine g_istore_n 2 dX3_fewest_12 rfl (lt_b rfl) ?_
  refine g_jmp (ok_X3_fewest_b13 X v0 ?_ _ _ _) rfl
  · intro a10 σ
    refine g_iload_n 1 dX3_fewest_56 rfl rfl ?_
    refine g_iconst (-1) dX3_fewest_57 (by decide) ?_
    refine g_icmp_ne 64 dX3_fewest_58 (by decide) ?_ ?_
    · refine g_aload_n 0 dX3_fewest_64 rfl rfl ?_
      refine g_iconst 0 dX3_fewest_65 (by decide) ?_
      refine g_putI fo_2_10 (by decide) rfl q1066 dX3_fewest_66 fun σ => ?_
      refine g_aload_n 0 dX3_fewest_69 rfl rfl ?_
      refine g_iload_n 1 dX3_fewest_70 rfl rfl ?_
      refine g_i2l dX3_fewest_71 ?_
      refine g_callV_V (mm_X3_tell _ _ _) rfl zc_2 q1382 q1384 qs75 q109 q1385 dv_X3_tell rfl (Nat.le_of_ble_eq_true rfl) (Nat.le_of_ble_eq_true rfl) (Nat.le_of_ble_eq_true rfl) dX3_fewest_72 fun _ σ => ?_
      refine g_iload_n 1 dX3_fewest_75 rfl rfl ?_
      refine g_callS_I (mm_J10_bitCount _ _) rfl q1328 q600 q125 q601 dd_J10_bitCount rfl (Nat.le_of_ble_eq_true rfl) (Nat.le_of_ble_eq_true rfl) (Nat.le_of_ble_eq_true rfl) dX3_fewest_76 fun x11 σ => ?_
      exact g_iret rfl dX3_fewest_79
    · refine g_bipush (-2) dX3_fewest_61 (by decide) ?_
      exact g_iret rfl dX3_fewest_63
theorem dd_X3_fewest : yX3_fewest.cls ≠ "java/lang/invoke/MethodHandle" ∧ yX3_fewest.cls ≠ "java/lang/invoke/VarHandle" ∧ (parseMethodDescriptor yX3_fewest.desc).map (fun d => d.parameters.length) = some 0 := by decide +kernel
theorem dv_X3_fewest : yX3_fewest.cls = RX3 ∧ yX3_fewest.cls ≠ "java/lang/invoke/MethodHandle" ∧ yX3_fewest.cls ≠ "java/lang/invoke/VarHandle" ∧ (parseMethodDescriptor yX3_fewest.desc).map (fun d => d.parameters.length) = some 0 := ⟨rfl, dd_X3_fewest⟩
/-! RockingHorseModel.rotas()I -/
abbrev mi_X3_rotas : Mi := (cX3_rotas, 1, "RockingHorseModel", 206, some .int, "rotas")
def f_X3_rotas (v0 : Option Nat) (σ : Hp) : Option (Int32 × Hp) :=
  pI 0 2 11 σ v0 0 fun σ =>
  ob 2 σ v0 fun _ => bnd (f_X3_layMay v0 (-1) σ) fun _ σ =>
  ob 2 σ v0 fun _ => bnd (f_X3_tellWays v0 σ) fun x1 σ =>
  some (x1, σ)
theorem mm_X3_rotas (v0 : Option Nat) (σ : Hp) : MM yX3_rotas mi_X3_rotas rI [vA v0] σ (f_X3_rotas v0 σ) := by
  refine mm_of (by decide +kernel) rfl rfl (Nat.le_of_ble_eq_true rfl) ?_
  intro X
  unfold f_X3_rotas
  refine g_aload_n 0 dX3_rotas_0 rfl rfl ?_
  refine g_iconst 0 dX3_rotas_1 (by decide) ?_
  refine g_putI fo_2_11 (by decide) rfl q1067 dX3_rotas_2 fun σ => ?_
  refine g_aload_n 0 dX3_rotas_5 rfl rfl ?_
  refine g_iconst (-1) dX3_rotas_6 (by decide) ?_
  refine g_callV_V (mm_X3_layMay _ _ _) rfl zc_2 q1443 q1445 qs82 q109 q1446 dv_X3_layMay rfl (Nat.le_of_ble_eq_true rfl) (Nat.le_of_ble_eq_true rfl) (Nat.le_of_ble_eq_true rfl) dX3_rotas_7 fun _ σ => ?_
  refine g_aload_n 0 dX3_rotas_10 rfl rfl ?_
  refine g_callV_I (mm_X3_tellWays _ _) rfl zc_2 q1507 q1509 qs95 q109 q1510 dv_X3_tellWays rfl (Nat.le_of_ble_eq_true rfl) (Nat.le_of_ble_eq_true rfl) (Nat.le_of_ble_eq_true rfl) dX3_rotas_11 fun x1 σ => ?_
  exact g_iret rfl dX3_rotas_14
theorem dd_X3_rotas : yX3_rotas.cls ≠ "java/lang/invoke/MethodHandle" ∧ yX3_rotas.cls ≠ "java/lang/invoke/VarHandle" ∧ (parseMethodDescriptor yX3_rotas.desc).map (fun d => d.parameters.length) = some 0 := by decide +kernel
theorem dv_X3_rotas : yX3_rotas.cls = RX3 ∧ yX3_rotas.cls ≠ "java/lang/invoke/MethodHandle" ∧ yX3_rotas.cls ≠ "java/lang/invoke/VarHandle" ∧ (parseMethodDescriptor yX3_rotas.desc).map (fun d => d.parameters.length) = some 0 := ⟨rfl, dd_X3_rotas⟩
/-! RockingHorseModel.takes()I -/
abbrev mi_X3_takes : Mi := (cX3_takes, 4, "RockingHorseModel", 207, some .int, "takes")
def f_X3_takes_b38 (v0 : Option Nat) (k0 : Int32 → Hp → Option (Int32 × Hp)) (ag : (Int32 × Int32) → Hp → Option (Int32 × Hp)) (a : Int32 × Int32) (σ : Hp) : Option (Int32 × Hp) :=
  gI 2 1 σ v0 fun x3 =>
  if x3 ≤ a.2 then
    k0 a.1 σ
  else
    gR 2 0 σ v0 fun y4 =>
    lI 100 σ y4 a.2 fun x5 =>
    gR 2 40 σ v0 fun y6 =>
    lI 100 σ y6 a.2 fun x7 =>
    jn (fun (a8 : Int32) σ =>
        gR 2 0 σ v0 fun y10 =>
        gR 2 40 σ v0 fun y11 =>
        lI 100 σ y11 a.2 fun x12 =>
        sI σ y10 a.2 x12 fun σ =>
        ag ((a.1 + a8), (a.2 + 1)) σ) fun j9 =>
    if x5 = x7 then
      j9 0 σ
    else
      j9 1 σ
def f_X3_takes (v0 : Option Nat) (σ : Hp) : Option (Int32 × Hp) :=
  pI 0 2 11 σ v0 0 fun σ =>
  ob 2 σ v0 fun _ => bnd (f_X3_easiestBut v0 (-1) σ) fun x1 σ =>
  if x1 = 1000000000 then
    some ((-2), σ)
  else
    ob 2 σ v0 fun _ => bnd (f_X3_layLine v0 0 x1 σ) fun _ σ =>
    gR 2 0 σ v0 fun y2 =>
    ob 2 σ v0 fun _ => bnd (f_X3_remember v0 y2 σ) fun _ σ =>
    lp 2000 (f_X3_takes_b38 v0 (fun (a13 : Int32) σ =>
        some (a13, σ))) (0, 0) σ
theorem ok_X3_takes_b38 (X : Mx) (v0 : Option Nat) {k0 : Int32 → Hp → Option (Int32 × Hp)} (hk0 : ∀ (a : Int32) (σ : Hp), GG X mi_X3_takes (QM X rI) 87 [(2, vI a)] [] σ (k0 a σ)) : ∀ (m : Nat) (a : Int32 × Int32) (σ : Hp), GG X mi_X3_takes (QM X rI) 38 [(0, vA v0), (2, vI a.1), (3, vI a.2)] [] σ (lp m (f_X3_takes_b38 v0 k0) a σ) := by
  refine g_lp (fun (a : Int32 × Int32) => [(0, vA v0), (2, vI a.1), (3, vI a.2)]) ?_
  intro ag hag a σ
  unfold f_X3_takes_b38
  refine g_iload_n 3 dX3_takes_38 rfl rfl ?_
  refine g_aload_n 0 dX3_takes_39 rfl rfl ?_
  refine g_getI fo_2_1 (by decide) q1057 dX3_takes_40 fun x3 => ?_
  refine g_icmp_ge 87 dX3_takes_43 (by decide) ?_ ?_
  · exact g_jmp (hk0 _ _) rfl
  · refine g_iload_n 2 dX3_takes_46 rfl rfl ?_
    refine g_aload_n 0 dX3_takes_47 rfl rfl ?_
    refine g_getR fo_2_0 q1056 dX3_takes_48 fun y4 => ?_
    refine g_iload_n 3 dX3_takes_51 rfl rfl ?_
    refine g_iaload dX3_takes_52 fun x5 => ?_
    refine g_aload_n 0 dX3_takes_53 rfl rfl ?_
    refine g_getR fo_2_40 q1096 dX3_takes_54 fun y6 => ?_
    refine g_iload_n 3 dX3_takes_57 rfl rfl ?_
    refine g_iaload dX3_takes_58 fun x7 => ?_
    refine g_jn (fun j9 => ∀ (a8 : Int32) (σ : Hp), GG X mi_X3_takes (QM X rI) 67 [(0, vA v0), (3, vI a.2)] [vI a8, vI a.1] σ (j9 a8 σ)) ?_ ?_
    · intro a8 σ
      refine g_iadd dX3_takes_67 ?_
      refine g_istore_n 2 dX3_takes_68 rfl (lt_b rfl) ?_
      refine g_aload_n 0 dX3_takes_69 rfl rfl ?_
      refine g_getR fo_2_0 q1056 dX3_takes_70 fun y10 => ?_
      refine g_iload_n 3 dX3_takes_73 rfl rfl ?_
      refine g_aload_n 0 dX3_takes_74 rfl rfl ?_
      refine g_getR fo_2_40 q1096 dX3_takes_75 fun y11 => ?_
      refine g_iload_n 3 dX3_takes_78 rfl rfl ?_
      refine g_iaload dX3_takes_79 fun x12 => ?_
      refine g_iastore dX3_takes_80 fun σ => ?_
      refine g_iinc 1 dX3_takes_81 (by decide) rfl (lt_b rfl) ?_
      refine g_goto 38 dX3_takes_84 (by decide) ?_
      exact g_jmp (hag _ _) rfl
    · intro j9 hj9
      refine g_icmp_ne 66 dX3_takes_59 (by decide) ?_ ?_
      · refine g_iconst 1 dX3_takes_66 (by decide) ?_
        exact g_jmp (hj9 _ _) rfl
      · refine g_iconst 0 dX3_takes_62 (by decide) ?_
        refine g_goto 67 dX3_takes_63 (by decide) ?_
        exact g_jmp (hj9 _ _) rfl
theorem mm_X3_takes (v0 : Option Nat) (σ : Hp) : MM yX3_takes mi_X3_takes rI [vA v0] σ (f_X3_takes v0 σ) := by
  refine mm_of (by decide +kernel) rfl rfl (Nat.le_of_ble_eq_true rfl) ?_
  intro X
  unfold f_X3_takes
  refine g_aload_n 0 dX3_takes_0 rfl rfl ?_
  refine g_iconst 0 dX3_takes_1 (by decide) ?_
  refine g_putI fo_2_11 (by decide) rfl q1067 dX3_takes_2 fun σ => ?_
  refine g_aload_n 0 dX3_takes_5 rfl rfl ?_
  refine g_iconst (-1) dX3_takes_6 (by decide) ?_
  refine g_callV_I (mm_X3_easiestBut _ _ _) rfl zc_2 q1439 q1441 qs81 q109 q1442 dv_X3_easiestBut rfl (Nat.le_of_ble_eq_true rfl) (Nat.le_of_ble_eq_true rfl) (Nat.le_of_ble_eq_true rfl) dX3_takes_7 fun x1 σ => ?_
  refine g_istore_n 1 dX3_takes_10 rfl (lt_b rfl) ?_
  refine g_iload_n 1 dX3_takes_11 rfl rfl ?_
  refine g_ldc dX3_takes_12 q1055 ?_
  refine g_icmp_ne 20 dX3_takes_14 (by decide) ?_ ?_
  · refine g_aload_n 0 dX3_takes_20 rfl rfl ?_
    refine g_iconst 0 dX3_takes_21 (by decide) ?_
    refine g_iload_n 1 dX3_takes_22 rfl rfl ?_
    refine g_callV_V (mm_X3_layLine _ _ _ _) rfl zc_2 q1467 q1469 qs88 q109 q1470 dv_X3_layLine rfl (Nat.le_of_ble_eq_true rfl) (Nat.le_of_ble_eq_true rfl) (Nat.le_of_ble_eq_true rfl) dX3_takes_23 fun _ σ => ?_
    refine g_aload_n 0 dX3_takes_26 rfl rfl ?_
    refine g_aload_n 0 dX3_takes_27 rfl rfl ?_
    refine g_getR fo_2_0 q1056 dX3_takes_28 fun y2 => ?_
    refine g_callV_V (mm_X3_remember _ _ _) rfl zc_2 q1343 q1345 qs70 q109 q1346 dv_X3_remember rfl (Nat.le_of_ble_eq_true rfl) (Nat.le_of_ble_eq_true rfl) (Nat.le_of_ble_eq_true rfl) dX3_takes_31 fun _ σ => ?_
    refine g_iconst 0 dX3_takes_34 (by decide) ?_
    refine g_istore_n 2 dX3_takes_35 rfl (lt_b rfl) ?_
    refine g_iconst 0 dX3_takes_36 (by decide) ?_
    refine g_istore_n 3 dX3_takes_37 rfl (lt_b rfl) ?_
    refine g_jmp (ok_X3_takes_b38 X v0 ?_ _ _ _) rfl
    · intro a13 σ
      refine g_iload_n 2 dX3_takes_87 rfl rfl ?_
      exact g_iret rfl dX3_takes_88
  · refine g_bipush (-2) dX3_takes_17 (by decide) ?_
    exact g_iret rfl dX3_takes_19
theorem dd_X3_takes : yX3_takes.cls ≠ "java/lang/invoke/MethodHandle" ∧ yX3_takes.cls ≠ "java/lang/invoke/VarHandle" ∧ (parseMethodDescriptor yX3_takes.desc).map (fun d => d.parameters.length) = some 0 := by decide +kernel
theorem dv_X3_takes : yX3_takes.cls = RX3 ∧ yX3_takes.cls ≠ "java/lang/invoke/MethodHandle" ∧ yX3_takes.cls ≠ "java/lang/invoke/VarHandle" ∧ (parseMethodDescriptor yX3_takes.desc).map (fun d => d.parameters.length) = some 0 := ⟨rfl, dd_X3_takes⟩
/-! RockingHorseModel.missed(I)I -/
abbrev mi_X3_missed : Mi := (cX3_missed, 4, "RockingHorseModel", 207, some .int, "missed")
def f_X3_missed (v0 : Option Nat) (v1 : Int32) (σ : Hp) : Option (Int32 × Hp) :=
  pI 0 2 11 σ v0 0 fun σ =>
  ob 2 σ v0 fun _ => bnd (f_X3_isMan v0 v1 σ) fun x1 σ =>
  if x1 = 0 then
    some ((-1), σ)
  else
    ob 2 σ v0 fun _ => bnd (f_X3_easiestBut v0 (-1) σ) fun x2 σ =>
    ob 2 σ v0 fun _ => bnd (f_X3_easiestBut v0 v1 σ) fun x3 σ =>
    if x2 = 1000000000 then
      some ((-2), σ)
    else
      if x3 = 1000000000 then
        some ((-2), σ)
      else
        some ((x3 - x2), σ)
theorem mm_X3_missed (v0 : Option Nat) (v1 : Int32) (σ : Hp) : MM yX3_missed mi_X3_missed rI [vA v0, vI v1] σ (f_X3_missed v0 v1 σ) := by
  refine mm_of (by decide +kernel) rfl rfl (Nat.le_of_ble_eq_true rfl) ?_
  intro X
  unfold f_X3_missed
  refine g_aload_n 0 dX3_missed_0 rfl rfl ?_
  refine g_iconst 0 dX3_missed_1 (by decide) ?_
  refine g_putI fo_2_11 (by decide) rfl q1067 dX3_missed_2 fun σ => ?_
  refine g_aload_n 0 dX3_missed_5 rfl rfl ?_
  refine g_iload_n 1 dX3_missed_6 rfl rfl ?_
  refine g_callV_I (mm_X3_isMan _ _ _) rfl zc_2 q1305 q1307 qs66 q109 q1308 dv_X3_isMan rfl (Nat.le_of_ble_eq_true rfl) (Nat.le_of_ble_eq_true rfl) (Nat.le_of_ble_eq_true rfl) dX3_missed_7 fun x1 σ => ?_
  refine g_if_ne 15 dX3_missed_10 (by decide) ?_ ?_
  · refine g_aload_n 0 dX3_missed_15 rfl rfl ?_
    refine g_iconst (-1) dX3_missed_16 (by decide) ?_
    refine g_callV_I (mm_X3_easiestBut _ _ _) rfl zc_2 q1439 q1441 qs81 q109 q1442 dv_X3_easiestBut rfl (Nat.le_of_ble_eq_true rfl) (Nat.le_of_ble_eq_true rfl) (Nat.le_of_ble_eq_true rfl) dX3_missed_17 fun x2 σ => ?_
    refine g_istore_n 2 dX3_missed_20 rfl (lt_b rfl) ?_
    refine g_aload_n 0 dX3_missed_21 rfl rfl ?_
    refine g_iload_n 1 dX3_missed_22 rfl rfl ?_
    refine g_callV_I (mm_X3_easiestBut _ _ _) rfl zc_2 q1439 q1441 qs81 q109 q1442 dv_X3_easiestBut rfl (Nat.le_of_ble_eq_true rfl) (Nat.le_of_ble_eq_true rfl) (Nat.le_of_ble_eq_true rfl) dX3_missed_23 fun x3 σ => ?_
    refine g_istore_n 3 dX3_missed_26 rfl (lt_b rfl) ?_
    refine g_iload_n 2 dX3_missed_27 rfl rfl ?_
    refine g_ldc dX3_missed_28 q1055 ?_
    refine g_icmp_eq 39 dX3_missed_30 (by decide) ?_ ?_
    · refine g_bipush (-2) dX3_missed_39 (by decide) ?_
      refine g_goto 47 dX3_missed_41 (by decide) ?_
      exact g_iret rfl dX3_missed_47
    · refine g_iload_n 3 dX3_missed_33 rfl rfl ?_
      refine g_ldc dX3_missed_34 q1055 ?_
      refine g_icmp_ne 44 dX3_missed_36 (by decide) ?_ ?_
      · refine g_iload_n 3 dX3_missed_44 rfl rfl ?_
        refine g_iload_n 2 dX3_missed_45 rfl rfl ?_
        refine g_isub dX3_missed_46 ?_
        exact g_iret rfl dX3_missed_47
      · refine g_bipush (-2) dX3_missed_39 (by decide) ?_
        refine g_goto 47 dX3_missed_41 (by decide) ?_
        exact g_iret rfl dX3_missed_47
  · refine g_iconst (-1) dX3_missed_13 (by decide) ?_
    exact g_iret rfl dX3_missed_14
theorem dd_X3_missed : yX3_missed.cls ≠ "java/lang/invoke/MethodHandle" ∧ yX3_missed.cls ≠ "java/lang/invoke/VarHandle" ∧ (parseMethodDescriptor yX3_missed.desc).map (fun d => d.parameters.length) = some 1 := by decide +kernel
theorem dv_X3_missed : yX3_missed.cls = RX3 ∧ yX3_missed.cls ≠ "java/lang/invoke/MethodHandle" ∧ yX3_missed.cls ≠ "java/lang/invoke/VarHandle" ∧ (parseMethodDescriptor yX3_missed.desc).map (fun d => d.parameters.length) = some 1 := ⟨rfl, dd_X3_missed⟩
/-! RockingHorseModel.paid(I)I -/
abbrev mi_X3_paid : Mi := (cX3_paid, 6, "RockingHorseModel", 207, some .int, "paid")
def f_X3_paid_b54 (v0 : Option Nat) (v1 : Int32) (k0 : Int32 → Hp → Option (Int32 × Hp)) (ag : (Int32 × Int32) → Hp → Option (Int32 × Hp)) (a : Int32 × Int32) (σ : Hp) : Option (Int32 × Hp) :=
  gI 2 1 σ v0 fun x4 =>
  if x4 ≤ a.2 then
    k0 a.1 σ
  else
    gR 2 40 σ v0 fun y5 =>
    lI 100 σ y5 a.2 fun x6 =>
    jn (fun (a7 : Int32) σ =>
        ag ((a.1 + a7), (a.2 + 1)) σ) fun j8 =>
    if x6 = v1 then
      gR 2 36 σ v0 fun y9 =>
      lI 100 σ y9 ((8 * v1) + a.2) fun x10 =>
      j8 x10 σ
    else
      j8 0 σ
def f_X3_paid (v0 : Option Nat) (v1 : Int32) (σ : Hp) : Option (Int32 × Hp) :=
  pI 0 2 11 σ v0 0 fun σ =>
  ob 2 σ v0 fun _ => bnd (f_X3_isMan v0 v1 σ) fun x1 σ =>
  if x1 = 0 then
    some ((-1), σ)
  else
    ob 2 σ v0 fun _ => bnd (f_X3_easiestBut v0 v1 σ) fun x2 σ =>
    ob 2 σ v0 fun _ => bnd (f_X3_easiestBut v0 (-1) σ) fun x3 σ =>
    if x3 = 1000000000 then
      some ((-2), σ)
    else
      if x2 = 1000000000 then
        some ((-2), σ)
      else
        ob 2 σ v0 fun _ => bnd (f_X3_layLine v0 0 x3 σ) fun _ σ =>
        lp 2000 (f_X3_paid_b54 v0 v1 (fun (a11 : Int32) σ =>
            pI 0 2 10 σ v0 0 fun σ =>
            ob 2 σ v0 fun _ => bnd (f_X3_tell v0 (Int32.toInt64 a11) σ) fun _ σ =>
            ob 2 σ v0 fun _ => bnd (f_X3_tell v0 (Int32.toInt64 (x3 - a11)) σ) fun _ σ =>
            some ((x2 - (x3 - a11)), σ))) (0, 0) σ
theorem ok_X3_paid_b54 (X : Mx) (v0 : Option Nat) (v1 : Int32) (v2 : Int32) (v3 : Int32) {k0 : Int32 → Hp → Option (Int32 × Hp)} (hk0 : ∀ (a : Int32) (σ : Hp), GG X mi_X3_paid (QM X rI) 101 [(0, vA v0), (2, vI v2), (3, vI v3), (4, vI a)] [] σ (k0 a σ)) : ∀ (m : Nat) (a : Int32 × Int32) (σ : Hp), GG X mi_X3_paid (QM X rI) 54 [(0, vA v0), (1, vI v1), (2, vI v2), (3, vI v3), (4, vI a.1), (5, vI a.2)] [] σ (lp m (f_X3_paid_b54 v0 v1 k0) a σ) := by
  refine g_lp (fun (a : Int32 × Int32) => [(0, vA v0), (1, vI v1), (2, vI v2), (3, vI v3), (4, vI a.1), (5, vI a.2)]) ?_
  intro ag hag a σ
  unfold f_X3_paid_b54
  refine g_iload dX3_paid_54 rfl ?_
  refine g_aload_n 0 dX3_paid_56 rfl rfl ?_
  refine g_getI fo_2_1 (by decide) q1057 dX3_paid_57 fun x4 => ?_
  refine g_icmp_ge 101 dX3_paid_60 (by decide) ?_ ?_
  · exact g_jmp (hk0 _ _) rfl
  · refine g_iload dX3_paid_63 rfl ?_
    refine g_aload_n 0 dX3_paid_65 rfl rfl ?_
    refine g_getR fo_2_40 q1096 dX3_paid_66 fun y5 => ?_
    refine g_iload dX3_paid_69 rfl ?_
    refine g_iaload dX3_paid_71 fun x6 => ?_
    refine g_iload_n 1 dX3_paid_72 rfl rfl ?_
    refine g_jn (fun j8 => ∀ (a7 : Int32) (σ : Hp), GG X mi_X3_paid (QM X rI) 92 [(0, vA v0), (1, vI v1), (2, vI v2), (3, vI v3), (5, vI a.2)] [vI a7, vI a.1] σ (j8 a7 σ)) ?_ ?_
    · intro a7 σ
      refine g_iadd dX3_paid_92 ?_
      refine g_istore dX3_paid_93 (lt_b rfl) ?_
      refine g_iinc 1 dX3_paid_95 (by decide) rfl (lt_b rfl) ?_
      refine g_goto 54 dX3_paid_98 (by decide) ?_
      exact g_jmp (hag _ _) rfl
    · intro j8 hj8
      refine g_icmp_ne 91 dX3_paid_73 (by decide) ?_ ?_
      · refine g_iconst 0 dX3_paid_91 (by decide) ?_
        exact g_jmp (hj8 _ _) rfl
      · refine g_aload_n 0 dX3_paid_76 rfl rfl ?_
        refine g_getR fo_2_36 q1092 dX3_paid_77 fun y9 => ?_
        refine g_bipush 8 dX3_paid_80 (by decide) ?_
        refine g_iload_n 1 dX3_paid_82 rfl rfl ?_
        refine g_imul dX3_paid_83 ?_
        refine g_iload dX3_paid_84 rfl ?_
        refine g_iadd dX3_paid_86 ?_
        refine g_iaload dX3_paid_87 fun x10 => ?_
        refine g_goto 92 dX3_paid_88 (by decide) ?_
        exact g_jmp (hj8 _ _) rfl
theorem mm_X3_paid (v0 : Option Nat) (v1 : Int32) (σ : Hp) : MM yX3_paid mi_X3_paid rI [vA v0, vI v1] σ (f_X3_paid v0 v1 σ) := by
  refine mm_of (by decide +kernel) rfl rfl (Nat.le_of_ble_eq_true rfl) ?_
  intro X
  unfold f_X3_paid
  refine g_aload_n 0 dX3_paid_0 rfl rfl ?_
  refine g_iconst 0 dX3_paid_1 (by decide) ?_
  refine g_putI fo_2_11 (by decide) rfl q1067 dX3_paid_2 fun σ => ?_
  refine g_aload_n 0 dX3_paid_5 rfl rfl ?_
  refine g_iload_n 1 dX3_paid_6 rfl rfl ?_
  refine g_callV_I (mm_X3_isMan _ _ _) rfl zc_2 q1305 q1307 qs66 q109 q1308 dv_X3_isMan rfl (Nat.le_of_ble_eq_true rfl) (Nat.le_of_ble_eq_true rfl) (Nat.le_of_ble_eq_true rfl) dX3_paid_7 fun x1 σ => ?_
  refine g_if_ne 15 dX3_paid_10 (by decide) ?_ ?_
  · refine g_aload_n 0 dX3_paid_15 rfl rfl ?_
    refine g_iload_n 1 dX3_paid_16 rfl rfl ?_
    refine g_callV_I (mm_X3_easiestBut _ _ _) rfl zc_2 q1439 q1441 qs81 q109 q1442 dv_X3_easiestBut rfl (Nat.le_of_ble_eq_true rfl) (Nat.le_of_ble_eq_true rfl) (Nat.le_of_ble_eq_true rfl) dX3_paid_17 fun x2 σ => ?_
    refine g_istore_n 2 dX3_paid_20 rfl (lt_b rfl) ?_
    refine g_aload_n 0 dX3_paid_21 rfl rfl ?_
    refine g_iconst (-1) dX3_paid_22 (by decide) ?_
    refine g_callV_I (mm_X3_easiestBut _ _ _) rfl zc_2 q1439 q1441 qs81 q109 q1442 dv_X3_easiestBut rfl (Nat.le_of_ble_eq_true rfl) (Nat.le_of_ble_eq_true rfl) (Nat.le_of_ble_eq_true rfl) dX3_paid_23 fun x3 σ => ?_
    refine g_istore_n 3 dX3_paid_26 rfl (lt_b rfl) ?_
    refine g_iload_n 3 dX3_paid_27 rfl rfl ?_
    refine g_ldc dX3_paid_28 q1055 ?_
    refine g_icmp_eq 39 dX3_paid_30 (by decide) ?_ ?_
    · refine g_bipush (-2) dX3_paid_39 (by decide) ?_
      exact g_iret rfl dX3_paid_41
    · refine g_iload_n 2 dX3_paid_33 rfl rfl ?_
      refine g_ldc dX3_paid_34 q1055 ?_
      refine g_icmp_ne 42 dX3_paid_36 (by decide) ?_ ?_
      · refine g_aload_n 0 dX3_paid_42 rfl rfl ?_
        refine g_iconst 0 dX3_paid_43 (by decide) ?_
        refine g_iload_n 3 dX3_paid_44 rfl rfl ?_
        refine g_callV_V (mm_X3_layLine _ _ _ _) rfl zc_2 q1467 q1469 qs88 q109 q1470 dv_X3_layLine rfl (Nat.le_of_ble_eq_true rfl) (Nat.le_of_ble_eq_true rfl) (Nat.le_of_ble_eq_true rfl) dX3_paid_45 fun _ σ => ?_
        refine g_iconst 0 dX3_paid_48 (by decide) ?_
        refine g_istore dX3_paid_49 (lt_b rfl) ?_
        refine g_iconst 0 dX3_paid_51 (by decide) ?_
        refine g_istore dX3_paid_52 (lt_b rfl) ?_
        refine g_jmp (ok_X3_paid_b54 X v0 v1 x2 x3 ?_ _ _ _) rfl
        · intro a11 σ
          refine g_aload_n 0 dX3_paid_101 rfl rfl ?_
          refine g_iconst 0 dX3_paid_102 (by decide) ?_
          refine g_putI fo_2_10 (by decide) rfl q1066 dX3_paid_103 fun σ => ?_
          refine g_aload_n 0 dX3_paid_106 rfl rfl ?_
          refine g_iload dX3_paid_107 rfl ?_
          refine g_i2l dX3_paid_109 ?_
          refine g_callV_V (mm_X3_tell _ _ _) rfl zc_2 q1382 q1384 qs75 q109 q1385 dv_X3_tell rfl (Nat.le_of_ble_eq_true rfl) (Nat.le_of_ble_eq_true rfl) (Nat.le_of_ble_eq_true rfl) dX3_paid_110 fun _ σ => ?_
          refine g_aload_n 0 dX3_paid_113 rfl rfl ?_
          refine g_iload_n 3 dX3_paid_114 rfl rfl ?_
          refine g_iload dX3_paid_115 rfl ?_
          refine g_isub dX3_paid_117 ?_
          refine g_i2l dX3_paid_118 ?_
          refine g_callV_V (mm_X3_tell _ _ _) rfl zc_2 q1382 q1384 qs75 q109 q1385 dv_X3_tell rfl (Nat.le_of_ble_eq_true rfl) (Nat.le_of_ble_eq_true rfl) (Nat.le_of_ble_eq_true rfl) dX3_paid_119 fun _ σ => ?_
          refine g_iload_n 2 dX3_paid_122 rfl rfl ?_
          refine g_iload_n 3 dX3_paid_123 rfl rfl ?_
          refine g_iload dX3_paid_124 rfl ?_
          refine g_isub dX3_paid_126 ?_
          refine g_isub dX3_paid_127 ?_
          exact g_iret rfl dX3_paid_128
      · refine g_bipush (-2) dX3_paid_39 (by decide) ?_
        exact g_iret rfl dX3_paid_41
  · refine g_iconst (-1) dX3_paid_13 (by decide) ?_
    exact g_iret rfl dX3_paid_14
theorem dd_X3_paid : yX3_paid.cls ≠ "java/lang/invoke/MethodHandle" ∧ yX3_paid.cls ≠ "java/lang/invoke/VarHandle" ∧ (parseMethodDescriptor yX3_paid.desc).map (fun d => d.parameters.length) = some 1 := by decide +kernel
theorem dv_X3_paid : yX3_paid.cls = RX3 ∧ yX3_paid.cls ≠ "java/lang/invoke/MethodHandle" ∧ yX3_paid.cls ≠ "java/lang/invoke/VarHandle" ∧ (parseMethodDescriptor yX3_paid.desc).map (fun d => d.parameters.length) = some 1 := ⟨rfl, dd_X3_paid⟩
/-! RockingHorseModel.fitting(II)I -/
abbrev mi_X3_fitting : Mi := (cX3_fitting, 4, "RockingHorseModel", 207, some .int, "fitting")
def f_X3_fitting_b17 (v0 : Option Nat) (k0 : Unit → Hp → Option (Int32 × Hp)) (ag : Int32 → Hp → Option (Int32 × Hp)) (a : Int32) (σ : Hp) : Option (Int32 × Hp) :=
  gI 2 3 σ v0 fun x3 =>
  if x3 ≤ a then
    k0 () σ
  else
    ob 2 σ v0 fun _ => bnd (f_X3_areRight v0 a σ) fun x4 σ =>
    if x4 = 0 then
      some (0, σ)
    else
      ag (a + 1) σ
def f_X3_fitting (v0 : Option Nat) (v1 : Int32) (v2 : Int32) (σ : Hp) : Option (Int32 × Hp) :=
  ob 2 σ v0 fun _ => bnd (f_X3_layFound v0 σ) fun _ σ =>
  jn (fun (a1 : Unit) σ =>
      lp 2000 (f_X3_fitting_b17 v0 (fun (a5 : Unit) σ =>
          ob 2 σ v0 fun _ => bnd (f_X3_countWays v0 σ) fun x6 σ =>
          some (x6, σ))) 0 σ) fun j2 =>
  if v1 = (-1) then
    j2 () σ
  else
    ob 2 σ v0 fun _ => bnd (f_X3_fix v0 v1 v2 σ) fun _ σ =>
    j2 () σ
theorem ok_X3_fitting_b17 (X : Mx) (v0 : Option Nat) {k0 : Unit → Hp → Option (Int32 × Hp)} (hk0 : ∀ (a : Unit) (σ : Hp), GG X mi_X3_fitting (QM X rI) 41 [(0, vA v0)] [] σ (k0 a σ)) : ∀ (m : Nat) (a : Int32) (σ : Hp), GG X mi_X3_fitting (QM X rI) 17 [(0, vA v0), (3, vI a)] [] σ (lp m (f_X3_fitting_b17 v0 k0) a σ) := by
  refine g_lp (fun (a : Int32) => [(0, vA v0), (3, vI a)]) ?_
  intro ag hag a σ
  unfold f_X3_fitting_b17
  refine g_iload_n 3 dX3_fitting_17 rfl rfl ?_
  refine g_aload_n 0 dX3_fitting_18 rfl rfl ?_
  refine g_getI fo_2_3 (by decide) q1059 dX3_fitting_19 fun x3 => ?_
  refine g_icmp_ge 41 dX3_fitting_22 (by decide) ?_ ?_
  · exact g_jmp (hk0 _ _) rfl
  · refine g_aload_n 0 dX3_fitting_25 rfl rfl ?_
    refine g_iload_n 3 dX3_fitting_26 rfl rfl ?_
    refine g_callV_I (mm_X3_areRight _ _ _) rfl zc_2 q1479 q1481 qs91 q109 q1482 dv_X3_areRight rfl (Nat.le_of_ble_eq_true rfl) (Nat.le_of_ble_eq_true rfl) (Nat.le_of_ble_eq_true rfl) dX3_fitting_27 fun x4 σ => ?_
    refine g_if_ne 35 dX3_fitting_30 (by decide) ?_ ?_
    · refine g_iinc 1 dX3_fitting_35 (by decide) rfl (lt_b rfl) ?_
      refine g_goto 17 dX3_fitting_38 (by decide) ?_
      exact g_jmp (hag _ _) rfl
    · refine g_iconst 0 dX3_fitting_33 (by decide) ?_
      exact g_iret rfl dX3_fitting_34
theorem mm_X3_fitting (v0 : Option Nat) (v1 : Int32) (v2 : Int32) (σ : Hp) : MM yX3_fitting mi_X3_fitting rI [vA v0, vI v1, vI v2] σ (f_X3_fitting v0 v1 v2 σ) := by
  refine mm_of (by decide +kernel) rfl rfl (Nat.le_of_ble_eq_true rfl) ?_
  intro X
  unfold f_X3_fitting
  refine g_aload_n 0 dX3_fitting_0 rfl rfl ?_
  refine g_callV_V (mm_X3_layFound _ _) rfl zc_2 q1591 q1593 qs100 q109 q1594 dv_X3_layFound rfl (Nat.le_of_ble_eq_true rfl) (Nat.le_of_ble_eq_true rfl) (Nat.le_of_ble_eq_true rfl) dX3_fitting_1 fun _ σ => ?_
  refine g_iload_n 1 dX3_fitting_4 rfl rfl ?_
  refine g_iconst (-1) dX3_fitting_5 (by decide) ?_
  refine g_jn (fun j2 => ∀ (a1 : Unit) (σ : Hp), GG X mi_X3_fitting (QM X rI) 15 [(0, vA v0)] [] σ (j2 a1 σ)) ?_ ?_
  · intro a1 σ
    refine g_iconst 0 dX3_fitting_15 (by decide) ?_
    refine g_istore_n 3 dX3_fitting_16 rfl (lt_b rfl) ?_
    refine g_jmp (ok_X3_fitting_b17 X v0 ?_ _ _ _) rfl
    · intro a5 σ
      refine g_aload_n 0 dX3_fitting_41 rfl rfl ?_
      refine g_callV_I (mm_X3_countWays _ _) rfl zc_2 q1511 q1513 qs96 q109 q1514 dv_X3_countWays rfl (Nat.le_of_ble_eq_true rfl) (Nat.le_of_ble_eq_true rfl) (Nat.le_of_ble_eq_true rfl) dX3_fitting_42 fun x6 σ => ?_
      exact g_iret rfl dX3_fitting_45
  · intro j2 hj2
    refine g_icmp_eq 15 dX3_fitting_6 (by decide) ?_ ?_
    · exact g_jmp (hj2 _ _) rfl
    · refine g_aload_n 0 dX3_fitting_9 rfl rfl ?_
      refine g_iload_n 1 dX3_fitting_10 rfl rfl ?_
      refine g_iload_n 2 dX3_fitting_11 rfl rfl ?_
      refine g_callV_V (mm_X3_fix _ _ _ _) rfl zc_2 q1475 q1477 qs90 q109 q1478 dv_X3_fix rfl (Nat.le_of_ble_eq_true rfl) (Nat.le_of_ble_eq_true rfl) (Nat.le_of_ble_eq_true rfl) dX3_fitting_12 fun _ σ => ?_
      exact g_jmp (hj2 _ _) rfl
theorem dd_X3_fitting : yX3_fitting.cls ≠ "java/lang/invoke/MethodHandle" ∧ yX3_fitting.cls ≠ "java/lang/invoke/VarHandle" ∧ (parseMethodDescriptor yX3_fitting.desc).map (fun d => d.parameters.length) = some 2 := by decide +kernel
theorem dv_X3_fitting : yX3_fitting.cls = RX3 ∧ yX3_fitting.cls ≠ "java/lang/invoke/MethodHandle" ∧ yX3_fitting.cls ≠ "java/lang/invoke/VarHandle" ∧ (parseMethodDescriptor yX3_fitting.desc).map (fun d => d.parameters.length) = some 2 := ⟨rfl, dd_X3_fitting⟩
/-! RockingHorseModel.sure(II)I -/
abbrev mi_X3_sure : Mi := (cX3_sure, 5, "RockingHorseModel", 208, some .int, "sure")
def f_X3_sure (v0 : Option Nat) (v1 : Int32) (v2 : Int32) (σ : Hp) : Option (Int32 × Hp) :=
  pI 0 2 11 σ v0 0 fun σ =>
  gI 2 1 σ v0 fun x1 =>
  bnd (f_X3_in v1 0 (x1 - 1) σ) fun x2 σ =>
  if x2 = 0 then
    some ((-1), σ)
  else
    ob 2 σ v0 fun _ => bnd (f_X3_isMan v0 v2 σ) fun x3 σ =>
    if x3 = 0 then
      some ((-1), σ)
    else
      ob 2 σ v0 fun _ => bnd (f_X3_fitting v0 (-1) (-1) σ) fun x4 σ =>
      if x4 = 0 then
        some ((-2), σ)
      else
        ob 2 σ v0 fun _ => bnd (f_X3_fitting v0 v1 v2 σ) fun x5 σ =>
        ob 2 σ v0 fun _ => bnd (f_X3_tellPart v0 (Int32.toInt64 x5) (Int32.toInt64 x4) σ) fun _ σ =>
        some (x5, σ)
theorem mm_X3_sure (v0 : Option Nat) (v1 : Int32) (v2 : Int32) (σ : Hp) : MM yX3_sure mi_X3_sure rI [vA v0, vI v1, vI v2] σ (f_X3_sure v0 v1 v2 σ) := by
  refine mm_of (by decide +kernel) rfl rfl (Nat.le_of_ble_eq_true rfl) ?_
  intro X
  unfold f_X3_sure
  refine g_aload_n 0 dX3_sure_0 rfl rfl ?_
  refine g_iconst 0 dX3_sure_1 (by decide) ?_
  refine g_putI fo_2_11 (by decide) rfl q1067 dX3_sure_2 fun σ => ?_
  refine g_iload_n 1 dX3_sure_5 rfl rfl ?_
  refine g_iconst 0 dX3_sure_6 (by decide) ?_
  refine g_aload_n 0 dX3_sure_7 rfl rfl ?_
  refine g_getI fo_2_1 (by decide) q1057 dX3_sure_8 fun x1 => ?_
  refine g_iconst 1 dX3_sure_11 (by decide) ?_
  refine g_isub dX3_sure_12 ?_
  refine g_callS_I (mm_X3_in _ _ _ _) rfl q1223 q1224 q109 q1225 dd_X3_in rfl (Nat.le_of_ble_eq_true rfl) (Nat.le_of_ble_eq_true rfl) (Nat.le_of_ble_eq_true rfl) dX3_sure_13 fun x2 σ => ?_
  refine g_if_eq 27 dX3_sure_16 (by decide) ?_ ?_
  · refine g_iconst (-1) dX3_sure_27 (by decide) ?_
    exact g_iret rfl dX3_sure_28
  · refine g_aload_n 0 dX3_sure_19 rfl rfl ?_
    refine g_iload_n 2 dX3_sure_20 rfl rfl ?_
    refine g_callV_I (mm_X3_isMan _ _ _) rfl zc_2 q1305 q1307 qs66 q109 q1308 dv_X3_isMan rfl (Nat.le_of_ble_eq_true rfl) (Nat.le_of_ble_eq_true rfl) (Nat.le_of_ble_eq_true rfl) dX3_sure_21 fun x3 σ => ?_
    refine g_if_ne 29 dX3_sure_24 (by decide) ?_ ?_
    · refine g_aload_n 0 dX3_sure_29 rfl rfl ?_
      refine g_iconst (-1) dX3_sure_30 (by decide) ?_
      refine g_iconst (-1) dX3_sure_31 (by decide) ?_
      refine g_callV_I (mm_X3_fitting _ _ _ _) rfl zc_2 q1587 q1589 qs99 q109 q1590 dv_X3_fitting rfl (Nat.le_of_ble_eq_true rfl) (Nat.le_of_ble_eq_true rfl) (Nat.le_of_ble_eq_true rfl) dX3_sure_32 fun x4 σ => ?_
      refine g_istore_n 3 dX3_sure_35 rfl (lt_b rfl) ?_
      refine g_iload_n 3 dX3_sure_36 rfl rfl ?_
      refine g_if_ne 43 dX3_sure_37 (by decide) ?_ ?_
      · refine g_aload_n 0 dX3_sure_43 rfl rfl ?_
        refine g_iload_n 1 dX3_sure_44 rfl rfl ?_
        refine g_iload_n 2 dX3_sure_45 rfl rfl ?_
        refine g_callV_I (mm_X3_fitting _ _ _ _) rfl zc_2 q1587 q1589 qs99 q109 q1590 dv_X3_fitting rfl (Nat.le_of_ble_eq_true rfl) (Nat.le_of_ble_eq_true rfl) (Nat.le_of_ble_eq_true rfl) dX3_sure_46 fun x5 σ => ?_
        refine g_istore dX3_sure_49 (lt_b rfl) ?_
        refine g_aload_n 0 dX3_sure_51 rfl rfl ?_
        refine g_iload dX3_sure_52 rfl ?_
        refine g_i2l dX3_sure_54 ?_
        refine g_iload_n 3 dX3_sure_55 rfl rfl ?_
        refine g_i2l dX3_sure_56 ?_
        refine g_callV_V (mm_X3_tellPart _ _ _ _) rfl zc_2 q1599 q1601 qs101 q109 q1602 dv_X3_tellPart rfl (Nat.le_of_ble_eq_true rfl) (Nat.le_of_ble_eq_true rfl) (Nat.le_of_ble_eq_true rfl) dX3_sure_57 fun _ σ => ?_
        refine g_iload dX3_sure_60 rfl ?_
        exact g_iret rfl dX3_sure_62
      · refine g_bipush (-2) dX3_sure_40 (by decide) ?_
        exact g_iret rfl dX3_sure_42
    · refine g_iconst (-1) dX3_sure_27 (by decide) ?_
      exact g_iret rfl dX3_sure_28
theorem dd_X3_sure : yX3_sure.cls ≠ "java/lang/invoke/MethodHandle" ∧ yX3_sure.cls ≠ "java/lang/invoke/VarHandle" ∧ (parseMethodDescriptor yX3_sure.desc).map (fun d => d.parameters.length) = some 2 := by decide +kernel
theorem dv_X3_sure : yX3_sure.cls = RX3 ∧ yX3_sure.cls ≠ "java/lang/invoke/MethodHandle" ∧ yX3_sure.cls ≠ "java/lang/invoke/VarHandle" ∧ (parseMethodDescriptor yX3_sure.desc).map (fun d => d.parameters.length) = some 2 := ⟨rfl, dd_X3_sure⟩
/-! RockingHorseModel.ask()I -/
abbrev mi_X3_ask : Mi := (cX3_ask, 6, "RockingHorseModel", 208, some .int, "ask")
def f_X3_ask_b38 (v0 : Option Nat) (v3 : Int32) (k0 : Int32 → Hp → Option (Int32 × Hp)) (ag : (Int32 × Int32) → Hp → Option (Int32 × Hp)) (a : Int32 × Int32) (σ : Hp) : Option (Int32 × Hp) :=
  gI 2 3 σ v0 fun x3 =>
  if x3 ≤ a.2 then
    k0 a.1 σ
  else
    ob 2 σ v0 fun _ => bnd (f_X3_fitting v0 v3 a.2 σ) fun x4 σ =>
    ag ((imax a.1 x4), (a.2 + 1)) σ
def f_X3_ask_b24 (v0 : Option Nat) (k0 : (Int32 × Int32) → Hp → Option (Int32 × Hp)) (ag : (Int32 × Int32 × Int32) → Hp → Option (Int32 × Hp)) (a : Int32 × Int32 × Int32) (σ : Hp) : Option (Int32 × Hp) :=
  gI 2 1 σ v0 fun x2 =>
  if x2 ≤ a.2.2 then
    k0 (a.1, a.2.1) σ
  else
    lp 2000 (f_X3_ask_b38 v0 a.2.2 (fun (a5 : Int32) σ =>
        jn (fun (a6 : Int32 × Int32) σ =>
            ag (a6.1, a6.2, (a.2.2 + 1)) σ) fun j7 =>
        if a5 < a.2.1 then
          j7 (a.2.2, a5) σ
        else
          j7 (a.1, a.2.1) σ)) (0, 0) σ
def f_X3_ask (v0 : Option Nat) (σ : Hp) : Option (Int32 × Hp) :=
  pI 0 2 11 σ v0 0 fun σ =>
  ob 2 σ v0 fun _ => bnd (f_X3_fitting v0 (-1) (-1) σ) fun x1 σ =>
  if x1 = 0 then
    some ((-2), σ)
  else
    lp 2000 (f_X3_ask_b24 v0 (fun (a8 : Int32 × Int32) σ =>
        pI 0 2 10 σ v0 0 fun σ =>
        ob 2 σ v0 fun _ => bnd (f_X3_tell v0 (Int32.toInt64 a8.2) σ) fun _ σ =>
        some (a8.1, σ))) ((-1), 1000000000, 0) σ
theorem ok_X3_ask_b38 (X : Mx) (v0 : Option Nat) (v3 : Int32) (v1 : Int32) (v2 : Int32) {k0 : Int32 → Hp → Option (Int32 × Hp)} (hk0 : ∀ (a : Int32) (σ : Hp), GG X mi_X3_ask (QM X rI) 67 [(0, vA v0), (1, vI v1), (2, vI v2), (3, vI v3), (4, vI a)] [] σ (k0 a σ)) : ∀ (m : Nat) (a : Int32 × Int32) (σ : Hp), GG X mi_X3_ask (QM X rI) 38 [(0, vA v0), (1, vI v1), (2, vI v2), (3, vI v3), (4, vI a.1), (5, vI a.2)] [] σ (lp m (f_X3_ask_b38 v0 v3 k0) a σ) := by
  refine g_lp (fun (a : Int32 × Int32) => [(0, vA v0), (1, vI v1), (2, vI v2), (3, vI v3), (4, vI a.1), (5, vI a.2)]) ?_
  intro ag hag a σ
  unfold f_X3_ask_b38
  refine g_iload dX3_ask_38 rfl ?_
  refine g_aload_n 0 dX3_ask_40 rfl rfl ?_
  refine g_getI fo_2_3 (by decide) q1059 dX3_ask_41 fun x3 => ?_
  refine g_icmp_ge 67 dX3_ask_44 (by decide) ?_ ?_
  · exact g_jmp (hk0 _ _) rfl
  · refine g_iload dX3_ask_47 rfl ?_
    refine g_aload_n 0 dX3_ask_49 rfl rfl ?_
    refine g_iload_n 3 dX3_ask_50 rfl rfl ?_
    refine g_iload dX3_ask_51 rfl ?_
    refine g_callV_I (mm_X3_fitting _ _ _ _) rfl zc_2 q1587 q1589 qs99 q109 q1590 dv_X3_fitting rfl (Nat.le_of_ble_eq_true rfl) (Nat.le_of_ble_eq_true rfl) (Nat.le_of_ble_eq_true rfl) dX3_ask_53 fun x4 σ => ?_
    refine g_mmax q1330 (by decide) (Nat.le_of_ble_eq_true rfl) dX3_ask_56 ?_
    refine g_istore dX3_ask_59 (lt_b rfl) ?_
    refine g_iinc 1 dX3_ask_61 (by decide) rfl (lt_b rfl) ?_
    refine g_goto 38 dX3_ask_64 (by decide) ?_
    exact g_jmp (hag _ _) rfl
theorem ok_X3_ask_b24 (X : Mx) (v0 : Option Nat) {k0 : (Int32 × Int32) → Hp → Option (Int32 × Hp)} (hk0 : ∀ (a : Int32 × Int32) (σ : Hp), GG X mi_X3_ask (QM X rI) 87 [(0, vA v0), (1, vI a.1), (2, vI a.2)] [] σ (k0 a σ)) : ∀ (m : Nat) (a : Int32 × Int32 × Int32) (σ : Hp), GG X mi_X3_ask (QM X rI) 24 [(0, vA v0), (1, vI a.1), (2, vI a.2.1), (3, vI a.2.2)] [] σ (lp m (f_X3_ask_b24 v0 k0) a σ) := by
  refine g_lp (fun (a : Int32 × Int32 × Int32) => [(0, vA v0), (1, vI a.1), (2, vI a.2.1), (3, vI a.2.2)]) ?_
  intro ag hag a σ
  unfold f_X3_ask_b24
  refine g_iload_n 3 dX3_ask_24 rfl rfl ?_
  refine g_aload_n 0 dX3_ask_25 rfl rfl ?_
  refine g_getI fo_2_1 (by decide) q1057 dX3_ask_26 fun x2 => ?_
  refine g_icmp_ge 87 dX3_ask_29 (by decide) ?_ ?_
  · exact g_jmp (hk0 _ _) rfl
  · refine g_iconst 0 dX3_ask_32 (by decide) ?_
    refine g_istore dX3_ask_33 (lt_b rfl) ?_
    refine g_iconst 0 dX3_ask_35 (by decide) ?_
    refine g_istore dX3_ask_36 (lt_b rfl) ?_
    refine g_jmp (ok_X3_ask_b38 X v0 a.2.2 a.1 a.2.1 ?_ _ _ _) rfl
    · intro a5 σ
      refine g_iload dX3_ask_67 rfl ?_
      refine g_iload_n 2 dX3_ask_69 rfl rfl ?_
      refine g_jn (fun j7 => ∀ (a6 : Int32 × Int32) (σ : Hp), GG X mi_X3_ask (QM X rI) 81 [(0, vA v0), (1, vI a6.1), (2, vI a6.2), (3, vI a.2.2)] [] σ (j7 a6 σ)) ?_ ?_
      · intro a6 σ
        refine g_iinc 1 dX3_ask_81 (by decide) rfl (lt_b rfl) ?_
        refine g_goto 24 dX3_ask_84 (by decide) ?_
        exact g_jmp (hag _ _) rfl
      · intro j7 hj7
        refine g_icmp_lt 76 dX3_ask_70 (by decide) ?_ ?_
        · refine g_iload_n 3 dX3_ask_76 rfl rfl ?_
          refine g_istore_n 1 dX3_ask_77 rfl (lt_b rfl) ?_
          refine g_iload dX3_ask_78 rfl ?_
          refine g_istore_n 2 dX3_ask_80 rfl (lt_b rfl) ?_
          exact g_jmp (hj7 _ _) rfl
        · refine g_goto 81 dX3_ask_73 (by decide) ?_
          exact g_jmp (hj7 _ _) rfl
theorem mm_X3_ask (v0 : Option Nat) (σ : Hp) : MM yX3_ask mi_X3_ask rI [vA v0] σ (f_X3_ask v0 σ) := by
  refine mm_of (by decide +kernel) rfl rfl (Nat.le_of_ble_eq_true rfl) ?_
  intro X
  unfold f_X3_ask
  refine g_aload_n 0 dX3_ask_0 rfl rfl ?_
  refine g_iconst 0 dX3_ask_1 (by decide) ?_
  refine g_putI fo_2_11 (by decide) rfl q1067 dX3_ask_2 fun σ => ?_
  refine g_aload_n 0 dX3_ask_5 rfl rfl ?_
  refine g_iconst (-1) dX3_ask_6 (by decide) ?_
  refine g_iconst (-1) dX3_ask_7 (by decide) ?_
  refine g_callV_I (mm_X3_fitting _ _ _ _) rfl zc_2 q1587 q1589 qs99 q109 q1590 dv_X3_fitting rfl (Nat.le_of_ble_eq_true rfl) (Nat.le_of_ble_eq_true rfl) (Nat.le_of_ble_eq_true rfl) dX3_ask_8 fun x1 σ => ?_
  refine g_if_ne 17 dX3_ask_11 (by decide) ?_ ?_
  · refine g_iconst (-1) dX3_ask_17 (by decide) ?_
    refine g_istore_n 1 dX3_ask_18 rfl (lt_b rfl) ?_
    refine g_ldc dX3_ask_19 q1055 ?_
    refine g_istore_n 2 dX3_ask_21 rfl (lt_b rfl) ?_
    refine g_iconst 0 dX3_ask_22 (by decide) ?_
    refine g_istore_n 3 dX3_ask_23 rfl (lt_b rfl) ?_
    refine g_jmp (ok_X3_ask_b24 X v0 ?_ _ _ _) rfl
    · intro a8 σ
      refine g_aload_n 0 dX3_ask_87 rfl rfl ?_
      refine g_iconst 0 dX3_ask_88 (by decide) ?_
      refine g_putI fo_2_10 (by decide) rfl q1066 dX3_ask_89 fun σ => ?_
      refine g_aload_n 0 dX3_ask_92 rfl rfl ?_
      refine g_iload_n 2 dX3_ask_93 rfl rfl ?_
      refine g_i2l dX3_ask_94 ?_
      refine g_callV_V (mm_X3_tell _ _ _) rfl zc_2 q1382 q1384 qs75 q109 q1385 dv_X3_tell rfl (Nat.le_of_ble_eq_true rfl) (Nat.le_of_ble_eq_true rfl) (Nat.le_of_ble_eq_true rfl) dX3_ask_95 fun _ σ => ?_
      refine g_iload_n 1 dX3_ask_98 rfl rfl ?_
      exact g_iret rfl dX3_ask_99
  · refine g_bipush (-2) dX3_ask_14 (by decide) ?_
    exact g_iret rfl dX3_ask_16
theorem dd_X3_ask : yX3_ask.cls ≠ "java/lang/invoke/MethodHandle" ∧ yX3_ask.cls ≠ "java/lang/invoke/VarHandle" ∧ (parseMethodDescriptor yX3_ask.desc).map (fun d => d.parameters.length) = some 0 := by decide +kernel
theorem dv_X3_ask : yX3_ask.cls = RX3 ∧ yX3_ask.cls ≠ "java/lang/invoke/MethodHandle" ∧ yX3_ask.cls ≠ "java/lang/invoke/VarHandle" ∧ (parseMethodDescriptor yX3_ask.desc).map (fun d => d.parameters.length) = some 0 := ⟨rfl, dd_X3_ask⟩
/-! RockingHorseModel.law()I -/
abbrev mi_X3_law : Mi := (cX3_law, 6, "RockingHorseModel", 206, some .int, "law")
def f_X3_law_b58 (v0 : Option Nat) (v1 : Int32) (k0 : Unit → Hp → Option (Int32 × Hp)) (ag : Int32 → Hp → Option (Int32 × Hp)) (a : Int32) (σ : Hp) : Option (Int32 × Hp) :=
  if v1 ≤ a then
    k0 () σ
  else
    gR 2 18 σ v0 fun y7 =>
    gR 2 7 σ v0 fun y8 =>
    lI 101 σ y8 a fun x9 =>
    sB σ y7 a x9 fun σ =>
    ag (a + 1) σ
def f_X3_law (v0 : Option Nat) (σ : Hp) : Option (Int32 × Hp) :=
  pI 0 2 11 σ v0 0 fun σ =>
  gI 2 8 σ v0 fun x1 =>
  ob 2 σ v0 fun _ => bnd (f_X3_readRule v0 σ) fun x2 σ =>
  if x2 = 0 then
    gI 2 16 σ v0 fun x12 =>
    some (((-10000) - x12), σ)
  else
    ob 2 σ v0 fun _ => bnd (f_X3_hardOfRota v0 σ) fun x3 σ =>
    gR 2 18 σ v0 fun y4 =>
    gI 2 20 σ v0 fun x5 =>
    gR 2 19 σ v0 fun y6 =>
    pR 2 18 σ v0 y6 fun σ =>
    pI 0 2 20 σ v0 x1 fun σ =>
    lp 2000 (f_X3_law_b58 v0 x1 (fun (a10 : Unit) σ =>
        ob 2 σ v0 fun _ => bnd (f_X3_hardOfRota v0 σ) fun x11 σ =>
        pR 2 18 σ v0 y4 fun σ =>
        pI 0 2 20 σ v0 x5 fun σ =>
        pI 0 2 10 σ v0 0 fun σ =>
        ob 2 σ v0 fun _ => bnd (f_X3_tell v0 (Int32.toInt64 x11) σ) fun _ σ =>
        ob 2 σ v0 fun _ => bnd (f_X3_tell v0 (Int32.toInt64 x3) σ) fun _ σ =>
        some ((x11 - x3), σ))) 0 σ
theorem ok_X3_law_b58 (X : Mx) (v0 : Option Nat) (v1 : Int32) (v2 : Int32) (v3 : Option Nat) (v4 : Int32) {k0 : Unit → Hp → Option (Int32 × Hp)} (hk0 : ∀ (a : Unit) (σ : Hp), GG X mi_X3_law (QM X rI) 84 [(0, vA v0), (2, vI v2), (3, vA v3), (4, vI v4)] [] σ (k0 a σ)) : ∀ (m : Nat) (a : Int32) (σ : Hp), GG X mi_X3_law (QM X rI) 58 [(0, vA v0), (1, vI v1), (2, vI v2), (3, vA v3), (4, vI v4), (5, vI a)] [] σ (lp m (f_X3_law_b58 v0 v1 k0) a σ) := by
  refine g_lp (fun (a : Int32) => [(0, vA v0), (1, vI v1), (2, vI v2), (3, vA v3), (4, vI v4), (5, vI a)]) ?_
  intro ag hag a σ
  unfold f_X3_law_b58
  refine g_iload dX3_law_58 rfl ?_
  refine g_iload_n 1 dX3_law_60 rfl rfl ?_
  refine g_icmp_ge 84 dX3_law_61 (by decide) ?_ ?_
  · exact g_jmp (hk0 _ _) rfl
  · refine g_aload_n 0 dX3_law_64 rfl rfl ?_
    refine g_getR fo_2_18 q1074 dX3_law_65 fun y7 => ?_
    refine g_iload dX3_law_68 rfl ?_
    refine g_aload_n 0 dX3_law_70 rfl rfl ?_
    refine g_getR fo_2_7 q1063 dX3_law_71 fun y8 => ?_
    refine g_iload dX3_law_74 rfl ?_
    refine g_baload dX3_law_76 fun x9 => ?_
    refine g_bastore dX3_law_77 fun σ => ?_
    refine g_iinc 1 dX3_law_78 (by decide) rfl (lt_b rfl) ?_
    refine g_goto 58 dX3_law_81 (by decide) ?_
    exact g_jmp (hag _ _) rfl
theorem mm_X3_law (v0 : Option Nat) (σ : Hp) : MM yX3_law mi_X3_law rI [vA v0] σ (f_X3_law v0 σ) := by
  refine mm_of (by decide +kernel) rfl rfl (Nat.le_of_ble_eq_true rfl) ?_
  intro X
  unfold f_X3_law
  refine g_aload_n 0 dX3_law_0 rfl rfl ?_
  refine g_iconst 0 dX3_law_1 (by decide) ?_
  refine g_putI fo_2_11 (by decide) rfl q1067 dX3_law_2 fun σ => ?_
  refine g_aload_n 0 dX3_law_5 rfl rfl ?_
  refine g_getI fo_2_8 (by decide) q1064 dX3_law_6 fun x1 => ?_
  refine g_istore_n 1 dX3_law_9 rfl (lt_b rfl) ?_
  refine g_aload_n 0 dX3_law_10 rfl rfl ?_
  refine g_callV_I (mm_X3_readRule _ _) rfl zc_2 q1270 q1272 qs59 q109 q1273 dv_X3_readRule rfl (Nat.le_of_ble_eq_true rfl) (Nat.le_of_ble_eq_true rfl) (Nat.le_of_ble_eq_true rfl) dX3_law_11 fun x2 σ => ?_
  refine g_if_ne 26 dX3_law_14 (by decide) ?_ ?_
  · refine g_aload_n 0 dX3_law_26 rfl rfl ?_
    refine g_callV_I (mm_X3_hardOfRota _ _) rfl zc_2 q1647 q1649 qs104 q109 q1650 dv_X3_hardOfRota rfl (Nat.le_of_ble_eq_true rfl) (Nat.le_of_ble_eq_true rfl) (Nat.le_of_ble_eq_true rfl) dX3_law_27 fun x3 σ => ?_
    refine g_istore_n 2 dX3_law_30 rfl (lt_b rfl) ?_
    refine g_aload_n 0 dX3_law_31 rfl rfl ?_
    refine g_getR fo_2_18 q1074 dX3_law_32 fun y4 => ?_
    refine g_astore_n 3 dX3_law_35 rfl (lt_b rfl) ?_
    refine g_aload_n 0 dX3_law_36 rfl rfl ?_
    refine g_getI fo_2_20 (by decide) q1076 dX3_law_37 fun x5 => ?_
    refine g_istore dX3_law_40 (lt_b rfl) ?_
    refine g_aload_n 0 dX3_law_42 rfl rfl ?_
    refine g_aload_n 0 dX3_law_43 rfl rfl ?_
    refine g_getR fo_2_19 q1075 dX3_law_44 fun y6 => ?_
    refine g_putR fo_2_18 rfl q1074 dX3_law_47 fun σ => ?_
    refine g_aload_n 0 dX3_law_50 rfl rfl ?_
    refine g_iload_n 1 dX3_law_51 rfl rfl ?_
    refine g_putI fo_2_20 (by decide) rfl q1076 dX3_law_52 fun σ => ?_
    refine g_iconst 0 dX3_law_55 (by decide) ?_
    refine g_istore dX3_law_56 (lt_b rfl) ?_
    refine g_jmp (ok_X3_law_b58 X v0 x1 x3 y4 x5 ?_ _ _ _) rfl
    · intro a10 σ
      refine g_aload_n 0 dX3_law_84 rfl rfl ?_
      refine g_callV_I (mm_X3_hardOfRota _ _) rfl zc_2 q1647 q1649 qs104 q109 q1650 dv_X3_hardOfRota rfl (Nat.le_of_ble_eq_true rfl) (Nat.le_of_ble_eq_true rfl) (Nat.le_of_ble_eq_true rfl) dX3_law_85 fun x11 σ => ?_
      refine g_istore dX3_law_88 (lt_b rfl) ?_
      refine g_aload_n 0 dX3_law_90 rfl rfl ?_
      refine g_aload_n 3 dX3_law_91 rfl rfl ?_
      refine g_putR fo_2_18 rfl q1074 dX3_law_92 fun σ => ?_
      refine g_aload_n 0 dX3_law_95 rfl rfl ?_
      refine g_iload dX3_law_96 rfl ?_
      refine g_putI fo_2_20 (by decide) rfl q1076 dX3_law_98 fun σ => ?_
      refine g_aload_n 0 dX3_law_101 rfl rfl ?_
      refine g_iconst 0 dX3_law_102 (by decide) ?_
      refine g_putI fo_2_10 (by decide) rfl q1066 dX3_law_103 fun σ => ?_
      refine g_aload_n 0 dX3_law_106 rfl rfl ?_
      refine g_iload dX3_law_107 rfl ?_
      refine g_i2l dX3_law_109 ?_
      refine g_callV_V (mm_X3_tell _ _ _) rfl zc_2 q1382 q1384 qs75 q109 q1385 dv_X3_tell rfl (Nat.le_of_ble_eq_true rfl) (Nat.le_of_ble_eq_true rfl) (Nat.le_of_ble_eq_true rfl) dX3_law_110 fun _ σ => ?_
      refine g_aload_n 0 dX3_law_113 rfl rfl ?_
      refine g_iload_n 2 dX3_law_114 rfl rfl ?_
      refine g_i2l dX3_law_115 ?_
      refine g_callV_V (mm_X3_tell _ _ _) rfl zc_2 q1382 q1384 qs75 q109 q1385 dv_X3_tell rfl (Nat.le_of_ble_eq_true rfl) (Nat.le_of_ble_eq_true rfl) (Nat.le_of_ble_eq_true rfl) dX3_law_116 fun _ σ => ?_
      refine g_iload dX3_law_119 rfl ?_
      refine g_iload_n 2 dX3_law_121 rfl rfl ?_
      refine g_isub dX3_law_122 ?_
      exact g_iret rfl dX3_law_123
  · refine g_sipush (-10000) dX3_law_17 (by decide) ?_
    refine g_aload_n 0 dX3_law_20 rfl rfl ?_
    refine g_getI fo_2_16 (by decide) q1072 dX3_law_21 fun x12 => ?_
    refine g_isub dX3_law_24 ?_
    exact g_iret rfl dX3_law_25
theorem dd_X3_law : yX3_law.cls ≠ "java/lang/invoke/MethodHandle" ∧ yX3_law.cls ≠ "java/lang/invoke/VarHandle" ∧ (parseMethodDescriptor yX3_law.desc).map (fun d => d.parameters.length) = some 0 := by decide +kernel
theorem dv_X3_law : yX3_law.cls = RX3 ∧ yX3_law.cls ≠ "java/lang/invoke/MethodHandle" ∧ yX3_law.cls ≠ "java/lang/invoke/VarHandle" ∧ (parseMethodDescriptor yX3_law.desc).map (fun d => d.parameters.length) = some 0 := ⟨rfl, dd_X3_law⟩
/-! java/lang/String.indexOf(I)I -/
abbrev mi_J1_indexOf : Mi := (cJ1_indexOf, 2, "java/lang/String", 3, some .int, "indexOf")
def f_J1_indexOf (v0 : Nat) (v1 : Int32) (σ : Hp) : Option (Int32 × Hp) :=
  sV v0 <| bnd (f_J1_indexOf_2 v0 v1 0 σ) fun x1 σ =>
  some (x1, σ)
theorem mm_J1_indexOf (v0 : Nat) (v1 : Int32) (σ : Hp) : MM yJ1_indexOf mi_J1_indexOf rI [vS v0, vI v1] σ (f_J1_indexOf v0 v1 σ) := by
  refine mm_of (by decide +kernel) rfl rfl (Nat.le_of_ble_eq_true rfl) ?_
  intro X
  unfold f_J1_indexOf
  refine g_aload_nS 0 dJ1_indexOf_0 rfl rfl ?_
  refine g_iload_n 1 dJ1_indexOf_1 rfl rfl ?_
  refine g_iconst 0 dJ1_indexOf_2 (by decide) ?_
  refine g_callStr_I (mm_J1_indexOf_2 _ _ _ _) rfl q377 q378 q379 q111 q380 dv_J1_indexOf_2 rfl (Nat.le_of_ble_eq_true rfl) (Nat.le_of_ble_eq_true rfl) (Nat.le_of_ble_eq_true rfl) dJ1_indexOf_3 fun x1 σ => ?_
  exact g_iret rfl dJ1_indexOf_6
theorem dd_J1_indexOf : yJ1_indexOf.cls ≠ "java/lang/invoke/MethodHandle" ∧ yJ1_indexOf.cls ≠ "java/lang/invoke/VarHandle" ∧ (parseMethodDescriptor yJ1_indexOf.desc).map (fun d => d.parameters.length) = some 1 := by decide +kernel
theorem dv_J1_indexOf : yJ1_indexOf.cls = RJ1 ∧ yJ1_indexOf.cls ≠ "java/lang/invoke/MethodHandle" ∧ yJ1_indexOf.cls ≠ "java/lang/invoke/VarHandle" ∧ (parseMethodDescriptor yJ1_indexOf.desc).map (fun d => d.parameters.length) = some 1 := ⟨rfl, dd_J1_indexOf⟩
/-! RockingHorse.among(Ljava/lang/String;)I -/
abbrev mi_X1_among : Mi := (cX1_among, 2, "RockingHorse", 4, some .int, "among")
def f_X1_among (v0 : Option Nat) (v1 : Nat) (σ : Hp) : Option (Int32 × Hp) :=
  gI 0 11 σ v0 fun x1 =>
  gI 0 12 σ v0 fun x2 =>
  if x2 ≤ x1 then
    some ((-1), σ)
  else
    gR 0 9 σ v0 fun y3 =>
    gI 0 11 σ v0 fun x4 =>
    lI 100 σ y3 x4 fun x5 =>
    if x5 ≤ 0 then
      some ((-1), σ)
    else
      gR 0 9 σ v0 fun y6 =>
      gI 0 11 σ v0 fun x7 =>
      lI 100 σ y6 x7 fun x8 =>
      sV v1 <| bnd (f_J1_indexOf v1 x8 σ) fun x9 σ =>
      some (x9, σ)
theorem mm_X1_among (v0 : Option Nat) (v1 : Nat) (σ : Hp) : MM yX1_among mi_X1_among rI [vA v0, vS v1] σ (f_X1_among v0 v1 σ) := by
  refine mm_of (by decide +kernel) rfl rfl (Nat.le_of_ble_eq_true rfl) ?_
  intro X
  unfold f_X1_among
  refine g_aload_n 0 dX1_among_0 rfl rfl ?_
  refine g_getI fo_0_11 (by decide) q185 dX1_among_1 fun x1 => ?_
  refine g_aload_n 0 dX1_among_4 rfl rfl ?_
  refine g_getI fo_0_12 (by decide) q186 dX1_among_5 fun x2 => ?_
  refine g_icmp_ge 39 dX1_among_8 (by decide) ?_ ?_
  · refine g_iconst (-1) dX1_among_39 (by decide) ?_
    exact g_iret rfl dX1_among_40
  · refine g_aload_n 0 dX1_among_11 rfl rfl ?_
    refine g_getR fo_0_9 q183 dX1_among_12 fun y3 => ?_
    refine g_aload_n 0 dX1_among_15 rfl rfl ?_
    refine g_getI fo_0_11 (by decide) q185 dX1_among_16 fun x4 => ?_
    refine g_iaload dX1_among_19 fun x5 => ?_
    refine g_if_le 39 dX1_among_20 (by decide) ?_ ?_
    · refine g_iconst (-1) dX1_among_39 (by decide) ?_
      exact g_iret rfl dX1_among_40
    · refine g_aload_nS 1 dX1_among_23 rfl rfl ?_
      refine g_aload_n 0 dX1_among_24 rfl rfl ?_
      refine g_getR fo_0_9 q183 dX1_among_25 fun y6 => ?_
      refine g_aload_n 0 dX1_among_28 rfl rfl ?_
      refine g_getI fo_0_11 (by decide) q185 dX1_among_29 fun x7 => ?_
      refine g_iaload dX1_among_32 fun x8 => ?_
      refine g_callStr_I (mm_J1_indexOf _ _ _) rfl q373 q374 q375 q111 q376 dv_J1_indexOf rfl (Nat.le_of_ble_eq_true rfl) (Nat.le_of_ble_eq_true rfl) (Nat.le_of_ble_eq_true rfl) dX1_among_33 fun x9 σ => ?_
      refine g_goto 40 dX1_among_36 (by decide) ?_
      exact g_iret rfl dX1_among_40
theorem dd_X1_among : yX1_among.cls ≠ "java/lang/invoke/MethodHandle" ∧ yX1_among.cls ≠ "java/lang/invoke/VarHandle" ∧ (parseMethodDescriptor yX1_among.desc).map (fun d => d.parameters.length) = some 1 := by decide +kernel
theorem dv_X1_among : yX1_among.cls = RX1 ∧ yX1_among.cls ≠ "java/lang/invoke/MethodHandle" ∧ yX1_among.cls ≠ "java/lang/invoke/VarHandle" ∧ (parseMethodDescriptor yX1_among.desc).map (fun d => d.parameters.length) = some 1 := ⟨rfl, dd_X1_among⟩
/-! RockingHorse.nights(I)I -/
abbrev mi_X1_nights : Mi := (cX1_nights, 4, "RockingHorse", 105, some .int, "nights")
def f_X1_nights (v0 : Option Nat) (v1 : Int32) (σ : Hp) : Option (Int32 × Hp) :=
  bnd (f_X1_in (Int32.toInt64 v1) 0 30 σ) fun x1 σ =>
  if x1 = 0 then
    some ((-1), σ)
  else
    jn (fun (a2 : Unit) σ =>
        gR 0 0 σ v0 fun y4 =>
        gI 1 4 σ y4 fun x5 =>
        gR 0 0 σ v0 fun y6 =>
        gI 1 5 σ y6 fun x7 =>
        gR 0 0 σ v0 fun y8 =>
        ob 0 σ v0 fun _ => bnd (f_X1_nightsGo v0 y8 v1 σ) fun _ σ =>
        pI 0 0 52 σ v0 0 fun σ =>
        gR 0 0 σ v0 fun y9 =>
        gI 1 5 σ y9 fun x10 =>
        ob 0 σ v0 fun _ => bnd (f_X1_tells v0 (Int32.toInt64 (x10 - x7)) σ) fun _ σ =>
        gR 0 0 σ v0 fun y11 =>
        gR 1 1 σ y11 fun y12 =>
        ob 0 σ v0 fun _ => bnd (f_X1_sumOf v0 y12 σ) fun x13 σ =>
        ob 0 σ v0 fun _ => bnd (f_X1_tells v0 (Int32.toInt64 x13) σ) fun _ σ =>
        gR 0 0 σ v0 fun y14 =>
        gI 1 4 σ y14 fun x15 =>
        some ((x15 - x5), σ)) fun j3 =>
    if v1 ≤ 0 then
      j3 () σ
    else
      gR 0 0 σ v0 fun y16 =>
      ob 0 σ v0 fun _ => bnd (f_X1_putsBy v0 y16 σ) fun _ σ =>
      j3 () σ
theorem mm_X1_nights (v0 : Option Nat) (v1 : Int32) (σ : Hp) : MM yX1_nights mi_X1_nights rI [vA v0, vI v1] σ (f_X1_nights v0 v1 σ) := by
  refine mm_of (by decide +kernel) rfl rfl (Nat.le_of_ble_eq_true rfl) ?_
  intro X
  unfold f_X1_nights
  refine g_iload_n 1 dX1_nights_0 rfl rfl ?_
  refine g_i2l dX1_nights_1 ?_
  refine g_lconst 0 dX1_nights_2 (by decide) ?_
  refine g_ldc2_w dX1_nights_3 q664 ?_
  refine g_callS_I (mm_X1_in _ _ _ _) rfl q346 q347 q107 q348 dd_X1_in rfl (Nat.le_of_ble_eq_true rfl) (Nat.le_of_ble_eq_true rfl) (Nat.le_of_ble_eq_true rfl) dX1_nights_6 fun x1 σ => ?_
  refine g_if_ne 14 dX1_nights_9 (by decide) ?_ ?_
  · refine g_iload_n 1 dX1_nights_14 rfl rfl ?_
    refine g_jn (fun j3 => ∀ (a2 : Unit) (σ : Hp), GG X mi_X1_nights (QM X rI) 26 [(0, vA v0), (1, vI v1)] [] σ (j3 a2 σ)) ?_ ?_
    · intro a2 σ
      refine g_aload_n 0 dX1_nights_26 rfl rfl ?_
      refine g_getR fo_0_0 q171 dX1_nights_27 fun y4 => ?_
      refine g_getIN fo_1_4 (by decide) nf_152 dX1_nights_30 fun x5 => ?_
      refine g_istore_n 2 dX1_nights_33 rfl (lt_b rfl) ?_
      refine g_aload_n 0 dX1_nights_34 rfl rfl ?_
      refine g_getR fo_0_0 q171 dX1_nights_35 fun y6 => ?_
      refine g_getIN fo_1_5 (by decide) nf_154 dX1_nights_38 fun x7 => ?_
      refine g_istore_n 3 dX1_nights_41 rfl (lt_b rfl) ?_
      refine g_aload_n 0 dX1_nights_42 rfl rfl ?_
      refine g_aload_n 0 dX1_nights_43 rfl rfl ?_
      refine g_getR fo_0_0 q171 dX1_nights_44 fun y8 => ?_
      refine g_iload_n 1 dX1_nights_47 rfl rfl ?_
      refine g_callV_V (mm_X1_nightsGo _ _ _ _) rfl zc_0 q665 q667 qs18 q107 q668 dv_X1_nightsGo rfl (Nat.le_of_ble_eq_true rfl) (Nat.le_of_ble_eq_true rfl) (Nat.le_of_ble_eq_true rfl) dX1_nights_48 fun _ σ => ?_
      refine g_aload_n 0 dX1_nights_51 rfl rfl ?_
      refine g_iconst 0 dX1_nights_52 (by decide) ?_
      refine g_putI fo_0_52 (by decide) rfl q229 dX1_nights_53 fun σ => ?_
      refine g_aload_n 0 dX1_nights_56 rfl rfl ?_
      refine g_aload_n 0 dX1_nights_57 rfl rfl ?_
      refine g_getR fo_0_0 q171 dX1_nights_58 fun y9 => ?_
      refine g_getIN fo_1_5 (by decide) nf_154 dX1_nights_61 fun x10 => ?_
      refine g_iload_n 3 dX1_nights_64 rfl rfl ?_
      refine g_isub dX1_nights_65 ?_
      refine g_i2l dX1_nights_66 ?_
      refine g_callV_V (mm_X1_tells _ _ _) rfl zc_0 q683 q685 qs21 q107 q686 dv_X1_tells rfl (Nat.le_of_ble_eq_true rfl) (Nat.le_of_ble_eq_true rfl) (Nat.le_of_ble_eq_true rfl) dX1_nights_67 fun _ σ => ?_
      refine g_aload_n 0 dX1_nights_70 rfl rfl ?_
      refine g_aload_n 0 dX1_nights_71 rfl rfl ?_
      refine g_aload_n 0 dX1_nights_72 rfl rfl ?_
      refine g_getR fo_0_0 q171 dX1_nights_73 fun y11 => ?_
      refine g_getRN fo_1_1 nf_145 dX1_nights_76 fun y12 => ?_
      refine g_callV_I (mm_X1_sumOf _ _ _) rfl zc_0 q620 q622 qs14 q107 q623 dv_X1_sumOf rfl (Nat.le_of_ble_eq_true rfl) (Nat.le_of_ble_eq_true rfl) (Nat.le_of_ble_eq_true rfl) dX1_nights_79 fun x13 σ => ?_
      refine g_i2l dX1_nights_82 ?_
      refine g_callV_V (mm_X1_tells _ _ _) rfl zc_0 q683 q685 qs21 q107 q686 dv_X1_tells rfl (Nat.le_of_ble_eq_true rfl) (Nat.le_of_ble_eq_true rfl) (Nat.le_of_ble_eq_true rfl) dX1_nights_83 fun _ σ => ?_
      refine g_aload_n 0 dX1_nights_86 rfl rfl ?_
      refine g_getR fo_0_0 q171 dX1_nights_87 fun y14 => ?_
      refine g_getIN fo_1_4 (by decide) nf_152 dX1_nights_90 fun x15 => ?_
      refine g_iload_n 2 dX1_nights_93 rfl rfl ?_
      refine g_isub dX1_nights_94 ?_
      exact g_iret rfl dX1_nights_95
    · intro j3 hj3
      refine g_if_le 26 dX1_nights_15 (by decide) ?_ ?_
      · exact g_jmp (hj3 _ _) rfl
      · refine g_aload_n 0 dX1_nights_18 rfl rfl ?_
        refine g_aload_n 0 dX1_nights_19 rfl rfl ?_
        refine g_getR fo_0_0 q171 dX1_nights_20 fun y16 => ?_
        refine g_callV_V (mm_X1_putsBy _ _ _) rfl zc_0 q639 q641 qs15 q107 q642 dv_X1_putsBy rfl (Nat.le_of_ble_eq_true rfl) (Nat.le_of_ble_eq_true rfl) (Nat.le_of_ble_eq_true rfl) dX1_nights_23 fun _ σ => ?_
        exact g_jmp (hj3 _ _) rfl
  · refine g_iconst (-1) dX1_nights_12 (by decide) ?_
    exact g_iret rfl dX1_nights_13
theorem dd_X1_nights : yX1_nights.cls ≠ "java/lang/invoke/MethodHandle" ∧ yX1_nights.cls ≠ "java/lang/invoke/VarHandle" ∧ (parseMethodDescriptor yX1_nights.desc).map (fun d => d.parameters.length) = some 1 := by decide +kernel
theorem dv_X1_nights : yX1_nights.cls = RX1 ∧ yX1_nights.cls ≠ "java/lang/invoke/MethodHandle" ∧ yX1_nights.cls ≠ "java/lang/invoke/VarHandle" ∧ (parseMethodDescriptor yX1_nights.desc).map (fun d => d.parameters.length) = some 1 := ⟨rfl, dd_X1_nights⟩
/-! RockingHorse.readsAct()Z -/
abbrev mi_X1_readsAct : Mi := (cX1_readsAct, 4, "RockingHorse", 5, some .boolean, "readsAct")
def f_X1_readsAct (v0 : Option Nat) (σ : Hp) : Option (Int32 × Hp) :=
  gI 0 34 σ v0 fun x1 =>
  ob 0 σ v0 fun _ => bnd (f_X1_among v0 7 σ) fun x2 σ =>
  if 0 ≤ x2 then
    gR 0 9 σ v0 fun y3 =>
    gI 0 11 σ v0 fun x4 =>
    lI 100 σ y3 x4 fun x5 =>
    gR 0 31 σ v0 fun y6 =>
    sI σ y6 x1 x5 fun σ =>
    gI 0 11 σ v0 fun x7 =>
    pI 0 0 11 σ v0 (x7 + 1) fun σ =>
    gI 0 34 σ v0 fun x8 =>
    pI 0 0 34 σ v0 (x8 + 1) fun σ =>
    gR 0 32 σ v0 fun y9 =>
    ob 0 σ v0 fun _ => bnd (f_X1_number v0 1 σ) fun x10 σ =>
    sI σ y9 x1 x10 fun σ =>
    gR 0 32 σ v0 fun y11 =>
    lI 100 σ y11 x1 fun x12 =>
    jn (fun (a13 : Unit) σ =>
        gR 0 32 σ v0 fun y15 =>
        lI 100 σ y15 x1 fun x16 =>
        if x16 < 0 then
          rz1 0 σ
        else
          rz1 1 σ) fun j14 =>
    if x12 < 0 then
      j14 () σ
    else
      if x5 = 110 then
        j14 () σ
      else
        if x5 = 105 then
          j14 () σ
        else
          jn (fun (a17 : Int32) σ =>
              gR 0 33 σ v0 fun y19 =>
              jn (fun (a20 : Int32) σ =>
                  sI σ y19 x1 a20 fun σ =>
                  if a17 = 0 then
                    gR 0 33 σ v0 fun y22 =>
                    lI 100 σ y22 x1 fun x23 =>
                    if x23 < 0 then
                      rz1 0 σ
                    else
                      rz1 1 σ
                  else
                    rz1 1 σ) fun j21 =>
              if a17 = 0 then
                ob 0 σ v0 fun _ => bnd (f_X1_number v0 1 σ) fun x24 σ =>
                j21 x24 σ
              else
                j21 (-1) σ) fun j18 =>
          if x5 = 103 then
            ob 0 σ v0 fun _ => bnd (f_X1_takes v0 45 σ) fun x25 σ =>
            if x25 = 0 then
              j18 0 σ
            else
              j18 1 σ
          else
            j18 0 σ
  else
    rz1 0 σ
theorem mm_X1_readsAct (v0 : Option Nat) (σ : Hp) : MM yX1_readsAct mi_X1_readsAct rI [vA v0] σ (f_X1_readsAct v0 σ) := by
  refine mm_of (by decide +kernel) rfl rfl (Nat.le_of_ble_eq_true rfl) ?_
  intro X
  unfold f_X1_readsAct
  refine g_aload_n 0 dX1_readsAct_0 rfl rfl ?_
  refine g_getI fo_0_34 (by decide) q211 dX1_readsAct_1 fun x1 => ?_
  refine g_istore_n 1 dX1_readsAct_4 rfl (lt_b rfl) ?_
  refine g_aload_n 0 dX1_readsAct_5 rfl rfl ?_
  refine g_ldcwS (k := 7) (by decide) rfl rfl dX1_readsAct_6 ?_
  refine g_callV_I (mm_X1_among _ _ _) rfl zc_0 q369 q371 qs3 q107 q372 dv_X1_among rfl (Nat.le_of_ble_eq_true rfl) (Nat.le_of_ble_eq_true rfl) (Nat.le_of_ble_eq_true rfl) dX1_readsAct_9 fun x2 σ => ?_
  refine g_if_ge 17 dX1_readsAct_12 (by decide) ?_ ?_
  · refine g_aload_n 0 dX1_readsAct_17 rfl rfl ?_
    refine g_getR fo_0_9 q183 dX1_readsAct_18 fun y3 => ?_
    refine g_aload_n 0 dX1_readsAct_21 rfl rfl ?_
    refine g_getI fo_0_11 (by decide) q185 dX1_readsAct_22 fun x4 => ?_
    refine g_iaload dX1_readsAct_25 fun x5 => ?_
    refine g_istore_n 2 dX1_readsAct_26 rfl (lt_b rfl) ?_
    refine g_aload_n 0 dX1_readsAct_27 rfl rfl ?_
    refine g_getR fo_0_31 q208 dX1_readsAct_28 fun y6 => ?_
    refine g_iload_n 1 dX1_readsAct_31 rfl rfl ?_
    refine g_iload_n 2 dX1_readsAct_32 rfl rfl ?_
    refine g_iastore dX1_readsAct_33 fun σ => ?_
    refine g_aload_n 0 dX1_readsAct_34 rfl rfl ?_
    refine g_dup dX1_readsAct_35 rfl ?_
    refine g_getI fo_0_11 (by decide) q185 dX1_readsAct_36 fun x7 => ?_
    refine g_iconst 1 dX1_readsAct_39 (by decide) ?_
    refine g_iadd dX1_readsAct_40 ?_
    refine g_putI fo_0_11 (by decide) rfl q185 dX1_readsAct_41 fun σ => ?_
    refine g_aload_n 0 dX1_readsAct_44 rfl rfl ?_
    refine g_dup dX1_readsAct_45 rfl ?_
    refine g_getI fo_0_34 (by decide) q211 dX1_readsAct_46 fun x8 => ?_
    refine g_iconst 1 dX1_readsAct_49 (by decide) ?_
    refine g_iadd dX1_readsAct_50 ?_
    refine g_putI fo_0_34 (by decide) rfl q211 dX1_readsAct_51 fun σ => ?_
    refine g_aload_n 0 dX1_readsAct_54 rfl rfl ?_
    refine g_getR fo_0_32 q209 dX1_readsAct_55 fun y9 => ?_
    refine g_iload_n 1 dX1_readsAct_58 rfl rfl ?_
    refine g_aload_n 0 dX1_readsAct_59 rfl rfl ?_
    refine g_iconst 1 dX1_readsAct_60 (by decide) ?_
    refine g_callV_I (mm_X1_number _ _ _) rfl zc_0 q515 q517 qs11 q107 q518 dv_X1_number rfl (Nat.le_of_ble_eq_true rfl) (Nat.le_of_ble_eq_true rfl) (Nat.le_of_ble_eq_true rfl) dX1_readsAct_61 fun x10 σ => ?_
    refine g_iastore dX1_readsAct_64 fun σ => ?_
    refine g_aload_n 0 dX1_readsAct_65 rfl rfl ?_
    refine g_getR fo_0_32 q209 dX1_readsAct_66 fun y11 => ?_
    refine g_iload_n 1 dX1_readsAct_69 rfl rfl ?_
    refine g_iaload dX1_readsAct_70 fun x12 => ?_
    refine g_jn (fun j14 => ∀ (a13 : Unit) (σ : Hp), GG X mi_X1_readsAct (QM X rI) 86 [(0, vA v0), (1, vI x1)] [] σ (j14 a13 σ)) ?_ ?_
    · intro a13 σ
      refine g_aload_n 0 dX1_readsAct_86 rfl rfl ?_
      refine g_getR fo_0_32 q209 dX1_readsAct_87 fun y15 => ?_
      refine g_iload_n 1 dX1_readsAct_90 rfl rfl ?_
      refine g_iaload dX1_readsAct_91 fun x16 => ?_
      refine g_if_lt 99 dX1_readsAct_92 (by decide) ?_ ?_
      · refine g_iconst 0 dX1_readsAct_99 (by decide) ?_
        exact g_zret rfl dX1_readsAct_100
      · refine g_iconst 1 dX1_readsAct_95 (by decide) ?_
        refine g_goto 100 dX1_readsAct_96 (by decide) ?_
        exact g_zret rfl dX1_readsAct_100
    · intro j14 hj14
      refine g_if_lt 86 dX1_readsAct_71 (by decide) ?_ ?_
      · exact g_jmp (hj14 _ _) rfl
      · refine g_iload_n 2 dX1_readsAct_74 rfl rfl ?_
        refine g_bipush 110 dX1_readsAct_75 (by decide) ?_
        refine g_icmp_eq 86 dX1_readsAct_77 (by decide) ?_ ?_
        · exact g_jmp (hj14 _ _) rfl
        · refine g_iload_n 2 dX1_readsAct_80 rfl rfl ?_
          refine g_bipush 105 dX1_readsAct_81 (by decide) ?_
          refine g_icmp_ne 101 dX1_readsAct_83 (by decide) ?_ ?_
          · refine g_iload_n 2 dX1_readsAct_101 rfl rfl ?_
            refine g_bipush 103 dX1_readsAct_102 (by decide) ?_
            refine g_jn (fun j18 => ∀ (a17 : Int32) (σ : Hp), GG X mi_X1_readsAct (QM X rI) 121 [(0, vA v0), (1, vI x1)] [vI a17] σ (j18 a17 σ)) ?_ ?_
            · intro a17 σ
              refine g_istore_n 3 dX1_readsAct_121 rfl (lt_b rfl) ?_
              refine g_aload_n 0 dX1_readsAct_122 rfl rfl ?_
              refine g_getR fo_0_33 q210 dX1_readsAct_123 fun y19 => ?_
              refine g_iload_n 1 dX1_readsAct_126 rfl rfl ?_
              refine g_iload_n 3 dX1_readsAct_127 rfl rfl ?_
              refine g_jn (fun j21 => ∀ (a20 : Int32) (σ : Hp), GG X mi_X1_readsAct (QM X rI) 140 [(0, vA v0), (1, vI x1), (3, vI a17)] [vI a20, vI x1, vA y19] σ (j21 a20 σ)) ?_ ?_
              · intro a20 σ
                refine g_iastore dX1_readsAct_140 fun σ => ?_
                refine g_iload_n 3 dX1_readsAct_141 rfl rfl ?_
                refine g_if_ne 154 dX1_readsAct_142 (by decide) ?_ ?_
                · refine g_iconst 1 dX1_readsAct_154 (by decide) ?_
                  refine g_goto 159 dX1_readsAct_155 (by decide) ?_
                  exact g_zret rfl dX1_readsAct_159
                · refine g_aload_n 0 dX1_readsAct_145 rfl rfl ?_
                  refine g_getR fo_0_33 q210 dX1_readsAct_146 fun y22 => ?_
                  refine g_iload_n 1 dX1_readsAct_149 rfl rfl ?_
                  refine g_iaload dX1_readsAct_150 fun x23 => ?_
                  refine g_if_lt 158 dX1_readsAct_151 (by decide) ?_ ?_
                  · refine g_iconst 0 dX1_readsAct_158 (by decide) ?_
                    exact g_zret rfl dX1_readsAct_159
                  · refine g_iconst 1 dX1_readsAct_154 (by decide) ?_
                    refine g_goto 159 dX1_readsAct_155 (by decide) ?_
                    exact g_zret rfl dX1_readsAct_159
              · intro j21 hj21
                refine g_if_eq 135 dX1_readsAct_128 (by decide) ?_ ?_
                · refine g_aload_n 0 dX1_readsAct_135 rfl rfl ?_
                  refine g_iconst 1 dX1_readsAct_136 (by decide) ?_
                  refine g_callV_I (mm_X1_number _ _ _) rfl zc_0 q515 q517 qs11 q107 q518 dv_X1_number rfl (Nat.le_of_ble_eq_true rfl) (Nat.le_of_ble_eq_true rfl) (Nat.le_of_ble_eq_true rfl) dX1_readsAct_137 fun x24 σ => ?_
                  exact g_jmp (hj21 _ _) rfl
                · refine g_iconst (-1) dX1_readsAct_131 (by decide) ?_
                  refine g_goto 140 dX1_readsAct_132 (by decide) ?_
                  exact g_jmp (hj21 _ _) rfl
            · intro j18 hj18
              refine g_icmp_ne 120 dX1_readsAct_104 (by decide) ?_ ?_
              · refine g_iconst 0 dX1_readsAct_120 (by decide) ?_
                exact g_jmp (hj18 _ _) rfl
              · refine g_aload_n 0 dX1_readsAct_107 rfl rfl ?_
                refine g_bipush 45 dX1_readsAct_108 (by decide) ?_
                refine g_callV_I (mm_X1_takes _ _ _) rfl zc_0 q459 q461 qs4 q107 q462 dv_X1_takes rfl (Nat.le_of_ble_eq_true rfl) (Nat.le_of_ble_eq_true rfl) (Nat.le_of_ble_eq_true rfl) dX1_readsAct_110 fun x25 σ => ?_
                refine g_if_eq 120 dX1_readsAct_113 (by decide) ?_ ?_
                · refine g_iconst 0 dX1_readsAct_120 (by decide) ?_
                  exact g_jmp (hj18 _ _) rfl
                · refine g_iconst 1 dX1_readsAct_116 (by decide) ?_
                  refine g_goto 121 dX1_readsAct_117 (by decide) ?_
                  exact g_jmp (hj18 _ _) rfl
          · exact g_jmp (hj14 _ _) rfl
  · refine g_iconst 0 dX1_readsAct_15 (by decide) ?_
    exact g_zret rfl dX1_readsAct_16
theorem dd_X1_readsAct : yX1_readsAct.cls ≠ "java/lang/invoke/MethodHandle" ∧ yX1_readsAct.cls ≠ "java/lang/invoke/VarHandle" ∧ (parseMethodDescriptor yX1_readsAct.desc).map (fun d => d.parameters.length) = some 0 := by decide +kernel
theorem dv_X1_readsAct : yX1_readsAct.cls = RX1 ∧ yX1_readsAct.cls ≠ "java/lang/invoke/MethodHandle" ∧ yX1_readsAct.cls ≠ "java/lang/invoke/VarHandle" ∧ (parseMethodDescriptor yX1_readsAct.desc).map (fun d => d.parameters.length) = some 0 := ⟨rfl, dd_X1_readsAct⟩
/-! RockingHorse.easiest()I -/
abbrev mi_X1_easiest : Mi := (cX1_easiest, 2, "RockingHorse", 104, some .int, "easiest")
def f_X1_easiest (v0 : Option Nat) (σ : Hp) : Option (Int32 × Hp) :=
  ob 0 σ v0 fun _ => bnd (f_X1_easiestBut v0 0 σ) fun x1 σ =>
  if x1 = 1000000 then
    some ((-2), σ)
  else
    ob 0 σ v0 fun _ => bnd (f_X1_laysTurn v0 x1 σ) fun _ σ =>
    ob 0 σ v0 fun _ => bnd (f_X1_tellsTurn v0 σ) fun _ σ =>
    some (x1, σ)
theorem mm_X1_easiest (v0 : Option Nat) (σ : Hp) : MM yX1_easiest mi_X1_easiest rI [vA v0] σ (f_X1_easiest v0 σ) := by
  refine mm_of (by decide +kernel) rfl rfl (Nat.le_of_ble_eq_true rfl) ?_
  intro X
  unfold f_X1_easiest
  refine g_aload_n 0 dX1_easiest_0 rfl rfl ?_
  refine g_iconst 0 dX1_easiest_1 (by decide) ?_
  refine g_callV_I (mm_X1_easiestBut _ _ _) rfl zc_0 q737 q739 qs26 q107 q740 dv_X1_easiestBut rfl (Nat.le_of_ble_eq_true rfl) (Nat.le_of_ble_eq_true rfl) (Nat.le_of_ble_eq_true rfl) dX1_easiest_2 fun x1 σ => ?_
  refine g_istore_n 1 dX1_easiest_5 rfl (lt_b rfl) ?_
  refine g_iload_n 1 dX1_easiest_6 rfl rfl ?_
  refine g_ldc dX1_easiest_7 q170 ?_
  refine g_icmp_ne 15 dX1_easiest_9 (by decide) ?_ ?_
  · refine g_aload_n 0 dX1_easiest_15 rfl rfl ?_
    refine g_iload_n 1 dX1_easiest_16 rfl rfl ?_
    refine g_callV_V (mm_X1_laysTurn _ _ _) rfl zc_0 q761 q763 qs32 q107 q764 dv_X1_laysTurn rfl (Nat.le_of_ble_eq_true rfl) (Nat.le_of_ble_eq_true rfl) (Nat.le_of_ble_eq_true rfl) dX1_easiest_17 fun _ σ => ?_
    refine g_aload_n 0 dX1_easiest_20 rfl rfl ?_
    refine g_callV_V (mm_X1_tellsTurn _ _) rfl zc_0 q770 q772 qs34 q107 q773 dv_X1_tellsTurn rfl (Nat.le_of_ble_eq_true rfl) (Nat.le_of_ble_eq_true rfl) (Nat.le_of_ble_eq_true rfl) dX1_easiest_21 fun _ σ => ?_
    refine g_iload_n 1 dX1_easiest_24 rfl rfl ?_
    exact g_iret rfl dX1_easiest_25
  · refine g_bipush (-2) dX1_easiest_12 (by decide) ?_
    exact g_iret rfl dX1_easiest_14
theorem dd_X1_easiest : yX1_easiest.cls ≠ "java/lang/invoke/MethodHandle" ∧ yX1_easiest.cls ≠ "java/lang/invoke/VarHandle" ∧ (parseMethodDescriptor yX1_easiest.desc).map (fun d => d.parameters.length) = some 0 := by decide +kernel
theorem dv_X1_easiest : yX1_easiest.cls = RX1 ∧ yX1_easiest.cls ≠ "java/lang/invoke/MethodHandle" ∧ yX1_easiest.cls ≠ "java/lang/invoke/VarHandle" ∧ (parseMethodDescriptor yX1_easiest.desc).map (fun d => d.parameters.length) = some 0 := ⟨rfl, dd_X1_easiest⟩
/-! RockingHorseModel.nights(I)I -/
abbrev mi_X3_nights : Mi := (cX3_nights, 4, "RockingHorseModel", 207, some .int, "nights")
def f_X3_nights (v0 : Option Nat) (v1 : Int32) (σ : Hp) : Option (Int32 × Hp) :=
  pI 0 2 11 σ v0 0 fun σ =>
  bnd (f_X3_in v1 0 30 σ) fun x1 σ =>
  if x1 = 0 then
    some ((-1), σ)
  else
    jn (fun (a2 : Unit) σ =>
        gR 2 0 σ v0 fun y4 =>
        lI 100 σ y4 25 fun x5 =>
        gR 2 0 σ v0 fun y6 =>
        lI 100 σ y6 26 fun x7 =>
        gR 2 0 σ v0 fun y8 =>
        ob 2 σ v0 fun _ => bnd (f_X3_goNights v0 y8 v1 σ) fun _ σ =>
        pI 0 2 10 σ v0 0 fun σ =>
        gR 2 0 σ v0 fun y9 =>
        lI 100 σ y9 26 fun x10 =>
        ob 2 σ v0 fun _ => bnd (f_X3_tell v0 (Int32.toInt64 (x10 - x7)) σ) fun _ σ =>
        gR 2 0 σ v0 fun y11 =>
        ob 2 σ v0 fun _ => bnd (f_X3_tired v0 y11 σ) fun x12 σ =>
        ob 2 σ v0 fun _ => bnd (f_X3_tell v0 (Int32.toInt64 x12) σ) fun _ σ =>
        gR 2 0 σ v0 fun y13 =>
        lI 100 σ y13 25 fun x14 =>
        some ((x14 - x5), σ)) fun j3 =>
    if v1 ≤ 0 then
      j3 () σ
    else
      gR 2 0 σ v0 fun y15 =>
      ob 2 σ v0 fun _ => bnd (f_X3_remember v0 y15 σ) fun _ σ =>
      j3 () σ
theorem mm_X3_nights (v0 : Option Nat) (v1 : Int32) (σ : Hp) : MM yX3_nights mi_X3_nights rI [vA v0, vI v1] σ (f_X3_nights v0 v1 σ) := by
  refine mm_of (by decide +kernel) rfl rfl (Nat.le_of_ble_eq_true rfl) ?_
  intro X
  unfold f_X3_nights
  refine g_aload_n 0 dX3_nights_0 rfl rfl ?_
  refine g_iconst 0 dX3_nights_1 (by decide) ?_
  refine g_putI fo_2_11 (by decide) rfl q1067 dX3_nights_2 fun σ => ?_
  refine g_iload_n 1 dX3_nights_5 rfl rfl ?_
  refine g_iconst 0 dX3_nights_6 (by decide) ?_
  refine g_bipush 30 dX3_nights_7 (by decide) ?_
  refine g_callS_I (mm_X3_in _ _ _ _) rfl q1223 q1224 q109 q1225 dd_X3_in rfl (Nat.le_of_ble_eq_true rfl) (Nat.le_of_ble_eq_true rfl) (Nat.le_of_ble_eq_true rfl) dX3_nights_9 fun x1 σ => ?_
  refine g_if_ne 17 dX3_nights_12 (by decide) ?_ ?_
  · refine g_iload_n 1 dX3_nights_17 rfl rfl ?_
    refine g_jn (fun j3 => ∀ (a2 : Unit) (σ : Hp), GG X mi_X3_nights (QM X rI) 29 [(0, vA v0), (1, vI v1)] [] σ (j3 a2 σ)) ?_ ?_
    · intro a2 σ
      refine g_aload_n 0 dX3_nights_29 rfl rfl ?_
      refine g_getR fo_2_0 q1056 dX3_nights_30 fun y4 => ?_
      refine g_bipush 25 dX3_nights_33 (by decide) ?_
      refine g_iaload dX3_nights_35 fun x5 => ?_
      refine g_istore_n 2 dX3_nights_36 rfl (lt_b rfl) ?_
      refine g_aload_n 0 dX3_nights_37 rfl rfl ?_
      refine g_getR fo_2_0 q1056 dX3_nights_38 fun y6 => ?_
      refine g_bipush 26 dX3_nights_41 (by decide) ?_
      refine g_iaload dX3_nights_43 fun x7 => ?_
      refine g_istore_n 3 dX3_nights_44 rfl (lt_b rfl) ?_
      refine g_aload_n 0 dX3_nights_45 rfl rfl ?_
      refine g_aload_n 0 dX3_nights_46 rfl rfl ?_
      refine g_getR fo_2_0 q1056 dX3_nights_47 fun y8 => ?_
      refine g_iload_n 1 dX3_nights_50 rfl rfl ?_
      refine g_callV_V (mm_X3_goNights _ _ _ _) rfl zc_2 q1370 q1372 qs73 q109 q1373 dv_X3_goNights rfl (Nat.le_of_ble_eq_true rfl) (Nat.le_of_ble_eq_true rfl) (Nat.le_of_ble_eq_true rfl) dX3_nights_51 fun _ σ => ?_
      refine g_aload_n 0 dX3_nights_54 rfl rfl ?_
      refine g_iconst 0 dX3_nights_55 (by decide) ?_
      refine g_putI fo_2_10 (by decide) rfl q1066 dX3_nights_56 fun σ => ?_
      refine g_aload_n 0 dX3_nights_59 rfl rfl ?_
      refine g_aload_n 0 dX3_nights_60 rfl rfl ?_
      refine g_getR fo_2_0 q1056 dX3_nights_61 fun y9 => ?_
      refine g_bipush 26 dX3_nights_64 (by decide) ?_
      refine g_iaload dX3_nights_66 fun x10 => ?_
      refine g_iload_n 3 dX3_nights_67 rfl rfl ?_
      refine g_isub dX3_nights_68 ?_
      refine g_i2l dX3_nights_69 ?_
      refine g_callV_V (mm_X3_tell _ _ _) rfl zc_2 q1382 q1384 qs75 q109 q1385 dv_X3_tell rfl (Nat.le_of_ble_eq_true rfl) (Nat.le_of_ble_eq_true rfl) (Nat.le_of_ble_eq_true rfl) dX3_nights_70 fun _ σ => ?_
      refine g_aload_n 0 dX3_nights_73 rfl rfl ?_
      refine g_aload_n 0 dX3_nights_74 rfl rfl ?_
      refine g_aload_n 0 dX3_nights_75 rfl rfl ?_
      refine g_getR fo_2_0 q1056 dX3_nights_76 fun y11 => ?_
      refine g_callV_I (mm_X3_tired _ _ _) rfl zc_2 q1386 q1388 qs76 q109 q1389 dv_X3_tired rfl (Nat.le_of_ble_eq_true rfl) (Nat.le_of_ble_eq_true rfl) (Nat.le_of_ble_eq_true rfl) dX3_nights_79 fun x12 σ => ?_
      refine g_i2l dX3_nights_82 ?_
      refine g_callV_V (mm_X3_tell _ _ _) rfl zc_2 q1382 q1384 qs75 q109 q1385 dv_X3_tell rfl (Nat.le_of_ble_eq_true rfl) (Nat.le_of_ble_eq_true rfl) (Nat.le_of_ble_eq_true rfl) dX3_nights_83 fun _ σ => ?_
      refine g_aload_n 0 dX3_nights_86 rfl rfl ?_
      refine g_getR fo_2_0 q1056 dX3_nights_87 fun y13 => ?_
      refine g_bipush 25 dX3_nights_90 (by decide) ?_
      refine g_iaload dX3_nights_92 fun x14 => ?_
      refine g_iload_n 2 dX3_nights_93 rfl rfl ?_
      refine g_isub dX3_nights_94 ?_
      exact g_iret rfl dX3_nights_95
    · intro j3 hj3
      refine g_if_le 29 dX3_nights_18 (by decide) ?_ ?_
      · exact g_jmp (hj3 _ _) rfl
      · refine g_aload_n 0 dX3_nights_21 rfl rfl ?_
        refine g_aload_n 0 dX3_nights_22 rfl rfl ?_
        refine g_getR fo_2_0 q1056 dX3_nights_23 fun y15 => ?_
        refine g_callV_V (mm_X3_remember _ _ _) rfl zc_2 q1343 q1345 qs70 q109 q1346 dv_X3_remember rfl (Nat.le_of_ble_eq_true rfl) (Nat.le_of_ble_eq_true rfl) (Nat.le_of_ble_eq_true rfl) dX3_nights_26 fun _ σ => ?_
        exact g_jmp (hj3 _ _) rfl
  · refine g_iconst (-1) dX3_nights_15 (by decide) ?_
    exact g_iret rfl dX3_nights_16
theorem dd_X3_nights : yX3_nights.cls ≠ "java/lang/invoke/MethodHandle" ∧ yX3_nights.cls ≠ "java/lang/invoke/VarHandle" ∧ (parseMethodDescriptor yX3_nights.desc).map (fun d => d.parameters.length) = some 1 := by decide +kernel
theorem dv_X3_nights : yX3_nights.cls = RX3 ∧ yX3_nights.cls ≠ "java/lang/invoke/MethodHandle" ∧ yX3_nights.cls ≠ "java/lang/invoke/VarHandle" ∧ (parseMethodDescriptor yX3_nights.desc).map (fun d => d.parameters.length) = some 1 := ⟨rfl, dd_X3_nights⟩
/-! RockingHorseModel.year()I -/
abbrev mi_X3_year : Mi := (cX3_year, 3, "RockingHorseModel", 208, some .int, "year")
def f_X3_year_b13 (v0 : Option Nat) (k0 : Int32 → Hp → Option (Int32 × Hp)) (ag : Int32 → Hp → Option (Int32 × Hp)) (a : Int32) (σ : Hp) : Option (Int32 × Hp) :=
  ob 2 σ v0 fun _ => bnd (f_X3_fine v0 σ) fun x1 σ =>
  if x1 = 0 then
    k0 a σ
  else
    gI 2 15 σ v0 fun x2 =>
    gI 2 13 σ v0 fun x3 =>
    if x3 ≤ x2 then
      k0 a σ
    else
      ob 2 σ v0 fun _ => bnd (f_X3_readAct v0 (3 * a) σ) fun _ σ =>
      ag (a + 1) σ
def f_X3_year_b72 (v0 : Option Nat) (v1 : Int32) (k0 : Int32 → Hp → Option (Int32 × Hp)) (ag : Int32 → Hp → Option (Int32 × Hp)) (a : Int32) (σ : Hp) : Option (Int32 × Hp) :=
  if v1 ≤ a then
    k0 a σ
  else
    gR 2 31 σ v0 fun y8 =>
    lI 100 σ y8 (3 * a) fun x9 =>
    gR 2 31 σ v0 fun y10 =>
    lI 100 σ y10 ((3 * a) + 1) fun x11 =>
    gR 2 31 σ v0 fun y12 =>
    lI 100 σ y12 ((3 * a) + 2) fun x13 =>
    ob 2 σ v0 fun _ => bnd (f_X3_act v0 x9 x11 x13 σ) fun x14 σ =>
    if x14 = 0 then
      k0 a σ
    else
      ag (a + 1) σ
def f_X3_year (v0 : Option Nat) (σ : Hp) : Option (Int32 × Hp) :=
  pI 0 2 11 σ v0 0 fun σ =>
  ob 2 σ v0 fun _ => bnd (f_X3_beginText v0 60 σ) fun _ σ =>
  lp 2000 (f_X3_year_b13 v0 (fun (a4 : Int32) σ =>
      ob 2 σ v0 fun _ => bnd (f_X3_wasRight v0 σ) fun x5 σ =>
      if x5 = 0 then
        gI 2 16 σ v0 fun x23 =>
        some (((-1) - x23), σ)
      else
        gR 2 0 σ v0 fun y6 =>
        gR 2 25 σ v0 fun y7 =>
        bnd (f_X3_lay y6 y7 0 σ) fun _ σ =>
        lp 2000 (f_X3_year_b72 v0 a4 (fun (a15 : Int32) σ =>
            jn (fun (a16 : Unit) σ =>
                pI 0 2 10 σ v0 0 fun σ =>
                jn (fun (a18 : Int64) σ =>
                    ob 2 σ v0 fun _ => bnd (f_X3_tell v0 a18 σ) fun _ σ =>
                    gR 2 0 σ v0 fun y20 =>
                    lI 100 σ y20 25 fun x21 =>
                    ob 2 σ v0 fun _ => bnd (f_X3_tell v0 (Int32.toInt64 x21) σ) fun _ σ =>
                    some (a15, σ)) fun j19 =>
                if a4 ≤ a15 then
                  j19 0 σ
                else
                  j19 1 σ) fun j17 =>
            if a15 ≤ 0 then
              j17 () σ
            else
              gR 2 25 σ v0 fun y22 =>
              ob 2 σ v0 fun _ => bnd (f_X3_remember v0 y22 σ) fun _ σ =>
              j17 () σ)) 0 σ)) 0 σ
theorem ok_X3_year_b13 (X : Mx) (v0 : Option Nat) {k0 : Int32 → Hp → Option (Int32 × Hp)} (hk0 : ∀ (a : Int32) (σ : Hp), GG X mi_X3_year (QM X rI) 44 [(0, vA v0), (1, vI a)] [] σ (k0 a σ)) : ∀ (m : Nat) (a : Int32) (σ : Hp), GG X mi_X3_year (QM X rI) 13 [(0, vA v0), (1, vI a)] [] σ (lp m (f_X3_year_b13 v0 k0) a σ) := by
  refine g_lp (fun (a : Int32) => [(0, vA v0), (1, vI a)]) ?_
  intro ag hag a σ
  unfold f_X3_year_b13
  refine g_aload_n 0 dX3_year_13 rfl rfl ?_
  refine g_callV_I (mm_X3_fine _ _) rfl zc_2 q1238 q1240 qs52 q109 q1241 dv_X3_fine rfl (Nat.le_of_ble_eq_true rfl) (Nat.le_of_ble_eq_true rfl) (Nat.le_of_ble_eq_true rfl) dX3_year_14 fun x1 σ => ?_
  refine g_if_eq 44 dX3_year_17 (by decide) ?_ ?_
  · exact g_jmp (hk0 _ _) rfl
  · refine g_aload_n 0 dX3_year_20 rfl rfl ?_
    refine g_getI fo_2_15 (by decide) q1071 dX3_year_21 fun x2 => ?_
    refine g_aload_n 0 dX3_year_24 rfl rfl ?_
    refine g_getI fo_2_13 (by decide) q1069 dX3_year_25 fun x3 => ?_
    refine g_icmp_ge 44 dX3_year_28 (by decide) ?_ ?_
    · exact g_jmp (hk0 _ _) rfl
    · refine g_aload_n 0 dX3_year_31 rfl rfl ?_
      refine g_iconst 3 dX3_year_32 (by decide) ?_
      refine g_iload_n 1 dX3_year_33 rfl rfl ?_
      refine g_imul dX3_year_34 ?_
      refine g_callV_V (mm_X3_readAct _ _ _) rfl zc_2 q1394 q1396 qs77 q109 q1397 dv_X3_readAct rfl (Nat.le_of_ble_eq_true rfl) (Nat.le_of_ble_eq_true rfl) (Nat.le_of_ble_eq_true rfl) dX3_year_35 fun _ σ => ?_
      refine g_iinc 1 dX3_year_38 (by decide) rfl (lt_b rfl) ?_
      refine g_goto 13 dX3_year_41 (by decide) ?_
      exact g_jmp (hag _ _) rfl
theorem ok_X3_year_b72 (X : Mx) (v0 : Option Nat) (v1 : Int32) {k0 : Int32 → Hp → Option (Int32 × Hp)} (hk0 : ∀ (a : Int32) (σ : Hp), GG X mi_X3_year (QM X rI) 118 [(0, vA v0), (1, vI v1), (2, vI a)] [] σ (k0 a σ)) : ∀ (m : Nat) (a : Int32) (σ : Hp), GG X mi_X3_year (QM X rI) 72 [(0, vA v0), (1, vI v1), (2, vI a)] [] σ (lp m (f_X3_year_b72 v0 v1 k0) a σ) := by
  refine g_lp (fun (a : Int32) => [(0, vA v0), (1, vI v1), (2, vI a)]) ?_
  intro ag hag a σ
  unfold f_X3_year_b72
  refine g_iload_n 2 dX3_year_72 rfl rfl ?_
  refine g_iload_n 1 dX3_year_73 rfl rfl ?_
  refine g_icmp_ge 118 dX3_year_74 (by decide) ?_ ?_
  · exact g_jmp (hk0 _ _) rfl
  · refine g_aload_n 0 dX3_year_77 rfl rfl ?_
    refine g_aload_n 0 dX3_year_78 rfl rfl ?_
    refine g_getR fo_2_31 q1087 dX3_year_79 fun y8 => ?_
    refine g_iconst 3 dX3_year_82 (by decide) ?_
    refine g_iload_n 2 dX3_year_83 rfl rfl ?_
    refine g_imul dX3_year_84 ?_
    refine g_iaload dX3_year_85 fun x9 => ?_
    refine g_aload_n 0 dX3_year_86 rfl rfl ?_
    refine g_getR fo_2_31 q1087 dX3_year_87 fun y10 => ?_
    refine g_iconst 3 dX3_year_90 (by decide) ?_
    refine g_iload_n 2 dX3_year_91 rfl rfl ?_
    refine g_imul dX3_year_92 ?_
    refine g_iconst 1 dX3_year_93 (by decide) ?_
    refine g_iadd dX3_year_94 ?_
    refine g_iaload dX3_year_95 fun x11 => ?_
    refine g_aload_n 0 dX3_year_96 rfl rfl ?_
    refine g_getR fo_2_31 q1087 dX3_year_97 fun y12 => ?_
    refine g_iconst 3 dX3_year_100 (by decide) ?_
    refine g_iload_n 2 dX3_year_101 rfl rfl ?_
    refine g_imul dX3_year_102 ?_
    refine g_iconst 2 dX3_year_103 (by decide) ?_
    refine g_iadd dX3_year_104 ?_
    refine g_iaload dX3_year_105 fun x13 => ?_
    refine g_callV_I (mm_X3_act _ _ _ _ _) rfl zc_2 q1398 q1400 qs78 q109 q1401 dv_X3_act rfl (Nat.le_of_ble_eq_true rfl) (Nat.le_of_ble_eq_true rfl) (Nat.le_of_ble_eq_true rfl) dX3_year_106 fun x14 σ => ?_
    refine g_if_eq 118 dX3_year_109 (by decide) ?_ ?_
    · exact g_jmp (hk0 _ _) rfl
    · refine g_iinc 1 dX3_year_112 (by decide) rfl (lt_b rfl) ?_
      refine g_goto 72 dX3_year_115 (by decide) ?_
      exact g_jmp (hag _ _) rfl
theorem mm_X3_year (v0 : Option Nat) (σ : Hp) : MM yX3_year mi_X3_year rI [vA v0] σ (f_X3_year v0 σ) := by
  refine mm_of (by decide +kernel) rfl rfl (Nat.le_of_ble_eq_true rfl) ?_
  intro X
  unfold f_X3_year
  refine g_aload_n 0 dX3_year_0 rfl rfl ?_
  refine g_iconst 0 dX3_year_1 (by decide) ?_
  refine g_putI fo_2_11 (by decide) rfl q1067 dX3_year_2 fun σ => ?_
  refine g_aload_n 0 dX3_year_5 rfl rfl ?_
  refine g_bipush 60 dX3_year_6 (by decide) ?_
  refine g_callV_V (mm_X3_beginText _ _ _) rfl zc_2 q1230 q1232 qs50 q109 q1233 dv_X3_beginText rfl (Nat.le_of_ble_eq_true rfl) (Nat.le_of_ble_eq_true rfl) (Nat.le_of_ble_eq_true rfl) dX3_year_8 fun _ σ => ?_
  refine g_iconst 0 dX3_year_11 (by decide) ?_
  refine g_istore_n 1 dX3_year_12 rfl (lt_b rfl) ?_
  refine g_jmp (ok_X3_year_b13 X v0 ?_ _ _ _) rfl
  · intro a4 σ
    refine g_aload_n 0 dX3_year_44 rfl rfl ?_
    refine g_callV_I (mm_X3_wasRight _ _) rfl zc_2 q1262 q1264 qs58 q109 q1265 dv_X3_wasRight rfl (Nat.le_of_ble_eq_true rfl) (Nat.le_of_ble_eq_true rfl) (Nat.le_of_ble_eq_true rfl) dX3_year_45 fun x5 σ => ?_
    refine g_if_ne 58 dX3_year_48 (by decide) ?_ ?_
    · refine g_aload_n 0 dX3_year_58 rfl rfl ?_
      refine g_getR fo_2_0 q1056 dX3_year_59 fun y6 => ?_
      refine g_aload_n 0 dX3_year_62 rfl rfl ?_
      refine g_getR fo_2_25 q1081 dX3_year_63 fun y7 => ?_
      refine g_iconst 0 dX3_year_66 (by decide) ?_
      refine g_callS_V (mm_X3_lay _ _ _ _) rfl q1347 q1348 q109 q1349 dd_X3_lay rfl (Nat.le_of_ble_eq_true rfl) (Nat.le_of_ble_eq_true rfl) (Nat.le_of_ble_eq_true rfl) dX3_year_67 fun _ σ => ?_
      refine g_iconst 0 dX3_year_70 (by decide) ?_
      refine g_istore_n 2 dX3_year_71 rfl (lt_b rfl) ?_
      refine g_jmp (ok_X3_year_b72 X v0 a4 ?_ _ _ _) rfl
      · intro a15 σ
        refine g_iload_n 2 dX3_year_118 rfl rfl ?_
        refine g_jn (fun j17 => ∀ (a16 : Unit) (σ : Hp), GG X mi_X3_year (QM X rI) 130 [(0, vA v0), (1, vI a4), (2, vI a15)] [] σ (j17 a16 σ)) ?_ ?_
        · intro a16 σ
          refine g_aload_n 0 dX3_year_130 rfl rfl ?_
          refine g_iconst 0 dX3_year_131 (by decide) ?_
          refine g_putI fo_2_10 (by decide) rfl q1066 dX3_year_132 fun σ => ?_
          refine g_aload_n 0 dX3_year_135 rfl rfl ?_
          refine g_iload_n 2 dX3_year_136 rfl rfl ?_
          refine g_iload_n 1 dX3_year_137 rfl rfl ?_
          refine g_jn (fun j19 => ∀ (a18 : Int64) (σ : Hp), GG X mi_X3_year (QM X rI) 146 [(0, vA v0), (2, vI a15)] [vL a18, vA v0] σ (j19 a18 σ)) ?_ ?_
          · intro a18 σ
            refine g_callV_V (mm_X3_tell _ _ _) rfl zc_2 q1382 q1384 qs75 q109 q1385 dv_X3_tell rfl (Nat.le_of_ble_eq_true rfl) (Nat.le_of_ble_eq_true rfl) (Nat.le_of_ble_eq_true rfl) dX3_year_146 fun _ σ => ?_
            refine g_aload_n 0 dX3_year_149 rfl rfl ?_
            refine g_aload_n 0 dX3_year_150 rfl rfl ?_
            refine g_getR fo_2_0 q1056 dX3_year_151 fun y20 => ?_
            refine g_bipush 25 dX3_year_154 (by decide) ?_
            refine g_iaload dX3_year_156 fun x21 => ?_
            refine g_i2l dX3_year_157 ?_
            refine g_callV_V (mm_X3_tell _ _ _) rfl zc_2 q1382 q1384 qs75 q109 q1385 dv_X3_tell rfl (Nat.le_of_ble_eq_true rfl) (Nat.le_of_ble_eq_true rfl) (Nat.le_of_ble_eq_true rfl) dX3_year_158 fun _ σ => ?_
            refine g_iload_n 2 dX3_year_161 rfl rfl ?_
            exact g_iret rfl dX3_year_162
          · intro j19 hj19
            refine g_icmp_ge 145 dX3_year_138 (by decide) ?_ ?_
            · refine g_lconst 0 dX3_year_145 (by decide) ?_
              exact g_jmp (hj19 _ _) rfl
            · refine g_lconst 1 dX3_year_141 (by decide) ?_
              refine g_goto 146 dX3_year_142 (by decide) ?_
              exact g_jmp (hj19 _ _) rfl
        · intro j17 hj17
          refine g_if_le 130 dX3_year_119 (by decide) ?_ ?_
          · exact g_jmp (hj17 _ _) rfl
          · refine g_aload_n 0 dX3_year_122 rfl rfl ?_
            refine g_aload_n 0 dX3_year_123 rfl rfl ?_
            refine g_getR fo_2_25 q1081 dX3_year_124 fun y22 => ?_
            refine g_callV_V (mm_X3_remember _ _ _) rfl zc_2 q1343 q1345 qs70 q109 q1346 dv_X3_remember rfl (Nat.le_of_ble_eq_true rfl) (Nat.le_of_ble_eq_true rfl) (Nat.le_of_ble_eq_true rfl) dX3_year_127 fun _ σ => ?_
            exact g_jmp (hj17 _ _) rfl
    · refine g_iconst (-1) dX3_year_51 (by decide) ?_
      refine g_aload_n 0 dX3_year_52 rfl rfl ?_
      refine g_getI fo_2_16 (by decide) q1072 dX3_year_53 fun x23 => ?_
      refine g_isub dX3_year_56 ?_
      exact g_iret rfl dX3_year_57
theorem dd_X3_year : yX3_year.cls ≠ "java/lang/invoke/MethodHandle" ∧ yX3_year.cls ≠ "java/lang/invoke/VarHandle" ∧ (parseMethodDescriptor yX3_year.desc).map (fun d => d.parameters.length) = some 0 := by decide +kernel
theorem dv_X3_year : yX3_year.cls = RX3 ∧ yX3_year.cls ≠ "java/lang/invoke/MethodHandle" ∧ yX3_year.cls ≠ "java/lang/invoke/VarHandle" ∧ (parseMethodDescriptor yX3_year.desc).map (fun d => d.parameters.length) = some 0 := ⟨rfl, dd_X3_year⟩
/-! RockingHorseModel.easiest()I -/
abbrev mi_X3_easiest : Mi := (cX3_easiest, 2, "RockingHorseModel", 207, some .int, "easiest")
def f_X3_easiest (v0 : Option Nat) (σ : Hp) : Option (Int32 × Hp) :=
  pI 0 2 11 σ v0 0 fun σ =>
  ob 2 σ v0 fun _ => bnd (f_X3_easiestBut v0 (-1) σ) fun x1 σ =>
  if x1 = 1000000000 then
    some ((-2), σ)
  else
    ob 2 σ v0 fun _ => bnd (f_X3_layLine v0 0 x1 σ) fun _ σ =>
    ob 2 σ v0 fun _ => bnd (f_X3_tellLine v0 σ) fun _ σ =>
    some (x1, σ)
theorem mm_X3_easiest (v0 : Option Nat) (σ : Hp) : MM yX3_easiest mi_X3_easiest rI [vA v0] σ (f_X3_easiest v0 σ) := by
  refine mm_of (by decide +kernel) rfl rfl (Nat.le_of_ble_eq_true rfl) ?_
  intro X
  unfold f_X3_easiest
  refine g_aload_n 0 dX3_easiest_0 rfl rfl ?_
  refine g_iconst 0 dX3_easiest_1 (by decide) ?_
  refine g_putI fo_2_11 (by decide) rfl q1067 dX3_easiest_2 fun σ => ?_
  refine g_aload_n 0 dX3_easiest_5 rfl rfl ?_
  refine g_iconst (-1) dX3_easiest_6 (by decide) ?_
  refine g_callV_I (mm_X3_easiestBut _ _ _) rfl zc_2 q1439 q1441 qs81 q109 q1442 dv_X3_easiestBut rfl (Nat.le_of_ble_eq_true rfl) (Nat.le_of_ble_eq_true rfl) (Nat.le_of_ble_eq_true rfl) dX3_easiest_7 fun x1 σ => ?_
  refine g_istore_n 1 dX3_easiest_10 rfl (lt_b rfl) ?_
  refine g_iload_n 1 dX3_easiest_11 rfl rfl ?_
  refine g_ldc dX3_easiest_12 q1055 ?_
  refine g_icmp_ne 20 dX3_easiest_14 (by decide) ?_ ?_
  · refine g_aload_n 0 dX3_easiest_20 rfl rfl ?_
    refine g_iconst 0 dX3_easiest_21 (by decide) ?_
    refine g_iload_n 1 dX3_easiest_22 rfl rfl ?_
    refine g_callV_V (mm_X3_layLine _ _ _ _) rfl zc_2 q1467 q1469 qs88 q109 q1470 dv_X3_layLine rfl (Nat.le_of_ble_eq_true rfl) (Nat.le_of_ble_eq_true rfl) (Nat.le_of_ble_eq_true rfl) dX3_easiest_23 fun _ σ => ?_
    refine g_aload_n 0 dX3_easiest_26 rfl rfl ?_
    refine g_callV_V (mm_X3_tellLine _ _) rfl zc_2 q1487 q1489 qs93 q109 q1490 dv_X3_tellLine rfl (Nat.le_of_ble_eq_true rfl) (Nat.le_of_ble_eq_true rfl) (Nat.le_of_ble_eq_true rfl) dX3_easiest_27 fun _ σ => ?_
    refine g_iload_n 1 dX3_easiest_30 rfl rfl ?_
    exact g_iret rfl dX3_easiest_31
  · refine g_bipush (-2) dX3_easiest_17 (by decide) ?_
    exact g_iret rfl dX3_easiest_19
theorem dd_X3_easiest : yX3_easiest.cls ≠ "java/lang/invoke/MethodHandle" ∧ yX3_easiest.cls ≠ "java/lang/invoke/VarHandle" ∧ (parseMethodDescriptor yX3_easiest.desc).map (fun d => d.parameters.length) = some 0 := by decide +kernel
theorem dv_X3_easiest : yX3_easiest.cls = RX3 ∧ yX3_easiest.cls ≠ "java/lang/invoke/MethodHandle" ∧ yX3_easiest.cls ≠ "java/lang/invoke/VarHandle" ∧ (parseMethodDescriptor yX3_easiest.desc).map (fun d => d.parameters.length) = some 0 := ⟨rfl, dd_X3_easiest⟩
/-! RockingHorseModel.fits()I -/
abbrev mi_X3_fits : Mi := (cX3_fits, 2, "RockingHorseModel", 208, some .int, "fits")
def f_X3_fits (v0 : Option Nat) (σ : Hp) : Option (Int32 × Hp) :=
  pI 0 2 11 σ v0 0 fun σ =>
  ob 2 σ v0 fun _ => bnd (f_X3_fitting v0 (-1) (-1) σ) fun x1 σ =>
  pI 0 2 10 σ v0 0 fun σ =>
  if x1 = 0 then
    some (0, σ)
  else
    ob 2 σ v0 fun _ => bnd (f_X3_tellWays v0 σ) fun x2 σ =>
    some (x2, σ)
theorem mm_X3_fits (v0 : Option Nat) (σ : Hp) : MM yX3_fits mi_X3_fits rI [vA v0] σ (f_X3_fits v0 σ) := by
  refine mm_of (by decide +kernel) rfl rfl (Nat.le_of_ble_eq_true rfl) ?_
  intro X
  unfold f_X3_fits
  refine g_aload_n 0 dX3_fits_0 rfl rfl ?_
  refine g_iconst 0 dX3_fits_1 (by decide) ?_
  refine g_putI fo_2_11 (by decide) rfl q1067 dX3_fits_2 fun σ => ?_
  refine g_aload_n 0 dX3_fits_5 rfl rfl ?_
  refine g_iconst (-1) dX3_fits_6 (by decide) ?_
  refine g_iconst (-1) dX3_fits_7 (by decide) ?_
  refine g_callV_I (mm_X3_fitting _ _ _ _) rfl zc_2 q1587 q1589 qs99 q109 q1590 dv_X3_fitting rfl (Nat.le_of_ble_eq_true rfl) (Nat.le_of_ble_eq_true rfl) (Nat.le_of_ble_eq_true rfl) dX3_fits_8 fun x1 σ => ?_
  refine g_istore_n 1 dX3_fits_11 rfl (lt_b rfl) ?_
  refine g_aload_n 0 dX3_fits_12 rfl rfl ?_
  refine g_iconst 0 dX3_fits_13 (by decide) ?_
  refine g_putI fo_2_10 (by decide) rfl q1066 dX3_fits_14 fun σ => ?_
  refine g_iload_n 1 dX3_fits_17 rfl rfl ?_
  refine g_if_ne 25 dX3_fits_18 (by decide) ?_ ?_
  · refine g_aload_n 0 dX3_fits_25 rfl rfl ?_
    refine g_callV_I (mm_X3_tellWays _ _) rfl zc_2 q1507 q1509 qs95 q109 q1510 dv_X3_tellWays rfl (Nat.le_of_ble_eq_true rfl) (Nat.le_of_ble_eq_true rfl) (Nat.le_of_ble_eq_true rfl) dX3_fits_26 fun x2 σ => ?_
    exact g_iret rfl dX3_fits_29
  · refine g_iconst 0 dX3_fits_21 (by decide) ?_
    refine g_goto 29 dX3_fits_22 (by decide) ?_
    exact g_iret rfl dX3_fits_29
theorem dd_X3_fits : yX3_fits.cls ≠ "java/lang/invoke/MethodHandle" ∧ yX3_fits.cls ≠ "java/lang/invoke/VarHandle" ∧ (parseMethodDescriptor yX3_fits.desc).map (fun d => d.parameters.length) = some 0 := by decide +kernel
theorem dv_X3_fits : yX3_fits.cls = RX3 ∧ yX3_fits.cls ≠ "java/lang/invoke/MethodHandle" ∧ yX3_fits.cls ≠ "java/lang/invoke/VarHandle" ∧ (parseMethodDescriptor yX3_fits.desc).map (fun d => d.parameters.length) = some 0 := ⟨rfl, dd_X3_fits⟩
abbrev mi_X1_reads (n : Nat) : Mi := (cX1_reads, 6, "RockingHorse", 4 + n, some (.object "RockingHorse$Node"), "reads")
theorem dd_X1_reads : yX1_reads.cls ≠ "java/lang/invoke/MethodHandle" ∧ yX1_reads.cls ≠ "java/lang/invoke/VarHandle" ∧ (parseMethodDescriptor yX1_reads.desc).map (fun d => d.parameters.length) = some 1 := by decide +kernel
theorem dv_X1_reads : yX1_reads.cls = RX1 ∧ yX1_reads.cls ≠ "java/lang/invoke/MethodHandle" ∧ yX1_reads.cls ≠ "java/lang/invoke/VarHandle" ∧ (parseMethodDescriptor yX1_reads.desc).map (fun d => d.parameters.length) = some 1 := ⟨rfl, dd_X1_reads⟩
abbrev mi_X1_readsThing (n : Nat) : Mi := (cX1_readsThing, 2, "RockingHorse", 4 + n, some (.object "RockingHorse$Node"), "readsThing")
theorem dd_X1_readsThing : yX1_readsThing.cls ≠ "java/lang/invoke/MethodHandle" ∧ yX1_readsThing.cls ≠ "java/lang/invoke/VarHandle" ∧ (parseMethodDescriptor yX1_readsThing.desc).map (fun d => d.parameters.length) = some 0 := by decide +kernel
theorem dv_X1_readsThing : yX1_readsThing.cls = RX1 ∧ yX1_readsThing.cls ≠ "java/lang/invoke/MethodHandle" ∧ yX1_readsThing.cls ≠ "java/lang/invoke/VarHandle" ∧ (parseMethodDescriptor yX1_readsThing.desc).map (fun d => d.parameters.length) = some 0 := ⟨rfl, dd_X1_readsThing⟩
/-! RockingHorse.reads(I)LRockingHorse$Node; -/
def f_X1_reads_b20 (rc0 : (Option Nat) → Int32 → Hp → Option (Option Nat × Hp)) (rc1 : (Option Nat) → Hp → Option (Option Nat × Hp)) (v0 : Option Nat) (v1 : Int32) (k0 : (Option Nat) → Hp → Option (Option Nat × Hp)) (ag : (Option Nat × Int32) → Hp → Option (Option Nat × Hp)) (a : Option Nat × Int32) (σ : Hp) : Option (Option Nat × Hp) :=
  nul a.1 (
    k0 a.1 σ) (
    if a.2 = 0 then
      k0 a.1 σ
    else
      bnd (f_X1_acts v1 σ) fun k2 σ =>
      ob 0 σ v0 fun _ => bnd (f_X1_among v0 k2 σ) fun x3 σ =>
      if x3 < 0 then
        k0 a.1 σ
      else
        gR 0 9 σ v0 fun y4 =>
        gI 0 11 σ v0 fun x5 =>
        lI 100 σ y4 x5 fun x6 =>
        gI 0 11 σ v0 fun x7 =>
        pI 0 0 11 σ v0 (x7 + 1) fun σ =>
        ob 0 σ v0 fun _ => bnd (rc0 v0 (v1 + 1) σ) fun y8 σ =>
        jn (fun (a9 : Option Nat) σ =>
            jn (fun (a11 : Int32) σ =>
                ag (a9, a11) σ) fun j12 =>
            if v1 ≤ 0 then
              j12 0 σ
            else
              j12 1 σ) fun j10 =>
        nul y8 (
          j10 none σ) (
          nO 6 5 σ fun y13 σ =>
          nn y13 <| bnd (f_X8_init y13 v0 (i2c x6) a.1 y8 σ) fun _ σ =>
          j10 y13 σ))
def fb_X1_reads (rc0 : (Option Nat) → Int32 → Hp → Option (Option Nat × Hp)) (rc1 : (Option Nat) → Hp → Option (Option Nat × Hp)) (v0 : Option Nat) (v1 : Int32) (σ : Hp) : Option (Option Nat × Hp) :=
  if v1 = 3 then
    ob 0 σ v0 fun _ => bnd (rc1 v0 σ) fun y15 σ =>
    some (y15, σ)
  else
    ob 0 σ v0 fun _ => bnd (rc0 v0 (v1 + 1) σ) fun y1 σ =>
    lp 2000 (f_X1_reads_b20 rc0 rc1 v0 v1 (fun (a14 : Option Nat) σ =>
        some (a14, σ))) (y1, 1) σ
theorem ok_X1_reads_b20 (n : Nat) (rc0 : (Option Nat) → Int32 → Hp → Option (Option Nat × Hp)) (rc1 : (Option Nat) → Hp → Option (Option Nat × Hp)) (ih0 : ∀ (v0 : Option Nat) (v1 : Int32) (σ : Hp), MM yX1_reads (mi_X1_reads n) rA [vA v0, vI v1] σ (rc0 v0 v1 σ)) (ih1 : ∀ (v0 : Option Nat) (σ : Hp), MM yX1_readsThing (mi_X1_readsThing n) rA [vA v0] σ (rc1 v0 σ)) (X : Mx) (v0 : Option Nat) (v1 : Int32) {k0 : (Option Nat) → Hp → Option (Option Nat × Hp)} (hk0 : ∀ (a : Option Nat) (σ : Hp), GG X (mi_X1_reads (n + 1)) (QM X rA) 106 [(2, vA a)] [] σ (k0 a σ)) : ∀ (m : Nat) (a : Option Nat × Int32) (σ : Hp), GG X (mi_X1_reads (n + 1)) (QM X rA) 20 [(0, vA v0), (1, vI v1), (2, vA a.1), (3, vI a.2)] [] σ (lp m (f_X1_reads_b20 rc0 rc1 v0 v1 k0) a σ) := by
  refine g_lp (fun (a : Option Nat × Int32) => [(0, vA v0), (1, vI v1), (2, vA a.1), (3, vI a.2)]) ?_
  intro ag hag a σ
  unfold f_X1_reads_b20
  refine g_aload_n 2 dX1_reads_20 rfl rfl ?_
  refine g_ifnull 106 dX1_reads_21 (by decide) ?_ ?_
  · exact g_jmp (hk0 _ _) rfl
  · refine g_iload_n 3 dX1_reads_24 rfl rfl ?_
    refine g_if_eq 106 dX1_reads_25 (by decide) ?_ ?_
    · exact g_jmp (hk0 _ _) rfl
    · refine g_aload_n 0 dX1_reads_28 rfl rfl ?_
      refine g_iload_n 1 dX1_reads_29 rfl rfl ?_
      refine g_callS_S (mm_X1_acts _ _) rfl q546 q547 q107 q548 dd_X1_acts rfl (by show 0 + 1 ≤ 4 + (n + 1); omega) (Nat.le_of_ble_eq_true rfl) (Nat.le_of_ble_eq_true rfl) dX1_reads_30 fun k2 σ => ?_
      refine g_callV_I (mm_X1_among _ _ _) rfl zc_0 q369 q371 qs3 q107 q372 dv_X1_among rfl (by show 4 + 1 ≤ 4 + (n + 1); omega) (Nat.le_of_ble_eq_true rfl) (Nat.le_of_ble_eq_true rfl) dX1_reads_33 fun x3 σ => ?_
      refine g_if_lt 106 dX1_reads_36 (by decide) ?_ ?_
      · exact g_jmp (hk0 _ _) rfl
      · refine g_aload_n 0 dX1_reads_39 rfl rfl ?_
        refine g_getR fo_0_9 q183 dX1_reads_40 fun y4 => ?_
        refine g_aload_n 0 dX1_reads_43 rfl rfl ?_
        refine g_getI fo_0_11 (by decide) q185 dX1_reads_44 fun x5 => ?_
        refine g_iaload dX1_reads_47 fun x6 => ?_
        refine g_i2c dX1_reads_48 ?_
        refine g_istore dX1_reads_49 (lt_b rfl) ?_
        refine g_aload_n 0 dX1_reads_51 rfl rfl ?_
        refine g_dup dX1_reads_52 rfl ?_
        refine g_getI fo_0_11 (by decide) q185 dX1_reads_53 fun x7 => ?_
        refine g_iconst 1 dX1_reads_56 (by decide) ?_
        refine g_iadd dX1_reads_57 ?_
        refine g_putI fo_0_11 (by decide) rfl q185 dX1_reads_58 fun σ => ?_
        refine g_aload_n 0 dX1_reads_61 rfl rfl ?_
        refine g_iload_n 1 dX1_reads_62 rfl rfl ?_
        refine g_iconst 1 dX1_reads_63 (by decide) ?_
        refine g_iadd dX1_reads_64 ?_
        refine g_callV_A (ih0 _ _ _) rfl zc_0 q480 q482 qs8 q107 q483 dv_X1_reads rfl (Nat.le_refl _) (Nat.le_of_ble_eq_true rfl) (Nat.le_of_ble_eq_true rfl) dX1_reads_65 fun y8 σ => ?_
        refine g_astore dX1_reads_68 (lt_b rfl) ?_
        refine g_aload dX1_reads_70 rfl ?_
        refine g_jn (fun j10 => ∀ (a9 : Option Nat) (σ : Hp), GG X (mi_X1_reads (n + 1)) (QM X rA) 92 [(0, vA v0), (1, vI v1)] [vA a9] σ (j10 a9 σ)) ?_ ?_
        · intro a9 σ
          refine g_astore_n 2 dX1_reads_92 rfl (lt_b rfl) ?_
          refine g_iload_n 1 dX1_reads_93 rfl rfl ?_
          refine g_jn (fun j12 => ∀ (a11 : Int32) (σ : Hp), GG X (mi_X1_reads (n + 1)) (QM X rA) 102 [(0, vA v0), (1, vI v1), (2, vA a9)] [vI a11] σ (j12 a11 σ)) ?_ ?_
          · intro a11 σ
            refine g_istore_n 3 dX1_reads_102 rfl (lt_b rfl) ?_
            refine g_goto 20 dX1_reads_103 (by decide) ?_
            exact g_jmp (hag _ _) rfl
          · intro j12 hj12
            refine g_if_le 101 dX1_reads_94 (by decide) ?_ ?_
            · refine g_iconst 0 dX1_reads_101 (by decide) ?_
              exact g_jmp (hj12 _ _) rfl
            · refine g_iconst 1 dX1_reads_97 (by decide) ?_
              refine g_goto 102 dX1_reads_98 (by decide) ?_
              exact g_jmp (hj12 _ _) rfl
        · intro j10 hj10
          refine g_ifnonnull 79 dX1_reads_72 (by decide) ?_ ?_
          · refine g_new zc_6 tcok_6 q552 q553 q120 dX1_reads_79 fun y13 σ => ?_
            refine g_dup dX1_reads_82 rfl ?_
            refine g_aload_n 0 dX1_reads_83 rfl rfl ?_
            refine g_iload dX1_reads_84 rfl ?_
            refine g_aload_n 2 dX1_reads_86 rfl rfl ?_
            refine g_aload dX1_reads_87 rfl ?_
            refine g_callI_V (mm_X8_init _ _ _ _ _ _) rfl rfl q554 q555 q120 q556 rfl dd_X8_init rfl (by show 2 + 1 ≤ 4 + (n + 1); omega) (Nat.le_of_ble_eq_true rfl) (Nat.le_of_ble_eq_true rfl) dX1_reads_89 fun _ σ => ?_
            exact g_jmp (hj10 _ _) rfl
          · refine g_aconst_null dX1_reads_75 ?_
            refine g_goto 92 dX1_reads_76 (by decide) ?_
            exact g_jmp (hj10 _ _) rfl
theorem mb_X1_reads (n : Nat) (rc0 : (Option Nat) → Int32 → Hp → Option (Option Nat × Hp)) (rc1 : (Option Nat) → Hp → Option (Option Nat × Hp)) (ih0 : ∀ (v0 : Option Nat) (v1 : Int32) (σ : Hp), MM yX1_reads (mi_X1_reads n) rA [vA v0, vI v1] σ (rc0 v0 v1 σ)) (ih1 : ∀ (v0 : Option Nat) (σ : Hp), MM yX1_readsThing (mi_X1_readsThing n) rA [vA v0] σ (rc1 v0 σ)) : ∀ (v0 : Option Nat) (v1 : Int32) (σ : Hp), MM yX1_reads (mi_X1_reads (n + 1)) rA [vA v0, vI v1] σ (fb_X1_reads rc0 rc1 v0 v1 σ) := by
  intro v0 v1 σ
  refine mm_of (by decide +kernel) rfl rfl (Nat.le_of_ble_eq_true rfl) ?_
  intro X
  unfold fb_X1_reads
  refine g_iload_n 1 dX1_reads_0 rfl rfl ?_
  refine g_iconst 3 dX1_reads_1 (by decide) ?_
  refine g_icmp_ne 10 dX1_reads_2 (by decide) ?_ ?_
  · refine g_aload_n 0 dX1_reads_10 rfl rfl ?_
    refine g_iload_n 1 dX1_reads_11 rfl rfl ?_
    refine g_iconst 1 dX1_reads_12 (by decide) ?_
    refine g_iadd dX1_reads_13 ?_
    refine g_callV_A (ih0 _ _ _) rfl zc_0 q480 q482 qs8 q107 q483 dv_X1_reads rfl (Nat.le_refl _) (Nat.le_of_ble_eq_true rfl) (Nat.le_of_ble_eq_true rfl) dX1_reads_14 fun y1 σ => ?_
    refine g_astore_n 2 dX1_reads_17 rfl (lt_b rfl) ?_
    refine g_iconst 1 dX1_reads_18 (by decide) ?_
    refine g_istore_n 3 dX1_reads_19 rfl (lt_b rfl) ?_
    refine g_jmp (ok_X1_reads_b20 n rc0 rc1 ih0 ih1 X v0 v1 ?_ _ _ _) rfl
    · intro a14 σ
      refine g_aload_n 2 dX1_reads_106 rfl rfl ?_
      exact g_aret rfl (Or.inl ⟨_, rfl⟩) dX1_reads_107
  · refine g_aload_n 0 dX1_reads_5 rfl rfl ?_
    refine g_callV_A (ih1 _ _) rfl zc_0 q484 q486 qs9 q107 q487 dv_X1_readsThing rfl (Nat.le_refl _) (Nat.le_of_ble_eq_true rfl) (Nat.le_of_ble_eq_true rfl) dX1_reads_6 fun y15 σ => ?_
    exact g_aret rfl (Or.inl ⟨_, rfl⟩) dX1_reads_9
/-! RockingHorse.readsThing()LRockingHorse$Node; -/
def fb_X1_readsThing (rc0 : (Option Nat) → Int32 → Hp → Option (Option Nat × Hp)) (rc1 : (Option Nat) → Hp → Option (Option Nat × Hp)) (v0 : Option Nat) (σ : Hp) : Option (Option Nat × Hp) :=
  ob 0 σ v0 fun _ => bnd (f_X1_takes v0 45 σ) fun x1 σ =>
  if x1 = 0 then
    ob 0 σ v0 fun _ => bnd (f_X1_isDigit v0 σ) fun x2 σ =>
    if x2 = 0 then
      ob 0 σ v0 fun _ => bnd (f_X1_among v0 3 σ) fun x3 σ =>
      if x3 < 0 then
        ob 0 σ v0 fun _ => bnd (f_X1_isAt v0 40 σ) fun x4 σ =>
        jn (fun (a5 : Unit) σ =>
            some (none, σ)) fun j6 =>
        if x4 = 0 then
          j6 () σ
        else
          gI 0 13 σ v0 fun x7 =>
          if x7 = 4 then
            j6 () σ
          else
            gI 0 11 σ v0 fun x8 =>
            pI 0 0 11 σ v0 (x8 + 1) fun σ =>
            gI 0 13 σ v0 fun x9 =>
            pI 0 0 13 σ v0 (x9 + 1) fun σ =>
            ob 0 σ v0 fun _ => bnd (rc0 v0 0 σ) fun y10 σ =>
            jn (fun (a11 : Unit) σ =>
                some (none, σ)) fun j12 =>
            nul y10 (
              j12 () σ) (
              ob 0 σ v0 fun _ => bnd (f_X1_takes v0 41 σ) fun x13 σ =>
              if x13 = 0 then
                j12 () σ
              else
                gI 0 13 σ v0 fun x14 =>
                pI 0 0 13 σ v0 (x14 - 1) fun σ =>
                some (y10, σ))
      else
        gI 0 11 σ v0 fun x15 =>
        pI 0 0 11 σ v0 (x15 + 1) fun σ =>
        nO 5 3 σ fun y16 σ =>
        gR 0 9 σ v0 fun y17 =>
        gI 0 11 σ v0 fun x18 =>
        lI 100 σ y17 (x18 - 1) fun x19 =>
        nn y16 <| bnd (f_X7_init y16 v0 x19 σ) fun _ σ =>
        some (y16, σ)
    else
      nO 4 3 σ fun y20 σ =>
      ob 0 σ v0 fun _ => bnd (f_X1_number v0 3 σ) fun x21 σ =>
      nn y20 <| bnd (f_X6_init y20 v0 x21 σ) fun _ σ =>
      some (y20, σ)
  else
    ob 0 σ v0 fun _ => bnd (rc1 v0 σ) fun y22 σ =>
    nul y22 (
      some (none, σ)) (
      nO 3 3 σ fun y23 σ =>
      nn y23 <| bnd (f_X5_init y23 v0 y22 σ) fun _ σ =>
      some (y23, σ))
theorem mb_X1_readsThing (n : Nat) (rc0 : (Option Nat) → Int32 → Hp → Option (Option Nat × Hp)) (rc1 : (Option Nat) → Hp → Option (Option Nat × Hp)) (ih0 : ∀ (v0 : Option Nat) (v1 : Int32) (σ : Hp), MM yX1_reads (mi_X1_reads n) rA [vA v0, vI v1] σ (rc0 v0 v1 σ)) (ih1 : ∀ (v0 : Option Nat) (σ : Hp), MM yX1_readsThing (mi_X1_readsThing n) rA [vA v0] σ (rc1 v0 σ)) : ∀ (v0 : Option Nat) (σ : Hp), MM yX1_readsThing (mi_X1_readsThing (n + 1)) rA [vA v0] σ (fb_X1_readsThing rc0 rc1 v0 σ) := by
  intro v0 σ
  refine mm_of (by decide +kernel) rfl rfl (Nat.le_of_ble_eq_true rfl) ?_
  intro X
  unfold fb_X1_readsThing
  refine g_aload_n 0 dX1_readsThing_0 rfl rfl ?_
  refine g_bipush 45 dX1_readsThing_1 (by decide) ?_
  refine g_callV_I (mm_X1_takes _ _ _) rfl zc_0 q459 q461 qs4 q107 q462 dv_X1_takes rfl (by show 1 + 1 ≤ 4 + (n + 1); omega) (Nat.le_of_ble_eq_true rfl) (Nat.le_of_ble_eq_true rfl) dX1_readsThing_3 fun x1 σ => ?_
  refine g_if_eq 32 dX1_readsThing_6 (by decide) ?_ ?_
  · refine g_aload_n 0 dX1_readsThing_32 rfl rfl ?_
    refine g_callV_I (mm_X1_isDigit _ _) rfl zc_0 q507 q509 qs10 q107 q510 dv_X1_isDigit rfl (by show 1 + 1 ≤ 4 + (n + 1); omega) (Nat.le_of_ble_eq_true rfl) (Nat.le_of_ble_eq_true rfl) dX1_readsThing_33 fun x2 σ => ?_
    refine g_if_eq 53 dX1_readsThing_36 (by decide) ?_ ?_
    · refine g_aload_n 0 dX1_readsThing_53 rfl rfl ?_
      refine g_ldcS (k := 3) (by decide) rfl rfl dX1_readsThing_54 ?_
      refine g_callV_I (mm_X1_among _ _ _) rfl zc_0 q369 q371 qs3 q107 q372 dv_X1_among rfl (by show 4 + 1 ≤ 4 + (n + 1); omega) (Nat.le_of_ble_eq_true rfl) (Nat.le_of_ble_eq_true rfl) dX1_readsThing_56 fun x3 σ => ?_
      refine g_if_lt 92 dX1_readsThing_59 (by decide) ?_ ?_
      · refine g_aload_n 0 dX1_readsThing_92 rfl rfl ?_
        refine g_bipush 40 dX1_readsThing_93 (by decide) ?_
        refine g_callV_I (mm_X1_isAt _ _ _) rfl zc_0 q463 q465 qs5 q107 q466 dv_X1_isAt rfl (by show 0 + 1 ≤ 4 + (n + 1); omega) (Nat.le_of_ble_eq_true rfl) (Nat.le_of_ble_eq_true rfl) dX1_readsThing_95 fun x4 σ => ?_
        refine g_jn (fun j6 => ∀ (a5 : Unit) (σ : Hp), GG X (mi_X1_readsThing (n + 1)) (QM X rA) 109 [] [] σ (j6 a5 σ)) ?_ ?_
        · intro a5 σ
          refine g_aconst_null dX1_readsThing_109 ?_
          exact g_aret rfl (Or.inl ⟨_, rfl⟩) dX1_readsThing_110
        · intro j6 hj6
          refine g_if_eq 109 dX1_readsThing_98 (by decide) ?_ ?_
          · exact g_jmp (hj6 _ _) rfl
          · refine g_aload_n 0 dX1_readsThing_101 rfl rfl ?_
            refine g_getI fo_0_13 (by decide) q187 dX1_readsThing_102 fun x7 => ?_
            refine g_iconst 4 dX1_readsThing_105 (by decide) ?_
            refine g_icmp_ne 111 dX1_readsThing_106 (by decide) ?_ ?_
            · refine g_aload_n 0 dX1_readsThing_111 rfl rfl ?_
              refine g_dup dX1_readsThing_112 rfl ?_
              refine g_getI fo_0_11 (by decide) q185 dX1_readsThing_113 fun x8 => ?_
              refine g_iconst 1 dX1_readsThing_116 (by decide) ?_
              refine g_iadd dX1_readsThing_117 ?_
              refine g_putI fo_0_11 (by decide) rfl q185 dX1_readsThing_118 fun σ => ?_
              refine g_aload_n 0 dX1_readsThing_121 rfl rfl ?_
              refine g_dup dX1_readsThing_122 rfl ?_
              refine g_getI fo_0_13 (by decide) q187 dX1_readsThing_123 fun x9 => ?_
              refine g_iconst 1 dX1_readsThing_126 (by decide) ?_
              refine g_iadd dX1_readsThing_127 ?_
              refine g_putI fo_0_13 (by decide) rfl q187 dX1_readsThing_128 fun σ => ?_
              refine g_aload_n 0 dX1_readsThing_131 rfl rfl ?_
              refine g_iconst 0 dX1_readsThing_132 (by decide) ?_
              refine g_callV_A (ih0 _ _ _) rfl zc_0 q480 q482 qs8 q107 q483 dv_X1_reads rfl (Nat.le_refl _) (Nat.le_of_ble_eq_true rfl) (Nat.le_of_ble_eq_true rfl) dX1_readsThing_133 fun y10 σ => ?_
              refine g_astore_n 1 dX1_readsThing_136 rfl (lt_b rfl) ?_
              refine g_aload_n 1 dX1_readsThing_137 rfl rfl ?_
              refine g_jn (fun j12 => ∀ (a11 : Unit) (σ : Hp), GG X (mi_X1_readsThing (n + 1)) (QM X rA) 150 [] [] σ (j12 a11 σ)) ?_ ?_
              · intro a11 σ
                refine g_aconst_null dX1_readsThing_150 ?_
                exact g_aret rfl (Or.inl ⟨_, rfl⟩) dX1_readsThing_151
              · intro j12 hj12
                refine g_ifnull 150 dX1_readsThing_138 (by decide) ?_ ?_
                · exact g_jmp (hj12 _ _) rfl
                · refine g_aload_n 0 dX1_readsThing_141 rfl rfl ?_
                  refine g_bipush 41 dX1_readsThing_142 (by decide) ?_
                  refine g_callV_I (mm_X1_takes _ _ _) rfl zc_0 q459 q461 qs4 q107 q462 dv_X1_takes rfl (by show 1 + 1 ≤ 4 + (n + 1); omega) (Nat.le_of_ble_eq_true rfl) (Nat.le_of_ble_eq_true rfl) dX1_readsThing_144 fun x13 σ => ?_
                  refine g_if_ne 152 dX1_readsThing_147 (by decide) ?_ ?_
                  · refine g_aload_n 0 dX1_readsThing_152 rfl rfl ?_
                    refine g_dup dX1_readsThing_153 rfl ?_
                    refine g_getI fo_0_13 (by decide) q187 dX1_readsThing_154 fun x14 => ?_
                    refine g_iconst 1 dX1_readsThing_157 (by decide) ?_
                    refine g_isub dX1_readsThing_158 ?_
                    refine g_putI fo_0_13 (by decide) rfl q187 dX1_readsThing_159 fun σ => ?_
                    refine g_aload_n 1 dX1_readsThing_162 rfl rfl ?_
                    exact g_aret rfl (Or.inl ⟨_, rfl⟩) dX1_readsThing_163
                  · exact g_jmp (hj12 _ _) rfl
            · exact g_jmp (hj6 _ _) rfl
      · refine g_aload_n 0 dX1_readsThing_62 rfl rfl ?_
        refine g_dup dX1_readsThing_63 rfl ?_
        refine g_getI fo_0_11 (by decide) q185 dX1_readsThing_64 fun x15 => ?_
        refine g_iconst 1 dX1_readsThing_67 (by decide) ?_
        refine g_iadd dX1_readsThing_68 ?_
        refine g_putI fo_0_11 (by decide) rfl q185 dX1_readsThing_69 fun σ => ?_
        refine g_new zc_5 tcok_5 q532 q533 q119 dX1_readsThing_72 fun y16 σ => ?_
        refine g_dup dX1_readsThing_75 rfl ?_
        refine g_aload_n 0 dX1_readsThing_76 rfl rfl ?_
        refine g_aload_n 0 dX1_readsThing_77 rfl rfl ?_
        refine g_getR fo_0_9 q183 dX1_readsThing_78 fun y17 => ?_
        refine g_aload_n 0 dX1_readsThing_81 rfl rfl ?_
        refine g_getI fo_0_11 (by decide) q185 dX1_readsThing_82 fun x18 => ?_
        refine g_iconst 1 dX1_readsThing_85 (by decide) ?_
        refine g_isub dX1_readsThing_86 ?_
        refine g_iaload dX1_readsThing_87 fun x19 => ?_
        refine g_callI_V (mm_X7_init _ _ _ _) rfl rfl q534 q535 q119 q536 rfl dd_X7_init rfl (by show 2 + 1 ≤ 4 + (n + 1); omega) (Nat.le_of_ble_eq_true rfl) (Nat.le_of_ble_eq_true rfl) dX1_readsThing_88 fun _ σ => ?_
        exact g_aret rfl (Or.inl ⟨_, rfl⟩) dX1_readsThing_91
    · refine g_new zc_4 tcok_4 q513 q514 q118 dX1_readsThing_39 fun y20 σ => ?_
      refine g_dup dX1_readsThing_42 rfl ?_
      refine g_aload_n 0 dX1_readsThing_43 rfl rfl ?_
      refine g_aload_n 0 dX1_readsThing_44 rfl rfl ?_
      refine g_iconst 3 dX1_readsThing_45 (by decide) ?_
      refine g_callV_I (mm_X1_number _ _ _) rfl zc_0 q515 q517 qs11 q107 q518 dv_X1_number rfl (by show 2 + 1 ≤ 4 + (n + 1); omega) (Nat.le_of_ble_eq_true rfl) (Nat.le_of_ble_eq_true rfl) dX1_readsThing_46 fun x21 σ => ?_
      refine g_callI_V (mm_X6_init _ _ _ _) rfl rfl q519 q520 q118 q521 rfl dd_X6_init rfl (by show 2 + 1 ≤ 4 + (n + 1); omega) (Nat.le_of_ble_eq_true rfl) (Nat.le_of_ble_eq_true rfl) dX1_readsThing_49 fun _ σ => ?_
      exact g_aret rfl (Or.inl ⟨_, rfl⟩) dX1_readsThing_52
  · refine g_aload_n 0 dX1_readsThing_9 rfl rfl ?_
    refine g_callV_A (ih1 _ _) rfl zc_0 q484 q486 qs9 q107 q487 dv_X1_readsThing rfl (Nat.le_refl _) (Nat.le_of_ble_eq_true rfl) (Nat.le_of_ble_eq_true rfl) dX1_readsThing_10 fun y22 σ => ?_
    refine g_astore_n 1 dX1_readsThing_13 rfl (lt_b rfl) ?_
    refine g_aload_n 1 dX1_readsThing_14 rfl rfl ?_
    refine g_ifnonnull 22 dX1_readsThing_15 (by decide) ?_ ?_
    · refine g_new zc_3 tcok_3 q488 q489 q117 dX1_readsThing_22 fun y23 σ => ?_
      refine g_dup dX1_readsThing_25 rfl ?_
      refine g_aload_n 0 dX1_readsThing_26 rfl rfl ?_
      refine g_aload_n 1 dX1_readsThing_27 rfl rfl ?_
      refine g_callI_V (mm_X5_init _ _ _ _) rfl rfl q490 q491 q117 q492 rfl dd_X5_init rfl (by show 2 + 1 ≤ 4 + (n + 1); omega) (Nat.le_of_ble_eq_true rfl) (Nat.le_of_ble_eq_true rfl) dX1_readsThing_28 fun _ σ => ?_
      exact g_aret rfl (Or.inl ⟨_, rfl⟩) dX1_readsThing_31
    · refine g_aconst_null dX1_readsThing_18 ?_
      refine g_goto 31 dX1_readsThing_19 (by decide) ?_
      exact g_aret rfl (Or.inl ⟨_, rfl⟩) dX1_readsThing_31
def g_reads : Nat → ((Option Nat) → Int32 → Hp → Option (Option Nat × Hp)) × ((Option Nat) → Hp → Option (Option Nat × Hp))
  | 0 => (fun _ _ _ => none, fun _ _ => none)
  | n + 1 => (fb_X1_reads (g_reads n).1 (g_reads n).2, fb_X1_readsThing (g_reads n).1 (g_reads n).2)
def f_X1_reads (n : Nat) (v0 : Option Nat) (v1 : Int32) (σ : Hp) : Option (Option Nat × Hp) := (g_reads n).1 v0 v1 σ
def f_X1_readsThing (n : Nat) (v0 : Option Nat) (σ : Hp) : Option (Option Nat × Hp) := (g_reads n).2 v0 σ
theorem gm_reads : ∀ n : Nat, (∀ (v0 : Option Nat) (v1 : Int32) (σ : Hp), MM yX1_reads (mi_X1_reads n) rA [vA v0, vI v1] σ (f_X1_reads n v0 v1 σ)) ∧ (∀ (v0 : Option Nat) (σ : Hp), MM yX1_readsThing (mi_X1_readsThing n) rA [vA v0] σ (f_X1_readsThing n v0 σ)) := by
  intro n
  induction n with
  | zero => exact ⟨(fun _ _ σ r σf h => (nomatch (show (none : Option (Option Nat × Hp)) = some (r, σf) from h))), (fun _ σ r σf h => (nomatch (show (none : Option (Option Nat × Hp)) = some (r, σf) from h)))⟩
  | succ n ih => exact ⟨mb_X1_reads n _ _ ih.1 ih.2, mb_X1_readsThing n _ _ ih.1 ih.2⟩
theorem mm_X1_reads (n : Nat) (v0 : Option Nat) (v1 : Int32) (σ : Hp) : MM yX1_reads (mi_X1_reads n) rA [vA v0, vI v1] σ (f_X1_reads n v0 v1 σ) := (gm_reads n).1 v0 v1 σ
theorem mm_X1_readsThing (n : Nat) (v0 : Option Nat) (σ : Hp) : MM yX1_readsThing (mi_X1_readsThing n) rA [vA v0] σ (f_X1_readsThing n v0 σ) := (gm_reads n).2 v0 σ
/-! RockingHorse.takesOf(Ljava/lang/String;)I -/
abbrev mi_X1_takesOf : Mi := (cX1_takesOf, 3, "RockingHorse", 5, some .int, "takesOf")
def f_X1_takesOf (v0 : Option Nat) (v1 : Nat) (σ : Hp) : Option (Int32 × Hp) :=
  ob 0 σ v0 fun _ => bnd (f_X1_among v0 v1 σ) fun x1 σ =>
  gI 0 11 σ v0 fun x2 =>
  jn (fun (a3 : Int32) σ =>
      pI 0 0 11 σ v0 (x2 + a3) fun σ =>
      some (x1, σ)) fun j4 =>
  if x1 < 0 then
    j4 0 σ
  else
    j4 1 σ
theorem mm_X1_takesOf (v0 : Option Nat) (v1 : Nat) (σ : Hp) : MM yX1_takesOf mi_X1_takesOf rI [vA v0, vS v1] σ (f_X1_takesOf v0 v1 σ) := by
  refine mm_of (by decide +kernel) rfl rfl (Nat.le_of_ble_eq_true rfl) ?_
  intro X
  unfold f_X1_takesOf
  refine g_aload_n 0 dX1_takesOf_0 rfl rfl ?_
  refine g_aload_nS 1 dX1_takesOf_1 rfl rfl ?_
  refine g_callV_I (mm_X1_among _ _ _) rfl zc_0 q369 q371 qs3 q107 q372 dv_X1_among rfl (Nat.le_of_ble_eq_true rfl) (Nat.le_of_ble_eq_true rfl) (Nat.le_of_ble_eq_true rfl) dX1_takesOf_2 fun x1 σ => ?_
  refine g_istore_n 2 dX1_takesOf_5 rfl (lt_b rfl) ?_
  refine g_aload_n 0 dX1_takesOf_6 rfl rfl ?_
  refine g_dup dX1_takesOf_7 rfl ?_
  refine g_getI fo_0_11 (by decide) q185 dX1_takesOf_8 fun x2 => ?_
  refine g_iload_n 2 dX1_takesOf_11 rfl rfl ?_
  refine g_jn (fun j4 => ∀ (a3 : Int32) (σ : Hp), GG X mi_X1_takesOf (QM X rI) 20 [(2, vI x1)] [vI a3, vI x2, vA v0] σ (j4 a3 σ)) ?_ ?_
  · intro a3 σ
    refine g_iadd dX1_takesOf_20 ?_
    refine g_putI fo_0_11 (by decide) rfl q185 dX1_takesOf_21 fun σ => ?_
    refine g_iload_n 2 dX1_takesOf_24 rfl rfl ?_
    exact g_iret rfl dX1_takesOf_25
  · intro j4 hj4
    refine g_if_lt 19 dX1_takesOf_12 (by decide) ?_ ?_
    · refine g_iconst 0 dX1_takesOf_19 (by decide) ?_
      exact g_jmp (hj4 _ _) rfl
    · refine g_iconst 1 dX1_takesOf_15 (by decide) ?_
      refine g_goto 20 dX1_takesOf_16 (by decide) ?_
      exact g_jmp (hj4 _ _) rfl
theorem dd_X1_takesOf : yX1_takesOf.cls ≠ "java/lang/invoke/MethodHandle" ∧ yX1_takesOf.cls ≠ "java/lang/invoke/VarHandle" ∧ (parseMethodDescriptor yX1_takesOf.desc).map (fun d => d.parameters.length) = some 1 := by decide +kernel
theorem dv_X1_takesOf : yX1_takesOf.cls = RX1 ∧ yX1_takesOf.cls ≠ "java/lang/invoke/MethodHandle" ∧ yX1_takesOf.cls ≠ "java/lang/invoke/VarHandle" ∧ (parseMethodDescriptor yX1_takesOf.desc).map (fun d => d.parameters.length) = some 1 := ⟨rfl, dd_X1_takesOf⟩
/-! RockingHorse.readsRule()I -/
abbrev mi_X1_readsRule : Mi := (cX1_readsRule, 2, "RockingHorse", 205, some .int, "readsRule")
def f_X1_readsRule (v0 : Option Nat) (σ : Hp) : Option (Int32 × Hp) :=
  ob 0 σ v0 fun _ => bnd (f_X1_begins v0 40 σ) fun x1 σ =>
  jn (fun (a2 : Option Nat) σ =>
      pR 0 22 σ v0 a2 fun σ =>
      if x1 = 0 then
        some (0, σ)
      else
        gR 0 22 σ v0 fun y4 =>
        jn (fun (a5 : Int32) σ =>
            ob 0 σ v0 fun _ => bnd (f_X1_faultOf v0 x1 a5 σ) fun x7 σ =>
            some (x7, σ)) fun j6 =>
        nul y4 (
          j6 0 σ) (
          j6 1 σ)) fun j3 =>
  if x1 = 0 then
    j3 none σ
  else
    ob 0 σ v0 fun _ => bnd (f_X1_reads 200 v0 0 σ) fun y8 σ =>
    j3 y8 σ
theorem mm_X1_readsRule (v0 : Option Nat) (σ : Hp) : MM yX1_readsRule mi_X1_readsRule rI [vA v0] σ (f_X1_readsRule v0 σ) := by
  refine mm_of (by decide +kernel) rfl rfl (Nat.le_of_ble_eq_true rfl) ?_
  intro X
  unfold f_X1_readsRule
  refine g_aload_n 0 dX1_readsRule_0 rfl rfl ?_
  refine g_bipush 40 dX1_readsRule_1 (by decide) ?_
  refine g_callV_I (mm_X1_begins _ _ _) rfl zc_0 q353 q355 qs0 q107 q356 dv_X1_begins rfl (Nat.le_of_ble_eq_true rfl) (Nat.le_of_ble_eq_true rfl) (Nat.le_of_ble_eq_true rfl) dX1_readsRule_3 fun x1 σ => ?_
  refine g_istore_n 1 dX1_readsRule_6 rfl (lt_b rfl) ?_
  refine g_aload_n 0 dX1_readsRule_7 rfl rfl ?_
  refine g_iload_n 1 dX1_readsRule_8 rfl rfl ?_
  refine g_jn (fun j3 => ∀ (a2 : Option Nat) (σ : Hp), GG X mi_X1_readsRule (QM X rI) 21 [(0, vA v0), (1, vI x1)] [vA a2, vA v0] σ (j3 a2 σ)) ?_ ?_
  · intro a2 σ
    refine g_putR fo_0_22 rfl q199 dX1_readsRule_21 fun σ => ?_
    refine g_iload_n 1 dX1_readsRule_24 rfl rfl ?_
    refine g_if_ne 32 dX1_readsRule_25 (by decide) ?_ ?_
    · refine g_aload_n 0 dX1_readsRule_32 rfl rfl ?_
      refine g_iload_n 1 dX1_readsRule_33 rfl rfl ?_
      refine g_aload_n 0 dX1_readsRule_34 rfl rfl ?_
      refine g_getR fo_0_22 q199 dX1_readsRule_35 fun y4 => ?_
      refine g_jn (fun j6 => ∀ (a5 : Int32) (σ : Hp), GG X mi_X1_readsRule (QM X rI) 46 [] [vI a5, vI x1, vA v0] σ (j6 a5 σ)) ?_ ?_
      · intro a5 σ
        refine g_callV_I (mm_X1_faultOf _ _ _ _) rfl zc_0 q467 q469 qs6 q107 q470 dv_X1_faultOf rfl (Nat.le_of_ble_eq_true rfl) (Nat.le_of_ble_eq_true rfl) (Nat.le_of_ble_eq_true rfl) dX1_readsRule_46 fun x7 σ => ?_
        exact g_iret rfl dX1_readsRule_49
      · intro j6 hj6
        refine g_ifnull 45 dX1_readsRule_38 (by decide) ?_ ?_
        · refine g_iconst 0 dX1_readsRule_45 (by decide) ?_
          exact g_jmp (hj6 _ _) rfl
        · refine g_iconst 1 dX1_readsRule_41 (by decide) ?_
          refine g_goto 46 dX1_readsRule_42 (by decide) ?_
          exact g_jmp (hj6 _ _) rfl
    · refine g_iconst 0 dX1_readsRule_28 (by decide) ?_
      refine g_goto 49 dX1_readsRule_29 (by decide) ?_
      exact g_iret rfl dX1_readsRule_49
  · intro j3 hj3
    refine g_if_ne 16 dX1_readsRule_9 (by decide) ?_ ?_
    · refine g_aload_n 0 dX1_readsRule_16 rfl rfl ?_
      refine g_iconst 0 dX1_readsRule_17 (by decide) ?_
      refine g_callV_A (mm_X1_reads 200 _ _ _) rfl zc_0 q480 q482 qs8 q107 q483 dv_X1_reads rfl (Nat.le_of_ble_eq_true rfl) (Nat.le_of_ble_eq_true rfl) (Nat.le_of_ble_eq_true rfl) dX1_readsRule_18 fun y8 σ => ?_
      exact g_jmp (hj3 _ _) rfl
    · refine g_aconst_null dX1_readsRule_12 ?_
      refine g_goto 21 dX1_readsRule_13 (by decide) ?_
      exact g_jmp (hj3 _ _) rfl
theorem dd_X1_readsRule : yX1_readsRule.cls ≠ "java/lang/invoke/MethodHandle" ∧ yX1_readsRule.cls ≠ "java/lang/invoke/VarHandle" ∧ (parseMethodDescriptor yX1_readsRule.desc).map (fun d => d.parameters.length) = some 0 := by decide +kernel
theorem dv_X1_readsRule : yX1_readsRule.cls = RX1 ∧ yX1_readsRule.cls ≠ "java/lang/invoke/MethodHandle" ∧ yX1_readsRule.cls ≠ "java/lang/invoke/VarHandle" ∧ (parseMethodDescriptor yX1_readsRule.desc).map (fun d => d.parameters.length) = some 0 := ⟨rfl, dd_X1_readsRule⟩
/-! RockingHorse.year()I -/
abbrev mi_X1_year : Mi := (cX1_year, 5, "RockingHorse", 106, some .int, "year")
def f_X1_year_b14 (v0 : Option Nat) (k0 : Int32 → Hp → Option (Int32 × Hp)) (ag : Int32 → Hp → Option (Int32 × Hp)) (a : Int32) (σ : Hp) : Option (Int32 × Hp) :=
  if a = 0 then
    k0 a σ
  else
    gI 0 11 σ v0 fun x2 =>
    gI 0 12 σ v0 fun x3 =>
    if x3 ≤ x2 then
      k0 a σ
    else
      ob 0 σ v0 fun _ => bnd (f_X1_readsAct v0 σ) fun x4 σ =>
      ag x4 σ
def f_X1_year_b64 (v0 : Option Nat) (k0 : Int32 → Hp → Option (Int32 × Hp)) (ag : Int32 → Hp → Option (Int32 × Hp)) (a : Int32) (σ : Hp) : Option (Int32 × Hp) :=
  gI 0 34 σ v0 fun x9 =>
  if x9 ≤ a then
    k0 a σ
  else
    ob 0 σ v0 fun _ => bnd (f_X1_does v0 a σ) fun x10 σ =>
    if x10 = 0 then
      k0 a σ
    else
      ag (a + 1) σ
def f_X1_year (v0 : Option Nat) (σ : Hp) : Option (Int32 × Hp) :=
  ob 0 σ v0 fun _ => bnd (f_X1_begins v0 60 σ) fun x1 σ =>
  pI 0 0 34 σ v0 0 fun σ =>
  lp 2000 (f_X1_year_b14 v0 (fun (a5 : Int32) σ =>
      ob 0 σ v0 fun _ => bnd (f_X1_faultOf v0 x1 a5 σ) fun x6 σ =>
      if 0 ≤ x6 then
        gR 0 24 σ v0 fun y7 =>
        gR 0 0 σ v0 fun y8 =>
        ob 1 σ y7 fun _ => bnd (f_X2_becomes y7 y8 σ) fun _ σ =>
        lp 2000 (f_X1_year_b64 v0 (fun (a11 : Int32) σ =>
            jn (fun (a12 : Unit) σ =>
                pI 0 0 52 σ v0 0 fun σ =>
                gI 0 34 σ v0 fun x14 =>
                jn (fun (a15 : Int64) σ =>
                    ob 0 σ v0 fun _ => bnd (f_X1_tells v0 a15 σ) fun _ σ =>
                    gR 0 0 σ v0 fun y17 =>
                    gI 1 4 σ y17 fun x18 =>
                    ob 0 σ v0 fun _ => bnd (f_X1_tells v0 (Int32.toInt64 x18) σ) fun _ σ =>
                    some (a11, σ)) fun j16 =>
                if x14 ≤ a11 then
                  j16 0 σ
                else
                  j16 1 σ) fun j13 =>
            if a11 ≤ 0 then
              j13 () σ
            else
              gR 0 24 σ v0 fun y19 =>
              ob 0 σ v0 fun _ => bnd (f_X1_putsBy v0 y19 σ) fun _ σ =>
              j13 () σ)) 0 σ
      else
        some (x6, σ))) 1 σ
theorem ok_X1_year_b14 (X : Mx) (v0 : Option Nat) (v1 : Int32) {k0 : Int32 → Hp → Option (Int32 × Hp)} (hk0 : ∀ (a : Int32) (σ : Hp), GG X mi_X1_year (QM X rI) 37 [(0, vA v0), (1, vI v1), (2, vI a)] [] σ (k0 a σ)) : ∀ (m : Nat) (a : Int32) (σ : Hp), GG X mi_X1_year (QM X rI) 14 [(0, vA v0), (1, vI v1), (2, vI a)] [] σ (lp m (f_X1_year_b14 v0 k0) a σ) := by
  refine g_lp (fun (a : Int32) => [(0, vA v0), (1, vI v1), (2, vI a)]) ?_
  intro ag hag a σ
  unfold f_X1_year_b14
  refine g_iload_n 2 dX1_year_14 rfl rfl ?_
  refine g_if_eq 37 dX1_year_15 (by decide) ?_ ?_
  · exact g_jmp (hk0 _ _) rfl
  · refine g_aload_n 0 dX1_year_18 rfl rfl ?_
    refine g_getI fo_0_11 (by decide) q185 dX1_year_19 fun x2 => ?_
    refine g_aload_n 0 dX1_year_22 rfl rfl ?_
    refine g_getI fo_0_12 (by decide) q186 dX1_year_23 fun x3 => ?_
    refine g_icmp_ge 37 dX1_year_26 (by decide) ?_ ?_
    · exact g_jmp (hk0 _ _) rfl
    · refine g_aload_n 0 dX1_year_29 rfl rfl ?_
      refine g_callV_I (mm_X1_readsAct _ _) rfl zc_0 q691 q693 qs22 q107 q694 dv_X1_readsAct rfl (Nat.le_of_ble_eq_true rfl) (Nat.le_of_ble_eq_true rfl) (Nat.le_of_ble_eq_true rfl) dX1_year_30 fun x4 σ => ?_
      refine g_istore_n 2 dX1_year_33 rfl (lt_b rfl) ?_
      refine g_goto 14 dX1_year_34 (by decide) ?_
      exact g_jmp (hag _ _) rfl
theorem ok_X1_year_b64 (X : Mx) (v0 : Option Nat) {k0 : Int32 → Hp → Option (Int32 × Hp)} (hk0 : ∀ (a : Int32) (σ : Hp), GG X mi_X1_year (QM X rI) 88 [(0, vA v0), (4, vI a)] [] σ (k0 a σ)) : ∀ (m : Nat) (a : Int32) (σ : Hp), GG X mi_X1_year (QM X rI) 64 [(0, vA v0), (4, vI a)] [] σ (lp m (f_X1_year_b64 v0 k0) a σ) := by
  refine g_lp (fun (a : Int32) => [(0, vA v0), (4, vI a)]) ?_
  intro ag hag a σ
  unfold f_X1_year_b64
  refine g_iload dX1_year_64 rfl ?_
  refine g_aload_n 0 dX1_year_66 rfl rfl ?_
  refine g_getI fo_0_34 (by decide) q211 dX1_year_67 fun x9 => ?_
  refine g_icmp_ge 88 dX1_year_70 (by decide) ?_ ?_
  · exact g_jmp (hk0 _ _) rfl
  · refine g_aload_n 0 dX1_year_73 rfl rfl ?_
    refine g_iload dX1_year_74 rfl ?_
    refine g_callV_I (mm_X1_does _ _ _) rfl zc_0 q696 q698 qs23 q107 q699 dv_X1_does rfl (Nat.le_of_ble_eq_true rfl) (Nat.le_of_ble_eq_true rfl) (Nat.le_of_ble_eq_true rfl) dX1_year_76 fun x10 σ => ?_
    refine g_if_eq 88 dX1_year_79 (by decide) ?_ ?_
    · exact g_jmp (hk0 _ _) rfl
    · refine g_iinc 1 dX1_year_82 (by decide) rfl (lt_b rfl) ?_
      refine g_goto 64 dX1_year_85 (by decide) ?_
      exact g_jmp (hag _ _) rfl
theorem mm_X1_year (v0 : Option Nat) (σ : Hp) : MM yX1_year mi_X1_year rI [vA v0] σ (f_X1_year v0 σ) := by
  refine mm_of (by decide +kernel) rfl rfl (Nat.le_of_ble_eq_true rfl) ?_
  intro X
  unfold f_X1_year
  refine g_aload_n 0 dX1_year_0 rfl rfl ?_
  refine g_bipush 60 dX1_year_1 (by decide) ?_
  refine g_callV_I (mm_X1_begins _ _ _) rfl zc_0 q353 q355 qs0 q107 q356 dv_X1_begins rfl (Nat.le_of_ble_eq_true rfl) (Nat.le_of_ble_eq_true rfl) (Nat.le_of_ble_eq_true rfl) dX1_year_3 fun x1 σ => ?_
  refine g_istore_n 1 dX1_year_6 rfl (lt_b rfl) ?_
  refine g_aload_n 0 dX1_year_7 rfl rfl ?_
  refine g_iconst 0 dX1_year_8 (by decide) ?_
  refine g_putI fo_0_34 (by decide) rfl q211 dX1_year_9 fun σ => ?_
  refine g_iconst 1 dX1_year_12 (by decide) ?_
  refine g_istore_n 2 dX1_year_13 rfl (lt_b rfl) ?_
  refine g_jmp (ok_X1_year_b14 X v0 x1 ?_ _ _ _) rfl
  · intro a5 σ
    refine g_aload_n 0 dX1_year_37 rfl rfl ?_
    refine g_iload_n 1 dX1_year_38 rfl rfl ?_
    refine g_iload_n 2 dX1_year_39 rfl rfl ?_
    refine g_callV_I (mm_X1_faultOf _ _ _ _) rfl zc_0 q467 q469 qs6 q107 q470 dv_X1_faultOf rfl (Nat.le_of_ble_eq_true rfl) (Nat.le_of_ble_eq_true rfl) (Nat.le_of_ble_eq_true rfl) dX1_year_40 fun x6 σ => ?_
    refine g_istore_n 3 dX1_year_43 rfl (lt_b rfl) ?_
    refine g_iload_n 3 dX1_year_44 rfl rfl ?_
    refine g_if_ge 50 dX1_year_45 (by decide) ?_ ?_
    · refine g_aload_n 0 dX1_year_50 rfl rfl ?_
      refine g_getR fo_0_24 q201 dX1_year_51 fun y7 => ?_
      refine g_aload_n 0 dX1_year_54 rfl rfl ?_
      refine g_getR fo_0_0 q171 dX1_year_55 fun y8 => ?_
      refine g_callV_V (mm_X2_becomes _ _ _) rfl zc_1 q628 q629 q630 q108 q631 dv_X2_becomes rfl (Nat.le_of_ble_eq_true rfl) (Nat.le_of_ble_eq_true rfl) (Nat.le_of_ble_eq_true rfl) dX1_year_58 fun _ σ => ?_
      refine g_iconst 0 dX1_year_61 (by decide) ?_
      refine g_istore dX1_year_62 (lt_b rfl) ?_
      refine g_jmp (ok_X1_year_b64 X v0 ?_ _ _ _) rfl
      · intro a11 σ
        refine g_iload dX1_year_88 rfl ?_
        refine g_jn (fun j13 => ∀ (a12 : Unit) (σ : Hp), GG X mi_X1_year (QM X rI) 101 [(0, vA v0), (4, vI a11)] [] σ (j13 a12 σ)) ?_ ?_
        · intro a12 σ
          refine g_aload_n 0 dX1_year_101 rfl rfl ?_
          refine g_iconst 0 dX1_year_102 (by decide) ?_
          refine g_putI fo_0_52 (by decide) rfl q229 dX1_year_103 fun σ => ?_
          refine g_aload_n 0 dX1_year_106 rfl rfl ?_
          refine g_iload dX1_year_107 rfl ?_
          refine g_aload_n 0 dX1_year_109 rfl rfl ?_
          refine g_getI fo_0_34 (by decide) q211 dX1_year_110 fun x14 => ?_
          refine g_jn (fun j16 => ∀ (a15 : Int64) (σ : Hp), GG X mi_X1_year (QM X rI) 121 [(0, vA v0), (4, vI a11)] [vL a15, vA v0] σ (j16 a15 σ)) ?_ ?_
          · intro a15 σ
            refine g_callV_V (mm_X1_tells _ _ _) rfl zc_0 q683 q685 qs21 q107 q686 dv_X1_tells rfl (Nat.le_of_ble_eq_true rfl) (Nat.le_of_ble_eq_true rfl) (Nat.le_of_ble_eq_true rfl) dX1_year_121 fun _ σ => ?_
            refine g_aload_n 0 dX1_year_124 rfl rfl ?_
            refine g_aload_n 0 dX1_year_125 rfl rfl ?_
            refine g_getR fo_0_0 q171 dX1_year_126 fun y17 => ?_
            refine g_getIN fo_1_4 (by decide) nf_152 dX1_year_129 fun x18 => ?_
            refine g_i2l dX1_year_132 ?_
            refine g_callV_V (mm_X1_tells _ _ _) rfl zc_0 q683 q685 qs21 q107 q686 dv_X1_tells rfl (Nat.le_of_ble_eq_true rfl) (Nat.le_of_ble_eq_true rfl) (Nat.le_of_ble_eq_true rfl) dX1_year_133 fun _ σ => ?_
            refine g_iload dX1_year_136 rfl ?_
            exact g_iret rfl dX1_year_138
          · intro j16 hj16
            refine g_icmp_ge 120 dX1_year_113 (by decide) ?_ ?_
            · refine g_lconst 0 dX1_year_120 (by decide) ?_
              exact g_jmp (hj16 _ _) rfl
            · refine g_lconst 1 dX1_year_116 (by decide) ?_
              refine g_goto 121 dX1_year_117 (by decide) ?_
              exact g_jmp (hj16 _ _) rfl
        · intro j13 hj13
          refine g_if_le 101 dX1_year_90 (by decide) ?_ ?_
          · exact g_jmp (hj13 _ _) rfl
          · refine g_aload_n 0 dX1_year_93 rfl rfl ?_
            refine g_aload_n 0 dX1_year_94 rfl rfl ?_
            refine g_getR fo_0_24 q201 dX1_year_95 fun y19 => ?_
            refine g_callV_V (mm_X1_putsBy _ _ _) rfl zc_0 q639 q641 qs15 q107 q642 dv_X1_putsBy rfl (Nat.le_of_ble_eq_true rfl) (Nat.le_of_ble_eq_true rfl) (Nat.le_of_ble_eq_true rfl) dX1_year_98 fun _ σ => ?_
            exact g_jmp (hj13 _ _) rfl
    · refine g_iload_n 3 dX1_year_48 rfl rfl ?_
      exact g_iret rfl dX1_year_49
theorem dd_X1_year : yX1_year.cls ≠ "java/lang/invoke/MethodHandle" ∧ yX1_year.cls ≠ "java/lang/invoke/VarHandle" ∧ (parseMethodDescriptor yX1_year.desc).map (fun d => d.parameters.length) = some 0 := by decide +kernel
theorem dv_X1_year : yX1_year.cls = RX1 ∧ yX1_year.cls ≠ "java/lang/invoke/MethodHandle" ∧ yX1_year.cls ≠ "java/lang/invoke/VarHandle" ∧ (parseMethodDescriptor yX1_year.desc).map (fun d => d.parameters.length) = some 0 := ⟨rfl, dd_X1_year⟩
/-! RockingHorse.law()I -/
abbrev mi_X1_law : Mi := (cX1_law, 5, "RockingHorse", 206, some .int, "law")
def f_X1_law (v0 : Option Nat) (σ : Hp) : Option (Int32 × Hp) :=
  ob 0 σ v0 fun _ => bnd (f_X1_readsRule v0 σ) fun x1 σ =>
  if 0 ≤ x1 then
    ob 0 σ v0 fun _ => bnd (f_X1_hardOfRota v0 σ) fun x2 σ =>
    gR 0 21 σ v0 fun y3 =>
    gR 0 22 σ v0 fun y4 =>
    pR 0 21 σ v0 y4 fun σ =>
    ob 0 σ v0 fun _ => bnd (f_X1_hardOfRota v0 σ) fun x5 σ =>
    pR 0 21 σ v0 y3 fun σ =>
    pI 0 0 52 σ v0 0 fun σ =>
    ob 0 σ v0 fun _ => bnd (f_X1_tells v0 (Int32.toInt64 x5) σ) fun _ σ =>
    ob 0 σ v0 fun _ => bnd (f_X1_tells v0 (Int32.toInt64 x2) σ) fun _ σ =>
    some ((x5 - x2), σ)
  else
    some (((x1 + 1) - 10000), σ)
theorem mm_X1_law (v0 : Option Nat) (σ : Hp) : MM yX1_law mi_X1_law rI [vA v0] σ (f_X1_law v0 σ) := by
  refine mm_of (by decide +kernel) rfl rfl (Nat.le_of_ble_eq_true rfl) ?_
  intro X
  unfold f_X1_law
  refine g_aload_n 0 dX1_law_0 rfl rfl ?_
  refine g_callV_I (mm_X1_readsRule _ _) rfl zc_0 q476 q478 qs7 q107 q479 dv_X1_readsRule rfl (Nat.le_of_ble_eq_true rfl) (Nat.le_of_ble_eq_true rfl) (Nat.le_of_ble_eq_true rfl) dX1_law_1 fun x1 σ => ?_
  refine g_istore_n 1 dX1_law_4 rfl (lt_b rfl) ?_
  refine g_iload_n 1 dX1_law_5 rfl rfl ?_
  refine g_if_ge 17 dX1_law_6 (by decide) ?_ ?_
  · refine g_aload_n 0 dX1_law_17 rfl rfl ?_
    refine g_callV_I (mm_X1_hardOfRota _ _) rfl zc_0 q942 q944 qs47 q107 q945 dv_X1_hardOfRota rfl (Nat.le_of_ble_eq_true rfl) (Nat.le_of_ble_eq_true rfl) (Nat.le_of_ble_eq_true rfl) dX1_law_18 fun x2 σ => ?_
    refine g_istore_n 2 dX1_law_21 rfl (lt_b rfl) ?_
    refine g_aload_n 0 dX1_law_22 rfl rfl ?_
    refine g_getR fo_0_21 q198 dX1_law_23 fun y3 => ?_
    refine g_astore_n 3 dX1_law_26 rfl (lt_b rfl) ?_
    refine g_aload_n 0 dX1_law_27 rfl rfl ?_
    refine g_aload_n 0 dX1_law_28 rfl rfl ?_
    refine g_getR fo_0_22 q199 dX1_law_29 fun y4 => ?_
    refine g_putR fo_0_21 rfl q198 dX1_law_32 fun σ => ?_
    refine g_aload_n 0 dX1_law_35 rfl rfl ?_
    refine g_callV_I (mm_X1_hardOfRota _ _) rfl zc_0 q942 q944 qs47 q107 q945 dv_X1_hardOfRota rfl (Nat.le_of_ble_eq_true rfl) (Nat.le_of_ble_eq_true rfl) (Nat.le_of_ble_eq_true rfl) dX1_law_36 fun x5 σ => ?_
    refine g_istore dX1_law_39 (lt_b rfl) ?_
    refine g_aload_n 0 dX1_law_41 rfl rfl ?_
    refine g_aload_n 3 dX1_law_42 rfl rfl ?_
    refine g_putR fo_0_21 rfl q198 dX1_law_43 fun σ => ?_
    refine g_aload_n 0 dX1_law_46 rfl rfl ?_
    refine g_iconst 0 dX1_law_47 (by decide) ?_
    refine g_putI fo_0_52 (by decide) rfl q229 dX1_law_48 fun σ => ?_
    refine g_aload_n 0 dX1_law_51 rfl rfl ?_
    refine g_iload dX1_law_52 rfl ?_
    refine g_i2l dX1_law_54 ?_
    refine g_callV_V (mm_X1_tells _ _ _) rfl zc_0 q683 q685 qs21 q107 q686 dv_X1_tells rfl (Nat.le_of_ble_eq_true rfl) (Nat.le_of_ble_eq_true rfl) (Nat.le_of_ble_eq_true rfl) dX1_law_55 fun _ σ => ?_
    refine g_aload_n 0 dX1_law_58 rfl rfl ?_
    refine g_iload_n 2 dX1_law_59 rfl rfl ?_
    refine g_i2l dX1_law_60 ?_
    refine g_callV_V (mm_X1_tells _ _ _) rfl zc_0 q683 q685 qs21 q107 q686 dv_X1_tells rfl (Nat.le_of_ble_eq_true rfl) (Nat.le_of_ble_eq_true rfl) (Nat.le_of_ble_eq_true rfl) dX1_law_61 fun _ σ => ?_
    refine g_iload dX1_law_64 rfl ?_
    refine g_iload_n 2 dX1_law_66 rfl rfl ?_
    refine g_isub dX1_law_67 ?_
    exact g_iret rfl dX1_law_68
  · refine g_iload_n 1 dX1_law_9 rfl rfl ?_
    refine g_iconst 1 dX1_law_10 (by decide) ?_
    refine g_iadd dX1_law_11 ?_
    refine g_sipush 10000 dX1_law_12 (by decide) ?_
    refine g_isub dX1_law_15 ?_
    exact g_iret rfl dX1_law_16
theorem dd_X1_law : yX1_law.cls ≠ "java/lang/invoke/MethodHandle" ∧ yX1_law.cls ≠ "java/lang/invoke/VarHandle" ∧ (parseMethodDescriptor yX1_law.desc).map (fun d => d.parameters.length) = some 0 := by decide +kernel
theorem dv_X1_law : yX1_law.cls = RX1 ∧ yX1_law.cls ≠ "java/lang/invoke/MethodHandle" ∧ yX1_law.cls ≠ "java/lang/invoke/VarHandle" ∧ (parseMethodDescriptor yX1_law.desc).map (fun d => d.parameters.length) = some 0 := ⟨rfl, dd_X1_law⟩
/-! RockingHorse.readsRider()Z -/
abbrev mi_X1_readsRider : Mi := (cX1_readsRider, 3, "RockingHorse", 6, some .boolean, "readsRider")
def f_X1_readsRider_b65 (v0 : Option Nat) (k0 : Int32 → Hp → Option (Int32 × Hp)) (ag : Int32 → Hp → Option (Int32 × Hp)) (a : Int32) (σ : Hp) : Option (Int32 × Hp) :=
  ob 0 σ v0 fun _ => bnd (f_X1_among v0 2 σ) fun x10 σ =>
  if x10 < 0 then
    k0 a σ
  else
    ob 0 σ v0 fun _ => bnd (f_X1_among v0 2 σ) fun x11 σ =>
    if (shr a x11) = 0 then
      ob 0 σ v0 fun _ => bnd (f_X1_takesOf v0 2 σ) fun x12 σ =>
      ag (a ||| (shl 1 x12)) σ
    else
      k0 a σ
def f_X1_readsRider (v0 : Option Nat) (σ : Hp) : Option (Int32 × Hp) :=
  gI 0 17 σ v0 fun x1 =>
  if x1 = 8 then
    rz1 0 σ
  else
    gR 0 14 σ v0 fun y2 =>
    ob 0 σ v0 fun _ => bnd (f_X1_takesOf v0 0 σ) fun x3 σ =>
    sI σ y2 x1 (1 + x3) fun σ =>
    gR 0 14 σ v0 fun y4 =>
    lI 100 σ y4 x1 fun x5 =>
    if x5 = 0 then
      rz1 0 σ
    else
      gR 0 15 σ v0 fun y6 =>
      ob 0 σ v0 fun _ => bnd (f_X1_takesOf v0 1 σ) fun x7 σ =>
      sI σ y6 x1 (1 + x7) fun σ =>
      gR 0 15 σ v0 fun y8 =>
      lI 100 σ y8 x1 fun x9 =>
      if x9 = 0 then
        rz1 0 σ
      else
        lp 2000 (f_X1_readsRider_b65 v0 (fun (a13 : Int32) σ =>
            gR 0 16 σ v0 fun y14 =>
            sI σ y14 x1 a13 fun σ =>
            gI 0 17 σ v0 fun x15 =>
            pI 0 0 17 σ v0 (x15 + 1) fun σ =>
            rz1 1 σ)) 0 σ
theorem ok_X1_readsRider_b65 (X : Mx) (v0 : Option Nat) (v1 : Int32) {k0 : Int32 → Hp → Option (Int32 × Hp)} (hk0 : ∀ (a : Int32) (σ : Hp), GG X mi_X1_readsRider (QM X rI) 99 [(0, vA v0), (1, vI v1), (2, vI a)] [] σ (k0 a σ)) : ∀ (m : Nat) (a : Int32) (σ : Hp), GG X mi_X1_readsRider (QM X rI) 65 [(0, vA v0), (1, vI v1), (2, vI a)] [] σ (lp m (f_X1_readsRider_b65 v0 k0) a σ) := by
  refine g_lp (fun (a : Int32) => [(0, vA v0), (1, vI v1), (2, vI a)]) ?_
  intro ag hag a σ
  unfold f_X1_readsRider_b65
  refine g_aload_n 0 dX1_readsRider_65 rfl rfl ?_
  refine g_ldcS (k := 2) (by decide) rfl rfl dX1_readsRider_66 ?_
  refine g_callV_I (mm_X1_among _ _ _) rfl zc_0 q369 q371 qs3 q107 q372 dv_X1_among rfl (Nat.le_of_ble_eq_true rfl) (Nat.le_of_ble_eq_true rfl) (Nat.le_of_ble_eq_true rfl) dX1_readsRider_68 fun x10 σ => ?_
  refine g_if_lt 99 dX1_readsRider_71 (by decide) ?_ ?_
  · exact g_jmp (hk0 _ _) rfl
  · refine g_iload_n 2 dX1_readsRider_74 rfl rfl ?_
    refine g_aload_n 0 dX1_readsRider_75 rfl rfl ?_
    refine g_ldcS (k := 2) (by decide) rfl rfl dX1_readsRider_76 ?_
    refine g_callV_I (mm_X1_among _ _ _) rfl zc_0 q369 q371 qs3 q107 q372 dv_X1_among rfl (Nat.le_of_ble_eq_true rfl) (Nat.le_of_ble_eq_true rfl) (Nat.le_of_ble_eq_true rfl) dX1_readsRider_78 fun x11 σ => ?_
    refine g_ishr dX1_readsRider_81 ?_
    refine g_if_ne 99 dX1_readsRider_82 (by decide) ?_ ?_
    · exact g_jmp (hk0 _ _) rfl
    · refine g_iload_n 2 dX1_readsRider_85 rfl rfl ?_
      refine g_iconst 1 dX1_readsRider_86 (by decide) ?_
      refine g_aload_n 0 dX1_readsRider_87 rfl rfl ?_
      refine g_ldcS (k := 2) (by decide) rfl rfl dX1_readsRider_88 ?_
      refine g_callV_I (mm_X1_takesOf _ _ _) rfl zc_0 q365 q367 qs2 q107 q368 dv_X1_takesOf rfl (Nat.le_of_ble_eq_true rfl) (Nat.le_of_ble_eq_true rfl) (Nat.le_of_ble_eq_true rfl) dX1_readsRider_90 fun x12 σ => ?_
      refine g_ishl dX1_readsRider_93 ?_
      refine g_ior dX1_readsRider_94 ?_
      refine g_istore_n 2 dX1_readsRider_95 rfl (lt_b rfl) ?_
      refine g_goto 65 dX1_readsRider_96 (by decide) ?_
      exact g_jmp (hag _ _) rfl
theorem mm_X1_readsRider (v0 : Option Nat) (σ : Hp) : MM yX1_readsRider mi_X1_readsRider rI [vA v0] σ (f_X1_readsRider v0 σ) := by
  refine mm_of (by decide +kernel) rfl rfl (Nat.le_of_ble_eq_true rfl) ?_
  intro X
  unfold f_X1_readsRider
  refine g_aload_n 0 dX1_readsRider_0 rfl rfl ?_
  refine g_getI fo_0_17 (by decide) q191 dX1_readsRider_1 fun x1 => ?_
  refine g_istore_n 1 dX1_readsRider_4 rfl (lt_b rfl) ?_
  refine g_iload_n 1 dX1_readsRider_5 rfl rfl ?_
  refine g_bipush 8 dX1_readsRider_6 (by decide) ?_
  refine g_icmp_ne 13 dX1_readsRider_8 (by decide) ?_ ?_
  · refine g_aload_n 0 dX1_readsRider_13 rfl rfl ?_
    refine g_getR fo_0_14 q188 dX1_readsRider_14 fun y2 => ?_
    refine g_iload_n 1 dX1_readsRider_17 rfl rfl ?_
    refine g_iconst 1 dX1_readsRider_18 (by decide) ?_
    refine g_aload_n 0 dX1_readsRider_19 rfl rfl ?_
    refine g_ldcS (k := 0) (by decide) rfl rfl dX1_readsRider_20 ?_
    refine g_callV_I (mm_X1_takesOf _ _ _) rfl zc_0 q365 q367 qs2 q107 q368 dv_X1_takesOf rfl (Nat.le_of_ble_eq_true rfl) (Nat.le_of_ble_eq_true rfl) (Nat.le_of_ble_eq_true rfl) dX1_readsRider_22 fun x3 σ => ?_
    refine g_iadd dX1_readsRider_25 ?_
    refine g_iastore dX1_readsRider_26 fun σ => ?_
    refine g_aload_n 0 dX1_readsRider_27 rfl rfl ?_
    refine g_getR fo_0_14 q188 dX1_readsRider_28 fun y4 => ?_
    refine g_iload_n 1 dX1_readsRider_31 rfl rfl ?_
    refine g_iaload dX1_readsRider_32 fun x5 => ?_
    refine g_if_ne 38 dX1_readsRider_33 (by decide) ?_ ?_
    · refine g_aload_n 0 dX1_readsRider_38 rfl rfl ?_
      refine g_getR fo_0_15 q189 dX1_readsRider_39 fun y6 => ?_
      refine g_iload_n 1 dX1_readsRider_42 rfl rfl ?_
      refine g_iconst 1 dX1_readsRider_43 (by decide) ?_
      refine g_aload_n 0 dX1_readsRider_44 rfl rfl ?_
      refine g_ldcS (k := 1) (by decide) rfl rfl dX1_readsRider_45 ?_
      refine g_callV_I (mm_X1_takesOf _ _ _) rfl zc_0 q365 q367 qs2 q107 q368 dv_X1_takesOf rfl (Nat.le_of_ble_eq_true rfl) (Nat.le_of_ble_eq_true rfl) (Nat.le_of_ble_eq_true rfl) dX1_readsRider_47 fun x7 σ => ?_
      refine g_iadd dX1_readsRider_50 ?_
      refine g_iastore dX1_readsRider_51 fun σ => ?_
      refine g_aload_n 0 dX1_readsRider_52 rfl rfl ?_
      refine g_getR fo_0_15 q189 dX1_readsRider_53 fun y8 => ?_
      refine g_iload_n 1 dX1_readsRider_56 rfl rfl ?_
      refine g_iaload dX1_readsRider_57 fun x9 => ?_
      refine g_if_ne 63 dX1_readsRider_58 (by decide) ?_ ?_
      · refine g_iconst 0 dX1_readsRider_63 (by decide) ?_
        refine g_istore_n 2 dX1_readsRider_64 rfl (lt_b rfl) ?_
        refine g_jmp (ok_X1_readsRider_b65 X v0 x1 ?_ _ _ _) rfl
        · intro a13 σ
          refine g_aload_n 0 dX1_readsRider_99 rfl rfl ?_
          refine g_getR fo_0_16 q190 dX1_readsRider_100 fun y14 => ?_
          refine g_iload_n 1 dX1_readsRider_103 rfl rfl ?_
          refine g_iload_n 2 dX1_readsRider_104 rfl rfl ?_
          refine g_iastore dX1_readsRider_105 fun σ => ?_
          refine g_aload_n 0 dX1_readsRider_106 rfl rfl ?_
          refine g_dup dX1_readsRider_107 rfl ?_
          refine g_getI fo_0_17 (by decide) q191 dX1_readsRider_108 fun x15 => ?_
          refine g_iconst 1 dX1_readsRider_111 (by decide) ?_
          refine g_iadd dX1_readsRider_112 ?_
          refine g_putI fo_0_17 (by decide) rfl q191 dX1_readsRider_113 fun σ => ?_
          refine g_iconst 1 dX1_readsRider_116 (by decide) ?_
          exact g_zret rfl dX1_readsRider_117
      · refine g_iconst 0 dX1_readsRider_61 (by decide) ?_
        exact g_zret rfl dX1_readsRider_62
    · refine g_iconst 0 dX1_readsRider_36 (by decide) ?_
      exact g_zret rfl dX1_readsRider_37
  · refine g_iconst 0 dX1_readsRider_11 (by decide) ?_
    exact g_zret rfl dX1_readsRider_12
theorem dd_X1_readsRider : yX1_readsRider.cls ≠ "java/lang/invoke/MethodHandle" ∧ yX1_readsRider.cls ≠ "java/lang/invoke/VarHandle" ∧ (parseMethodDescriptor yX1_readsRider.desc).map (fun d => d.parameters.length) = some 0 := by decide +kernel
theorem dv_X1_readsRider : yX1_readsRider.cls = RX1 ∧ yX1_readsRider.cls ≠ "java/lang/invoke/MethodHandle" ∧ yX1_readsRider.cls ≠ "java/lang/invoke/VarHandle" ∧ (parseMethodDescriptor yX1_readsRider.desc).map (fun d => d.parameters.length) = some 0 := ⟨rfl, dd_X1_readsRider⟩
/-! RockingHorse.rule()I -/
abbrev mi_X1_rule : Mi := (cX1_rule, 2, "RockingHorse", 206, some .int, "rule")
def f_X1_rule (v0 : Option Nat) (σ : Hp) : Option (Int32 × Hp) :=
  ob 0 σ v0 fun _ => bnd (f_X1_readsRule v0 σ) fun x1 σ =>
  jn (fun (a2 : Unit) σ =>
      some (x1, σ)) fun j3 =>
  if x1 = 0 then
    gR 0 22 σ v0 fun y4 =>
    pR 0 21 σ v0 y4 fun σ =>
    j3 () σ
  else
    j3 () σ
theorem mm_X1_rule (v0 : Option Nat) (σ : Hp) : MM yX1_rule mi_X1_rule rI [vA v0] σ (f_X1_rule v0 σ) := by
  refine mm_of (by decide +kernel) rfl rfl (Nat.le_of_ble_eq_true rfl) ?_
  intro X
  unfold f_X1_rule
  refine g_aload_n 0 dX1_rule_0 rfl rfl ?_
  refine g_callV_I (mm_X1_readsRule _ _) rfl zc_0 q476 q478 qs7 q107 q479 dv_X1_readsRule rfl (Nat.le_of_ble_eq_true rfl) (Nat.le_of_ble_eq_true rfl) (Nat.le_of_ble_eq_true rfl) dX1_rule_1 fun x1 σ => ?_
  refine g_istore_n 1 dX1_rule_4 rfl (lt_b rfl) ?_
  refine g_iload_n 1 dX1_rule_5 rfl rfl ?_
  refine g_jn (fun j3 => ∀ (a2 : Unit) (σ : Hp), GG X mi_X1_rule (QM X rI) 17 [(1, vI x1)] [] σ (j3 a2 σ)) ?_ ?_
  · intro a2 σ
    refine g_iload_n 1 dX1_rule_17 rfl rfl ?_
    exact g_iret rfl dX1_rule_18
  · intro j3 hj3
    refine g_if_ne 17 dX1_rule_6 (by decide) ?_ ?_
    · exact g_jmp (hj3 _ _) rfl
    · refine g_aload_n 0 dX1_rule_9 rfl rfl ?_
      refine g_aload_n 0 dX1_rule_10 rfl rfl ?_
      refine g_getR fo_0_22 q199 dX1_rule_11 fun y4 => ?_
      refine g_putR fo_0_21 rfl q198 dX1_rule_14 fun σ => ?_
      exact g_jmp (hj3 _ _) rfl
theorem dd_X1_rule : yX1_rule.cls ≠ "java/lang/invoke/MethodHandle" ∧ yX1_rule.cls ≠ "java/lang/invoke/VarHandle" ∧ (parseMethodDescriptor yX1_rule.desc).map (fun d => d.parameters.length) = some 0 := by decide +kernel
theorem dv_X1_rule : yX1_rule.cls = RX1 ∧ yX1_rule.cls ≠ "java/lang/invoke/MethodHandle" ∧ yX1_rule.cls ≠ "java/lang/invoke/VarHandle" ∧ (parseMethodDescriptor yX1_rule.desc).map (fun d => d.parameters.length) = some 0 := ⟨rfl, dd_X1_rule⟩
