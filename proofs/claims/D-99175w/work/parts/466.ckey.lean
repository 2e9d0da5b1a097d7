/-! PURE 53: the class: held, keystone -/
theorem nL_lt {a b : Nat} (ha : a < 2 ^ 63) (hb : b < 2 ^ 63) : (nL a < nL b) = (a < b) := by
  rw [Int64.lt_iff_toInt_lt, show (nL a).toInt = (a : Int) from Int64.toInt_ofNat_of_lt ha, show (nL b).toInt = (b : Int) from Int64.toInt_ofNat_of_lt hb]
  exact propext (by omega)
def heldF (P : Pk) (s p : Nat) : Nat := heldN P s p (s + 1)
/-- whom it hurts most to lose, and what is left then -/
def keyO (P : Pk) (w p : Nat) : Nat → Option (Nat × Nat)
  | 0 => none
  | r + 1 => if w.testBit r then (match keyO P w p r with
      | none => some (r, heldF P (sd w (2 ^ r)) p)
      | some x => if heldF P (sd w (2 ^ r)) p < x.2 then some (r, heldF P (sd w (2 ^ r)) p) else some x) else keyO P w p r
def keyR (P : Pk) (w : Nat) (o : Option (Nat × Nat)) : Int32 × Option (List Int64) := match o with
  | none => (-2, none)
  | some x => (nI x.1, some (fracL x.2 (10 ^ (pop w - 1))))
def kI (o : Option (Nat × Nat)) : Int32 × Int64 := match o with
  | none => (-2, 9223372036854775807)
  | some x => (nI x.1, nL x.2)
theorem keyO_lt {P : Pk} {w p : Nat} (n8 : P.n ≤ 8) (hw : w < 256) (hp : p ≤ 10) : ∀ r x, keyO P w p r = some x → x.1 < r ∧ x.2 ≤ 25600000000 ∧ w.testBit x.1 = true := by
  intro r
  induction r with
  | zero => intro x h; cases h
  | succ r ih =>
    intro x h
    have hl2 : heldF P (sd w (2 ^ r)) p ≤ 25600000000 := heldN_le n8 hp (by have := sd_lt (2 ^ r) hw; omega)
    unfold keyO at h
    by_cases e : w.testBit r = true
    · rw [if_pos e] at h
      cases hk' : keyO P w p r with
      | none =>
        rw [hk'] at h
        cases h
        exact ⟨Nat.lt_succ_self _, hl2, e⟩
      | some y =>
        rw [hk'] at h
        dsimp only at h
        obtain ⟨i1, i2, i3⟩ := ih y hk'
        split at h
        · cases h; exact ⟨Nat.lt_succ_self _, hl2, e⟩
        · cases h; exact ⟨by omega, i2, i3⟩
    · rw [if_neg e] at h
      obtain ⟨i1, i2, i3⟩ := ih x h
      exact ⟨by omega, i2, i3⟩
theorem l_0lem2 : ((0 : Int32) ≤ -nI 2) = False := by decide
section ckey
variable {σ τ : Hp} {P : Pk} {a : HS}
theorem pow10_lt {k : Nat} (h : k ≤ 8) : 10 ^ k < 2 ^ 45 := Nat.lt_of_le_of_lt (Nat.pow_le_pow_right (by decide) h) (by decide)
theorem c_held (x : CX σ P a) (s : SC σ) {p : Nat} (hp : p ≤ 10) : wp (f_X1_held (some 0) (nI p) σ) (QuC σ 0 (some (fracL (heldF P (wellN P a) p) (10 ^ pop (wellN P a))))) := by
  have n8 := x.n8
  have w8 := wellN_lt (P := P) (a := a) n8
  have p8 := pop_le (wellN P a)
  have hb : heldF P (wellN P a) p ≤ 25600000000 := heldN_le n8 hp (by omega)
  have hin : ((0 : Int32) ≤ nI p ∧ nI p ≤ nI 10) := ⟨by rw [l_nn (by omega)]; trivial, by rw [nI_le_l (by omega) (by decide)]; exact hp⟩
  unfold f_X1_held
  simp (disch := first | omega | exact x.s | exact hi_eq | ((repeat (first | exact x.s | apply sw_I | apply sw_L | apply sw_cp | apply sw_18 | apply sw_21 | apply sw_22 | apply sw_m12 | apply sw_m18)); done) | rfl) only [wp_ite, wp_some, w_jn, wp_r0, wp_r1, wp_b2, wp_nn, w_bc, w_nt, wo_0, wg_0, wi_0, w_has, w_isRider, w_isPair, w_isHour, w_in, w_in0, w_in_0_1, w_in_0_10, w_in_0_3, w_in_0_30, w_in_0_60, w_in_0_7, w_in_0_9, w_in_0_999, w_in_1_60, w_in_20_27, w_in_2_40, w_in_48_57, w_whole, w_all, wt_0, wt_1, wt_2, nI_add, nI_1, nI_mul, nI_and, nI_or, nI_sd, nI_sub, l_sub1, l_addm1, l_all, l_1shl, l_or0, l_add0, l_0add, l_m1, l_m1r, l_neg, l_nn, l_eq0, l_le0, l_0lt, l_eq1, l_m1lt, l_m1le, l_m1eq0, l_10, l_00, l_1le, nI_le_l, nI_lt_l, nI_eq_l, bc_nI, nt_nI, bit_nI, b2_ite, b2_ite1, nI_max, nI_min, isR_nI, n_10, hi_ne, hi_ni, hi_eq, hi_wL, hi_wR, hl_wI, hl_wR, hl_ne, hl_ni, hl_eq, hr_wI, hr_wL, if_true, if_false, if_pos, if_neg, true_and, and_true, not_true_eq_false, not_false_eq_true, x.n, x.h, x.b, x.mo, x.wi, x.ca, x.ro, x.ti, x.il, x.ni, x.ga, x.ri, hin]
  rw [c_well x, e_bnd]
  simp (disch := first | omega | exact x.s | exact hi_eq | ((repeat (first | exact x.s | apply sw_I | apply sw_L | apply sw_cp | apply sw_18 | apply sw_21 | apply sw_22 | apply sw_m12 | apply sw_m18)); done) | rfl) only [wp_ite, wp_some, w_jn, wp_r0, wp_r1, wp_b2, wp_nn, w_bc, w_nt, wo_0, wg_0, wi_0, w_has, w_isRider, w_isPair, w_isHour, w_in, w_in0, w_in_0_1, w_in_0_10, w_in_0_3, w_in_0_30, w_in_0_60, w_in_0_7, w_in_0_9, w_in_0_999, w_in_1_60, w_in_20_27, w_in_2_40, w_in_48_57, w_whole, w_all, wt_0, wt_1, wt_2, nI_add, nI_1, nI_mul, nI_and, nI_or, nI_sd, nI_sub, l_sub1, l_addm1, l_all, l_1shl, l_or0, l_add0, l_0add, l_m1, l_m1r, l_neg, l_nn, l_eq0, l_le0, l_0lt, l_eq1, l_m1lt, l_m1le, l_m1eq0, l_10, l_00, l_1le, nI_le_l, nI_lt_l, nI_eq_l, bc_nI, nt_nI, bit_nI, b2_ite, b2_ite1, nI_max, nI_min, isR_nI, n_10, hi_ne, hi_ni, hi_eq, hi_wL, hi_wR, hl_wI, hl_wR, hl_ne, hl_ni, hl_eq, hr_wI, hr_wL, if_true, if_false, if_pos, if_neg, true_and, and_true, not_true_eq_false, not_false_eq_true, x.n, x.h, x.b, x.mo, x.wi, x.ca, x.ro, x.ti, x.il, x.ni, x.ga, x.ri]
  rw [c_heldBy x w8 hp, e_bnd]
  simp (disch := first | omega | exact x.s | exact hi_eq | ((repeat (first | exact x.s | apply sw_I | apply sw_L | apply sw_cp | apply sw_18 | apply sw_21 | apply sw_22 | apply sw_m12 | apply sw_m18)); done) | rfl) only [wp_ite, wp_some, w_jn, wp_r0, wp_r1, wp_b2, wp_nn, w_bc, w_nt, wo_0, wg_0, wi_0, w_has, w_isRider, w_isPair, w_isHour, w_in, w_in0, w_in_0_1, w_in_0_10, w_in_0_3, w_in_0_30, w_in_0_60, w_in_0_7, w_in_0_9, w_in_0_999, w_in_1_60, w_in_20_27, w_in_2_40, w_in_48_57, w_whole, w_all, wt_0, wt_1, wt_2, nI_add, nI_1, nI_mul, nI_and, nI_or, nI_sd, nI_sub, l_sub1, l_addm1, l_all, l_1shl, l_or0, l_add0, l_0add, l_m1, l_m1r, l_neg, l_nn, l_eq0, l_le0, l_0lt, l_eq1, l_m1lt, l_m1le, l_m1eq0, l_10, l_00, l_1le, nI_le_l, nI_lt_l, nI_eq_l, bc_nI, nt_nI, bit_nI, b2_ite, b2_ite1, nI_max, nI_min, isR_nI, n_10, hi_ne, hi_ni, hi_eq, hi_wL, hi_wR, hl_wI, hl_wR, hl_ne, hl_ni, hl_eq, hr_wI, hr_wL, if_true, if_false, if_pos, if_neg, true_and, and_true, not_true_eq_false, not_false_eq_true, x.n, x.h, x.b, x.mo, x.wi, x.ca, x.ro, x.ti, x.il, x.ni, x.ga, x.ri]
  rw [c_well x, e_bnd]
  simp (disch := first | omega | exact x.s | exact hi_eq | ((repeat (first | exact x.s | apply sw_I | apply sw_L | apply sw_cp | apply sw_18 | apply sw_21 | apply sw_22 | apply sw_m12 | apply sw_m18)); done) | rfl) only [wp_ite, wp_some, w_jn, wp_r0, wp_r1, wp_b2, wp_nn, w_bc, w_nt, wo_0, wg_0, wi_0, w_has, w_isRider, w_isPair, w_isHour, w_in, w_in0, w_in_0_1, w_in_0_10, w_in_0_3, w_in_0_30, w_in_0_60, w_in_0_7, w_in_0_9, w_in_0_999, w_in_1_60, w_in_20_27, w_in_2_40, w_in_48_57, w_whole, w_all, wt_0, wt_1, wt_2, nI_add, nI_1, nI_mul, nI_and, nI_or, nI_sd, nI_sub, l_sub1, l_addm1, l_all, l_1shl, l_or0, l_add0, l_0add, l_m1, l_m1r, l_neg, l_nn, l_eq0, l_le0, l_0lt, l_eq1, l_m1lt, l_m1le, l_m1eq0, l_10, l_00, l_1le, nI_le_l, nI_lt_l, nI_eq_l, bc_nI, nt_nI, bit_nI, b2_ite, b2_ite1, nI_max, nI_min, isR_nI, n_10, hi_ne, hi_ni, hi_eq, hi_wL, hi_wR, hl_wI, hl_wR, hl_ne, hl_ni, hl_eq, hr_wI, hr_wL, if_true, if_false, if_pos, if_neg, true_and, and_true, not_true_eq_false, not_false_eq_true, x.n, x.h, x.b, x.mo, x.wi, x.ca, x.ro, x.ti, x.il, x.ni, x.ga, x.ri]
  rw [c_tenTo (by omega), e_bnd]
  simp (disch := first | omega | exact x.s | exact hi_eq | ((repeat (first | exact x.s | apply sw_I | apply sw_L | apply sw_cp | apply sw_18 | apply sw_21 | apply sw_22 | apply sw_m12 | apply sw_m18)); done) | rfl) only [wp_ite, wp_some, w_jn, wp_r0, wp_r1, wp_b2, wp_nn, w_bc, w_nt, wo_0, wg_0, wi_0, w_has, w_isRider, w_isPair, w_isHour, w_in, w_in0, w_in_0_1, w_in_0_10, w_in_0_3, w_in_0_30, w_in_0_60, w_in_0_7, w_in_0_9, w_in_0_999, w_in_1_60, w_in_20_27, w_in_2_40, w_in_48_57, w_whole, w_all, wt_0, wt_1, wt_2, nI_add, nI_1, nI_mul, nI_and, nI_or, nI_sd, nI_sub, l_sub1, l_addm1, l_all, l_1shl, l_or0, l_add0, l_0add, l_m1, l_m1r, l_neg, l_nn, l_eq0, l_le0, l_0lt, l_eq1, l_m1lt, l_m1le, l_m1eq0, l_10, l_00, l_1le, nI_le_l, nI_lt_l, nI_eq_l, bc_nI, nt_nI, bit_nI, b2_ite, b2_ite1, nI_max, nI_min, isR_nI, n_10, hi_ne, hi_ni, hi_eq, hi_wL, hi_wR, hl_wI, hl_wR, hl_ne, hl_ni, hl_eq, hr_wI, hr_wL, if_true, if_false, if_pos, if_neg, true_and, and_true, not_true_eq_false, not_false_eq_true, x.n, x.h, x.b, x.mo, x.wi, x.ca, x.ro, x.ti, x.il, x.ni, x.ga, x.ri]
  rw [wp_bnd]
  refine wp_mono (c_fraction x (up := heldF P (wellN P a) p) (by omega) (pow10_lt p8) (Nat.pow_pos (by decide))) (fun _ τ h => ?_)
  rw [wp_some]
  exact ⟨rfl, h.1.mono rfl, s.fr h.1 rfl, h.2⟩
theorem c_keystone (x : CX σ P a) (s : SC σ) {p : Nat} (hp : p ≤ 10) : wp (f_X1_keystone (some 0) (nI p) σ) (QuC σ (keyR P (wellN P a) (keyO P (wellN P a) p P.n)).1 (keyR P (wellN P a) (keyO P (wellN P a) p P.n)).2) := by
  have n8 := x.n8
  have w8 := wellN_lt (P := P) (a := a) n8
  have p8 := pop_le (wellN P a)
  have hin : ((0 : Int32) ≤ nI p ∧ nI p ≤ nI 10) := ⟨by rw [l_nn (by omega)]; trivial, by rw [nI_le_l (by omega) (by decide)]; exact hp⟩
  unfold f_X1_keystone
  simp (disch := first | omega | exact x.s | exact hi_eq | ((repeat (first | exact x.s | apply sw_I | apply sw_L | apply sw_cp | apply sw_18 | apply sw_21 | apply sw_22 | apply sw_m12 | apply sw_m18)); done) | rfl) only [wp_ite, wp_some, w_jn, wp_r0, wp_r1, wp_b2, wp_nn, w_bc, w_nt, wo_0, wg_0, wi_0, w_has, w_isRider, w_isPair, w_isHour, w_in, w_in0, w_in_0_1, w_in_0_10, w_in_0_3, w_in_0_30, w_in_0_60, w_in_0_7, w_in_0_9, w_in_0_999, w_in_1_60, w_in_20_27, w_in_2_40, w_in_48_57, w_whole, w_all, wt_0, wt_1, wt_2, nI_add, nI_1, nI_mul, nI_and, nI_or, nI_sd, nI_sub, l_sub1, l_addm1, l_all, l_1shl, l_or0, l_add0, l_0add, l_m1, l_m1r, l_neg, l_nn, l_eq0, l_le0, l_0lt, l_eq1, l_m1lt, l_m1le, l_m1eq0, l_10, l_00, l_1le, nI_le_l, nI_lt_l, nI_eq_l, bc_nI, nt_nI, bit_nI, b2_ite, b2_ite1, nI_max, nI_min, isR_nI, n_10, n_2, hi_ne, hi_ni, hi_eq, hi_wL, hi_wR, hl_wI, hl_wR, hl_ne, hl_ni, hl_eq, hr_wI, hr_wL, if_true, if_false, if_pos, if_neg, true_and, and_true, not_true_eq_false, not_false_eq_true, x.n, x.h, x.b, x.mo, x.wi, x.ca, x.ro, x.ti, x.il, x.ni, x.ga, x.ri, hin]
  refine wp_up P.n (fun i y τ => y = ((kI (keyO P (wellN P a) p i)).1, (kI (keyO P (wellN P a) p i)).2, nI i) ∧ τ = σ) (fun ag i y τ hi' hJ hag => ?_) (fun ag y τ hJ => ?_) (by omega) ⟨rfl, rfl⟩
  · obtain ⟨rfl, rfl⟩ := hJ
    have kl := keyO_lt n8 w8 hp i
    have sl : sd (wellN P a) (2 ^ i) < 256 := sd_lt _ w8
    have hb : heldF P (sd (wellN P a) (2 ^ i)) p ≤ 25600000000 := heldN_le n8 hp (by omega)
    have hby := c_heldBy x (s := sd (wellN P a) (2 ^ i)) sl hp
    rw [show heldN P (sd (wellN P a) (2 ^ i)) p (sd (wellN P a) (2 ^ i) + 1) = heldF P (sd (wellN P a) (2 ^ i)) p from rfl] at hby
    have key : ∀ o, keyO P (wellN P a) p (i + 1) = o → wp (ag ((kI o).1, (kI o).2, nI (i + 1)) τ) (QuC τ (keyR P (wellN P a) (keyO P (wellN P a) p P.n)).1 (keyR P (wellN P a) (keyO P (wellN P a) p P.n)).2) := fun o ho => hag _ _ ⟨by rw [ho], rfl⟩
    have st : keyO P (wellN P a) p (i + 1) = if (wellN P a).testBit i then (match keyO P (wellN P a) p i with
      | none => some (i, heldF P (sd (wellN P a) (2 ^ i)) p)
      | some x => if heldF P (sd (wellN P a) (2 ^ i)) p < x.2 then some (i, heldF P (sd (wellN P a) (2 ^ i)) p) else some x) else keyO P (wellN P a) p i := rfl
    generalize heldF P (sd (wellN P a) (2 ^ i)) p = its at *
    unfold f_X1_keystone_b24
    simp (disch := first | omega | exact x.s | exact hi_eq | ((repeat (first | exact x.s | apply sw_I | apply sw_L | apply sw_cp | apply sw_18 | apply sw_21 | apply sw_22 | apply sw_m12 | apply sw_m18)); done) | rfl) only [wp_ite, wp_some, w_jn, wp_r0, wp_r1, wp_b2, wp_nn, w_bc, w_nt, wo_0, wg_0, wi_0, w_has, w_isRider, w_isPair, w_isHour, w_in, w_in0, w_in_0_1, w_in_0_10, w_in_0_3, w_in_0_30, w_in_0_60, w_in_0_7, w_in_0_9, w_in_0_999, w_in_1_60, w_in_20_27, w_in_2_40, w_in_48_57, w_whole, w_all, wt_0, wt_1, wt_2, nI_add, nI_1, nI_mul, nI_and, nI_or, nI_sd, nI_sub, l_sub1, l_addm1, l_all, l_1shl, l_or0, l_add0, l_0add, l_m1, l_m1r, l_neg, l_nn, l_eq0, l_le0, l_0lt, l_eq1, l_m1lt, l_m1le, l_m1eq0, l_10, l_00, l_1le, nI_le_l, nI_lt_l, nI_eq_l, bc_nI, nt_nI, bit_nI, b2_ite, b2_ite1, nI_max, nI_min, isR_nI, n_5, hi_ne, hi_ni, hi_eq, hi_wL, hi_wR, hl_wI, hl_wR, hl_ne, hl_ni, hl_eq, hr_wI, hr_wL, if_true, if_false, if_pos, if_neg, true_and, and_true, not_true_eq_false, not_false_eq_true, x.n, x.h, x.b, x.mo, x.wi, x.ca, x.ro, x.ti, x.il, x.ni, x.ga, x.ri]
    rw [c_well x, e_bnd]
    simp (disch := first | omega | exact x.s | exact hi_eq | ((repeat (first | exact x.s | apply sw_I | apply sw_L | apply sw_cp | apply sw_18 | apply sw_21 | apply sw_22 | apply sw_m12 | apply sw_m18)); done) | rfl) only [wp_ite, wp_some, w_jn, wp_r0, wp_r1, wp_b2, wp_nn, w_bc, w_nt, wo_0, wg_0, wi_0, w_has, w_isRider, w_isPair, w_isHour, w_in, w_in0, w_in_0_1, w_in_0_10, w_in_0_3, w_in_0_30, w_in_0_60, w_in_0_7, w_in_0_9, w_in_0_999, w_in_1_60, w_in_20_27, w_in_2_40, w_in_48_57, w_whole, w_all, wt_0, wt_1, wt_2, nI_add, nI_1, nI_mul, nI_and, nI_or, nI_sd, nI_sub, l_sub1, l_addm1, l_all, l_1shl, l_or0, l_add0, l_0add, l_m1, l_m1r, l_neg, l_nn, l_eq0, l_le0, l_0lt, l_eq1, l_m1lt, l_m1le, l_m1eq0, l_10, l_00, l_1le, nI_le_l, nI_lt_l, nI_eq_l, bc_nI, nt_nI, bit_nI, b2_ite, b2_ite1, nI_max, nI_min, isR_nI, n_5, hi_ne, hi_ni, hi_eq, hi_wL, hi_wR, hl_wI, hl_wR, hl_ne, hl_ni, hl_eq, hr_wI, hr_wL, if_true, if_false, if_pos, if_neg, true_and, and_true, not_true_eq_false, not_false_eq_true, x.n, x.h, x.b, x.mo, x.wi, x.ca, x.ro, x.ti, x.il, x.ni, x.ga, x.ri]
    by_cases e : (wellN P a).testBit i = true
    · rw [if_pos e] at st
      rw [if_pos e, c_well x, e_bnd]
      simp (disch := first | omega | exact x.s | exact hi_eq | ((repeat (first | exact x.s | apply sw_I | apply sw_L | apply sw_cp | apply sw_18 | apply sw_21 | apply sw_22 | apply sw_m12 | apply sw_m18)); done) | rfl) only [wp_ite, wp_some, w_jn, wp_r0, wp_r1, wp_b2, wp_nn, w_bc, w_nt, wo_0, wg_0, wi_0, w_has, w_isRider, w_isPair, w_isHour, w_in, w_in0, w_in_0_1, w_in_0_10, w_in_0_3, w_in_0_30, w_in_0_60, w_in_0_7, w_in_0_9, w_in_0_999, w_in_1_60, w_in_20_27, w_in_2_40, w_in_48_57, w_whole, w_all, wt_0, wt_1, wt_2, nI_add, nI_1, nI_mul, nI_and, nI_or, nI_sd, nI_sub, l_sub1, l_addm1, l_all, l_1shl, l_or0, l_add0, l_0add, l_m1, l_m1r, l_neg, l_nn, l_eq0, l_le0, l_0lt, l_eq1, l_m1lt, l_m1le, l_m1eq0, l_10, l_00, l_1le, nI_le_l, nI_lt_l, nI_eq_l, bc_nI, nt_nI, bit_nI, b2_ite, b2_ite1, nI_max, nI_min, isR_nI, n_5, hi_ne, hi_ni, hi_eq, hi_wL, hi_wR, hl_wI, hl_wR, hl_ne, hl_ni, hl_eq, hr_wI, hr_wL, if_true, if_false, if_pos, if_neg, true_and, and_true, not_true_eq_false, not_false_eq_true, x.n, x.h, x.b, x.mo, x.wi, x.ca, x.ro, x.ti, x.il, x.ni, x.ga, x.ri]
      rw [hby, e_bnd]
      have i63 : its < 2 ^ 63 := by omega
      have lg1 : ∀ y : Int64, (0 ≤ lg_cmp (nL its) y) = ¬ (nL its < y) := fun y => by
        rw [← lg_cmp_lt]
        exact propext Int32.not_lt.symm
      cases hk' : keyO P (wellN P a) p i with
      | none =>
        rw [hk'] at st
        have h1 : nL its < 9223372036854775807 := by rw [show (9223372036854775807 : Int64) = nL 9223372036854775807 from rfl, nL_lt i63 (by decide)]; omega
        have := key _ st
        unfold kI lmin at *
        simp (disch := first | omega | exact x.s | exact hi_eq | ((repeat (first | exact x.s | apply sw_I | apply sw_L | apply sw_cp | apply sw_18 | apply sw_21 | apply sw_22 | apply sw_m12 | apply sw_m18)); done) | rfl) only [wp_ite, wp_some, w_jn, wp_r0, wp_r1, wp_b2, wp_nn, w_bc, w_nt, wo_0, wg_0, wi_0, w_has, w_isRider, w_isPair, w_isHour, w_in, w_in0, w_in_0_1, w_in_0_10, w_in_0_3, w_in_0_30, w_in_0_60, w_in_0_7, w_in_0_9, w_in_0_999, w_in_1_60, w_in_20_27, w_in_2_40, w_in_48_57, w_whole, w_all, wt_0, wt_1, wt_2, nI_add, nI_1, nI_mul, nI_and, nI_or, nI_sd, nI_sub, l_sub1, l_addm1, l_all, l_1shl, l_or0, l_add0, l_0add, l_m1, l_m1r, l_neg, l_nn, l_eq0, l_le0, l_0lt, l_eq1, l_m1lt, l_m1le, l_m1eq0, l_10, l_00, l_1le, nI_le_l, nI_lt_l, nI_eq_l, bc_nI, nt_nI, bit_nI, b2_ite, b2_ite1, nI_max, nI_min, isR_nI, n_5, hi_ne, hi_ni, hi_eq, hi_wL, hi_wR, hl_wI, hl_wR, hl_ne, hl_ni, hl_eq, hr_wI, hr_wL, if_true, if_false, if_pos, if_neg, true_and, and_true, not_true_eq_false, not_false_eq_true, x.n, x.h, x.b, x.mo, x.wi, x.ca, x.ro, x.ti, x.il, x.ni, x.ga, x.ri, lg1, h1]
        exact this
      | some y =>
        rw [hk'] at st
        obtain ⟨y1, y2, -⟩ := kl y hk'
        dsimp only at st
        have := key _ st
        by_cases h1 : its < y.2
        · rw [if_pos h1] at this
          have h2 : nL its < nL y.2 := by rw [nL_lt i63 (by omega)]; exact h1
          unfold kI lmin at *
          simp (disch := first | omega | exact x.s | exact hi_eq | ((repeat (first | exact x.s | apply sw_I | apply sw_L | apply sw_cp | apply sw_18 | apply sw_21 | apply sw_22 | apply sw_m12 | apply sw_m18)); done) | rfl) only [wp_ite, wp_some, w_jn, wp_r0, wp_r1, wp_b2, wp_nn, w_bc, w_nt, wo_0, wg_0, wi_0, w_has, w_isRider, w_isPair, w_isHour, w_in, w_in0, w_in_0_1, w_in_0_10, w_in_0_3, w_in_0_30, w_in_0_60, w_in_0_7, w_in_0_9, w_in_0_999, w_in_1_60, w_in_20_27, w_in_2_40, w_in_48_57, w_whole, w_all, wt_0, wt_1, wt_2, nI_add, nI_1, nI_mul, nI_and, nI_or, nI_sd, nI_sub, l_sub1, l_addm1, l_all, l_1shl, l_or0, l_add0, l_0add, l_m1, l_m1r, l_neg, l_nn, l_eq0, l_le0, l_0lt, l_eq1, l_m1lt, l_m1le, l_m1eq0, l_10, l_00, l_1le, nI_le_l, nI_lt_l, nI_eq_l, bc_nI, nt_nI, bit_nI, b2_ite, b2_ite1, nI_max, nI_min, isR_nI, n_5, hi_ne, hi_ni, hi_eq, hi_wL, hi_wR, hl_wI, hl_wR, hl_ne, hl_ni, hl_eq, hr_wI, hr_wL, if_true, if_false, if_pos, if_neg, true_and, and_true, not_true_eq_false, not_false_eq_true, x.n, x.h, x.b, x.mo, x.wi, x.ca, x.ro, x.ti, x.il, x.ni, x.ga, x.ri, lg1, h2]
          exact this
        · rw [if_neg h1] at this
          have h2 : ¬ nL its < nL y.2 := by rw [nL_lt i63 (by omega)]; exact h1
          unfold kI lmin at *
          simp (disch := first | omega | exact x.s | exact hi_eq | ((repeat (first | exact x.s | apply sw_I | apply sw_L | apply sw_cp | apply sw_18 | apply sw_21 | apply sw_22 | apply sw_m12 | apply sw_m18)); done) | rfl) only [wp_ite, wp_some, w_jn, wp_r0, wp_r1, wp_b2, wp_nn, w_bc, w_nt, wo_0, wg_0, wi_0, w_has, w_isRider, w_isPair, w_isHour, w_in, w_in0, w_in_0_1, w_in_0_10, w_in_0_3, w_in_0_30, w_in_0_60, w_in_0_7, w_in_0_9, w_in_0_999, w_in_1_60, w_in_20_27, w_in_2_40, w_in_48_57, w_whole, w_all, wt_0, wt_1, wt_2, nI_add, nI_1, nI_mul, nI_and, nI_or, nI_sd, nI_sub, l_sub1, l_addm1, l_all, l_1shl, l_or0, l_add0, l_0add, l_m1, l_m1r, l_neg, l_nn, l_eq0, l_le0, l_0lt, l_eq1, l_m1lt, l_m1le, l_m1eq0, l_10, l_00, l_1le, nI_le_l, nI_lt_l, nI_eq_l, bc_nI, nt_nI, bit_nI, b2_ite, b2_ite1, nI_max, nI_min, isR_nI, n_5, hi_ne, hi_ni, hi_eq, hi_wL, hi_wR, hl_wI, hl_wR, hl_ne, hl_ni, hl_eq, hr_wI, hr_wL, if_true, if_false, if_pos, if_neg, true_and, and_true, not_true_eq_false, not_false_eq_true, x.n, x.h, x.b, x.mo, x.wi, x.ca, x.ro, x.ti, x.il, x.ni, x.ga, x.ri, lg1, h2]
          exact this
    · rw [if_neg e] at st
      rw [if_neg e]
      exact key _ st
  · obtain ⟨rfl, rfl⟩ := hJ
    have kl := keyO_lt n8 w8 hp P.n
    unfold f_X1_keystone_b24
    cases hk' : keyO P (wellN P a) p P.n with
    | none =>
      unfold kI
      dsimp only
      simp (disch := first | omega | exact x.s | exact hi_eq | ((repeat (first | exact x.s | apply sw_I | apply sw_L | apply sw_cp | apply sw_18 | apply sw_21 | apply sw_22 | apply sw_m12 | apply sw_m18)); done) | rfl) only [wp_ite, wp_some, w_jn, wp_r0, wp_r1, wp_b2, wp_nn, w_bc, w_nt, wo_0, wg_0, wi_0, w_has, w_isRider, w_isPair, w_isHour, w_in, w_in0, w_in_0_1, w_in_0_10, w_in_0_3, w_in_0_30, w_in_0_60, w_in_0_7, w_in_0_9, w_in_0_999, w_in_1_60, w_in_20_27, w_in_2_40, w_in_48_57, w_whole, w_all, wt_0, wt_1, wt_2, nI_add, nI_1, nI_mul, nI_and, nI_or, nI_sd, nI_sub, l_sub1, l_addm1, l_all, l_1shl, l_or0, l_add0, l_0add, l_m1, l_m1r, l_neg, l_nn, l_eq0, l_le0, l_0lt, l_eq1, l_m1lt, l_m1le, l_m1eq0, l_10, l_00, l_1le, nI_le_l, nI_lt_l, nI_eq_l, bc_nI, nt_nI, bit_nI, b2_ite, b2_ite1, nI_max, nI_min, isR_nI, n_10, n_2, n_5, hi_ne, hi_ni, hi_eq, hi_wL, hi_wR, hl_wI, hl_wR, hl_ne, hl_ni, hl_eq, hr_wI, hr_wL, if_true, if_false, if_pos, if_neg, true_and, and_true, not_true_eq_false, not_false_eq_true, x.n, x.h, x.b, x.mo, x.wi, x.ca, x.ro, x.ti, x.il, x.ni, x.ga, x.ri, l_0lem2]
      exact ⟨rfl, Fr.refl, s, RwC.fr (D := []) (F := []) (G := []) Fr.refl rfl⟩
    | some y =>
      obtain ⟨y1, y2, y3⟩ := kl y hk'
      have pp := pop_pos y3 (by omega)
      unfold kI
      dsimp only
      simp (disch := first | omega | exact x.s | exact hi_eq | ((repeat (first | exact x.s | apply sw_I | apply sw_L | apply sw_cp | apply sw_18 | apply sw_21 | apply sw_22 | apply sw_m12 | apply sw_m18)); done) | rfl) only [wp_ite, wp_some, w_jn, wp_r0, wp_r1, wp_b2, wp_nn, w_bc, w_nt, wo_0, wg_0, wi_0, w_has, w_isRider, w_isPair, w_isHour, w_in, w_in0, w_in_0_1, w_in_0_10, w_in_0_3, w_in_0_30, w_in_0_60, w_in_0_7, w_in_0_9, w_in_0_999, w_in_1_60, w_in_20_27, w_in_2_40, w_in_48_57, w_whole, w_all, wt_0, wt_1, wt_2, nI_add, nI_1, nI_mul, nI_and, nI_or, nI_sd, nI_sub, l_sub1, l_addm1, l_all, l_1shl, l_or0, l_add0, l_0add, l_m1, l_m1r, l_neg, l_nn, l_eq0, l_le0, l_0lt, l_eq1, l_m1lt, l_m1le, l_m1eq0, l_10, l_00, l_1le, nI_le_l, nI_lt_l, nI_eq_l, bc_nI, nt_nI, bit_nI, b2_ite, b2_ite1, nI_max, nI_min, isR_nI, n_10, n_2, n_5, hi_ne, hi_ni, hi_eq, hi_wL, hi_wR, hl_wI, hl_wR, hl_ne, hl_ni, hl_eq, hr_wI, hr_wL, if_true, if_false, if_pos, if_neg, true_and, and_true, not_true_eq_false, not_false_eq_true, x.n, x.h, x.b, x.mo, x.wi, x.ca, x.ro, x.ti, x.il, x.ni, x.ga, x.ri]
      rw [c_well x, e_bnd]
      simp (disch := first | omega | exact x.s | exact hi_eq | ((repeat (first | exact x.s | apply sw_I | apply sw_L | apply sw_cp | apply sw_18 | apply sw_21 | apply sw_22 | apply sw_m12 | apply sw_m18)); done) | rfl) only [wp_ite, wp_some, w_jn, wp_r0, wp_r1, wp_b2, wp_nn, w_bc, w_nt, wo_0, wg_0, wi_0, w_has, w_isRider, w_isPair, w_isHour, w_in, w_in0, w_in_0_1, w_in_0_10, w_in_0_3, w_in_0_30, w_in_0_60, w_in_0_7, w_in_0_9, w_in_0_999, w_in_1_60, w_in_20_27, w_in_2_40, w_in_48_57, w_whole, w_all, wt_0, wt_1, wt_2, nI_add, nI_1, nI_mul, nI_and, nI_or, nI_sd, nI_sub, l_sub1, l_addm1, l_all, l_1shl, l_or0, l_add0, l_0add, l_m1, l_m1r, l_neg, l_nn, l_eq0, l_le0, l_0lt, l_eq1, l_m1lt, l_m1le, l_m1eq0, l_10, l_00, l_1le, nI_le_l, nI_lt_l, nI_eq_l, bc_nI, nt_nI, bit_nI, b2_ite, b2_ite1, nI_max, nI_min, isR_nI, n_10, n_2, n_5, hi_ne, hi_ni, hi_eq, hi_wL, hi_wR, hl_wI, hl_wR, hl_ne, hl_ni, hl_eq, hr_wI, hr_wL, if_true, if_false, if_pos, if_neg, true_and, and_true, not_true_eq_false, not_false_eq_true, x.n, x.h, x.b, x.mo, x.wi, x.ca, x.ro, x.ti, x.il, x.ni, x.ga, x.ri]
      rw [c_tenTo (by omega), e_bnd]
      simp (disch := first | omega | exact x.s | exact hi_eq | ((repeat (first | exact x.s | apply sw_I | apply sw_L | apply sw_cp | apply sw_18 | apply sw_21 | apply sw_22 | apply sw_m12 | apply sw_m18)); done) | rfl) only [wp_ite, wp_some, w_jn, wp_r0, wp_r1, wp_b2, wp_nn, w_bc, w_nt, wo_0, wg_0, wi_0, w_has, w_isRider, w_isPair, w_isHour, w_in, w_in0, w_in_0_1, w_in_0_10, w_in_0_3, w_in_0_30, w_in_0_60, w_in_0_7, w_in_0_9, w_in_0_999, w_in_1_60, w_in_20_27, w_in_2_40, w_in_48_57, w_whole, w_all, wt_0, wt_1, wt_2, nI_add, nI_1, nI_mul, nI_and, nI_or, nI_sd, nI_sub, l_sub1, l_addm1, l_all, l_1shl, l_or0, l_add0, l_0add, l_m1, l_m1r, l_neg, l_nn, l_eq0, l_le0, l_0lt, l_eq1, l_m1lt, l_m1le, l_m1eq0, l_10, l_00, l_1le, nI_le_l, nI_lt_l, nI_eq_l, bc_nI, nt_nI, bit_nI, b2_ite, b2_ite1, nI_max, nI_min, isR_nI, n_10, n_2, n_5, hi_ne, hi_ni, hi_eq, hi_wL, hi_wR, hl_wI, hl_wR, hl_ne, hl_ni, hl_eq, hr_wI, hr_wL, if_true, if_false, if_pos, if_neg, true_and, and_true, not_true_eq_false, not_false_eq_true, x.n, x.h, x.b, x.mo, x.wi, x.ca, x.ro, x.ti, x.il, x.ni, x.ga, x.ri]
      rw [wp_bnd]
      refine wp_mono (c_fraction x (by omega) (pow10_lt (by omega)) (Nat.pow_pos (by decide))) (fun _ τ' h => ?_)
      rw [wp_some]
      exact ⟨rfl, h.1.mono rfl, s.fr h.1 rfl, h.2⟩
end ckey
