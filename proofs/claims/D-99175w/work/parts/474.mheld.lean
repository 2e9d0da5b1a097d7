/-! PURE 56: the reference: bare, held, keystone -/
theorem cnt_ext {p : Nat → Bool} {n : Nat} (h : ∀ i, n ≤ i → p i = false) : ∀ k, cnt p (n + k) = cnt p n := by
  intro k
  induction k with
  | zero => rfl
  | succ k ih =>
    show cnt p (n + k) + (p (n + k)).toNat = _
    rw [ih, h (n + k) (by omega)]
    rfl
theorem heldT_pow {P : Pk} {s t p : Nat} (hts : sbs t s) : ∀ n, cnt t.testBit n ≤ cnt s.testBit n ∧ heldT P s t p n = (10 - p) ^ cnt t.testBit n * p ^ (cnt s.testBit n - cnt t.testBit n) := by
  intro n
  induction n with
  | zero => exact ⟨Nat.le_refl _, rfl⟩
  | succ n ih =>
    obtain ⟨i1, i2⟩ := ih
    have h1 : heldT P s t p (n + 1) = heldT P s t p n * (if s.testBit n then (if t.testBit n then 10 - p else p) else 1) := rfl
    have h2 : cnt t.testBit (n + 1) = cnt t.testBit n + (t.testBit n).toNat := rfl
    have h3 : cnt s.testBit (n + 1) = cnt s.testBit n + (s.testBit n).toNat := rfl
    rw [h1, h2, h3, i2]
    have hb := sbs_iff.mp hts n
    cases hs : s.testBit n
    · have ht : t.testBit n = false := by
        cases ht : t.testBit n
        · rfl
        · rw [hb ht] at hs; cases hs
      rw [ht]
      exact ⟨i1, by simp⟩
    · cases ht : t.testBit n
      · refine ⟨by simp only [Bool.toNat_true, Bool.toNat_false]; omega, ?_⟩
        simp only [Bool.toNat_true, Bool.toNat_false, if_true, Bool.false_eq_true, if_false, Nat.add_zero]
        rw [show cnt s.testBit n + 1 - cnt t.testBit n = (cnt s.testBit n - cnt t.testBit n) + 1 by omega, Nat.pow_succ, Nat.mul_assoc]
      · refine ⟨by simp only [Bool.toNat_true]; omega, ?_⟩
        simp only [Bool.toNat_true, if_true]
        rw [show cnt s.testBit n + 1 - (cnt t.testBit n + 1) = cnt s.testBit n - cnt t.testBit n by omega, Nat.pow_succ, Nat.mul_right_comm]
theorem pop_cnt {s n : Nat} (n8 : n ≤ 8) (hs : s < 2 ^ n) : cnt s.testBit n = pop s := by
  have := cnt_ext (p := s.testBit) (n := n) (fun i hi' => bit_lt hs hi') (8 - n)
  rw [show n + (8 - n) = 8 by omega] at this
  exact this.symm
theorem heldT_pop {P : Pk} {s t p : Nat} (n8 : P.n ≤ 8) (hs : s < 2 ^ P.n) (hts : sbs t s) : heldT P s t p P.n = (10 - p) ^ pop t * p ^ (pop s - pop t) := by
  rw [(heldT_pow hts P.n).2, pop_cnt n8 hs, pop_cnt n8 (Nat.lt_of_le_of_lt (sbs_le hts) hs)]
section mheld
variable {σ τ : Hp} {P : Pk} {a : HS}
theorem m_power {v k : Nat} (hk' : k ≤ 100) : f_X3_power (nL v) (nI k) σ = some (nL (v ^ k), σ) := by
  refine wp_eq ?_
  unfold f_X3_power
  refine wp_up k (fun i y τ => y = (nL (v ^ i), nI i) ∧ τ = σ) (fun ag i y τ hi' hJ hag => ?_) (fun ag y τ hJ => ?_) (by omega) ⟨rfl, rfl⟩
  · obtain ⟨rfl, rfl⟩ := hJ
    unfold f_X3_power_b5
    rw [if_neg (by rw [nI_le_l (by omega) (by omega)]; omega), nL_mul, nI_1]
    exact hag _ _ ⟨rfl, rfl⟩
  · obtain ⟨rfl, rfl⟩ := hJ
    unfold f_X3_power_b5
    rw [if_pos (by rw [nI_le_l (by omega) (by omega)]; exact Nat.le_refl _), wp_some]
    exact ⟨rfl, rfl⟩
theorem m_heldParts (x : MX σ P a) (hc : CanM σ P a (2 ^ P.n)) {s p : Nat} (hs : s < 2 ^ P.n) (hsi : s &&& a.ill = 0) (hp : p ≤ 10) : f_X3_heldParts (some 37) (nI s) (nI p) σ = some (nL (heldF P s p), σ) := by
  have n8 := x.n8
  have N8 : 2 ^ P.n ≤ 256 := pow_le8 n8
  have p8 := pop_le s
  refine wp_eq ?_
  unfold f_X3_heldParts
  simp (disch := first | omega | exact x.s | exact hi_eq | ((repeat (first | exact x.s | apply sw_I | apply sw_L | apply sw_cp | apply sw_18 | apply sw_21 | apply sw_22 | apply sw_m12 | apply sw_m18)); done) | rfl) only [wp_ite, wp_some, w_jn, wp_r0, wp_r1, wp_b2, wp_nn, w_bc, w_nt, wo_37, wg_37, wi_37, w_has3, w_isMan, w_areTwo, w_isHour3, w_in3, w_night, wtM_0, wtM_1, wtM_2, nI_add, nI_1, nI_mul, nI_and, nI_or, nI_sd, nI_sub, l_sub1, l_addm1, l_all, l_1shl, l_or0, l_add0, l_0add, l_m1, l_m1r, l_neg, l_nn, l_eq0, l_le0, l_0lt, l_eq1, l_m1lt, l_m1le, l_m1eq0, l_10, l_00, l_1le, nI_le_l, nI_lt_l, nI_eq_l, bc_nI, nt_nI, bit_nI, b2_ite, b2_ite1, nI_max, nI_min, isR_nI, hi_ne, hi_ni, hi_eq, hi_wL, hi_wR, hl_wI, hl_wR, hl_ne, hl_ni, hl_eq, hr_wI, hr_wL, if_true, if_false, if_pos, if_neg, true_and, and_true, not_true_eq_false, not_false_eq_true, x.n, x.h, x.b, x.mo, x.wi, x.ca, x.ro, x.ti, x.il, x.ni, x.ga, x.ri]
  refine wp_up (s + 1) (fun i y τ => y = (nL (heldN P s p i), nI i) ∧ τ = σ) (fun ag i y τ hi' hJ hag => ?_) (fun ag y τ hJ => ?_) (by omega) ⟨rfl, rfl⟩
  · obtain ⟨rfl, rfl⟩ := hJ
    have sl : sd i s < 256 := sd_lt _ (by omega)
    have q8 := pop_le i
    have go : ∀ k, k = (if sbs i s ∧ lackO P i = none then heldT P s i p P.n else 0) → wp (ag (nL (heldN P s p i + k), nI (i + 1)) τ) (fun v υ => v = nL (heldF P s p) ∧ υ = τ) := fun k hk' => hag _ _ ⟨by rw [hk']; rfl, rfl⟩
    have hci := hc i (by omega)
    unfold f_X3_heldParts_b11
    by_cases e1 : sd i s = 0
    · have his : sbs i s := sd_eq0.mp e1
      have hii : sd i a.ill = i := by
        have : i &&& a.ill = 0 := sbs_mono0 his hsi
        unfold sd; rw [this, Nat.xor_zero]
      have pm := pop_mono his
      rw [hii] at hci
      by_cases e2 : lackO P i = none
      · rw [if_pos e2] at hci
        simp (disch := first | omega | exact x.s | exact hi_eq | ((repeat (first | exact x.s | apply sw_I | apply sw_L | apply sw_cp | apply sw_18 | apply sw_21 | apply sw_22 | apply sw_m12 | apply sw_m18)); done) | rfl) only [wp_ite, wp_some, w_jn, wp_r0, wp_r1, wp_b2, wp_nn, w_bc, w_nt, wo_37, wg_37, wi_37, wr_37_41, wl_62, ws_62, w_has3, w_isMan, w_areTwo, w_isHour3, w_in3, w_night, wtM_0, wtM_1, wtM_2, nI_add, nI_1, nI_mul, nI_and, nI_or, nI_sd, nI_sub, l_sub1, l_addm1, l_all, l_1shl, l_or0, l_add0, l_0add, l_m1, l_m1r, l_neg, l_nn, l_eq0, l_le0, l_0lt, l_eq1, l_m1lt, l_m1le, l_m1eq0, l_10, l_00, l_1le, nI_le_l, nI_lt_l, nI_eq_l, bc_nI, nt_nI, bit_nI, b2_ite, b2_ite1, nI_max, nI_min, isR_nI, n_10, n_2, hi_ne, hi_ni, hi_eq, hi_wL, hi_wR, hl_wI, hl_wR, hl_ne, hl_ni, hl_eq, hr_wI, hr_wL, if_true, if_false, if_pos, if_neg, true_and, and_true, not_true_eq_false, not_false_eq_true, x.n, x.h, x.b, x.mo, x.wi, x.ca, x.ro, x.ti, x.il, x.ni, x.ga, x.ri, e1, hci, nL_of]
        rw [m_power (by omega), e_bnd, m_power (by omega), e_bnd, nL_mul, nL_add, ← heldT_pop n8 hs his]
        exact go _ (by rw [if_pos ⟨his, e2⟩])
      · rw [if_neg e2] at hci
        simp (disch := first | omega | exact x.s | exact hi_eq | ((repeat (first | exact x.s | apply sw_I | apply sw_L | apply sw_cp | apply sw_18 | apply sw_21 | apply sw_22 | apply sw_m12 | apply sw_m18)); done) | rfl) only [wp_ite, wp_some, w_jn, wp_r0, wp_r1, wp_b2, wp_nn, w_bc, w_nt, wo_37, wg_37, wi_37, wr_37_41, wl_62, ws_62, w_has3, w_isMan, w_areTwo, w_isHour3, w_in3, w_night, wtM_0, wtM_1, wtM_2, nI_add, nI_1, nI_mul, nI_and, nI_or, nI_sd, nI_sub, l_sub1, l_addm1, l_all, l_1shl, l_or0, l_add0, l_0add, l_m1, l_m1r, l_neg, l_nn, l_eq0, l_le0, l_0lt, l_eq1, l_m1lt, l_m1le, l_m1eq0, l_10, l_00, l_1le, nI_le_l, nI_lt_l, nI_eq_l, bc_nI, nt_nI, bit_nI, b2_ite, b2_ite1, nI_max, nI_min, isR_nI, n_10, n_2, hi_ne, hi_ni, hi_eq, hi_wL, hi_wR, hl_wI, hl_wR, hl_ne, hl_ni, hl_eq, hr_wI, hr_wL, if_true, if_false, if_pos, if_neg, true_and, and_true, not_true_eq_false, not_false_eq_true, x.n, x.h, x.b, x.mo, x.wi, x.ca, x.ro, x.ti, x.il, x.ni, x.ga, x.ri, e1, hci]
        exact go 0 (by rw [if_neg (fun z => e2 z.2)])
    · simp (disch := first | omega | exact x.s | exact hi_eq | ((repeat (first | exact x.s | apply sw_I | apply sw_L | apply sw_cp | apply sw_18 | apply sw_21 | apply sw_22 | apply sw_m12 | apply sw_m18)); done) | rfl) only [wp_ite, wp_some, w_jn, wp_r0, wp_r1, wp_b2, wp_nn, w_bc, w_nt, wo_37, wg_37, wi_37, wr_37_41, wl_62, ws_62, w_has3, w_isMan, w_areTwo, w_isHour3, w_in3, w_night, wtM_0, wtM_1, wtM_2, nI_add, nI_1, nI_mul, nI_and, nI_or, nI_sd, nI_sub, l_sub1, l_addm1, l_all, l_1shl, l_or0, l_add0, l_0add, l_m1, l_m1r, l_neg, l_nn, l_eq0, l_le0, l_0lt, l_eq1, l_m1lt, l_m1le, l_m1eq0, l_10, l_00, l_1le, nI_le_l, nI_lt_l, nI_eq_l, bc_nI, nt_nI, bit_nI, b2_ite, b2_ite1, nI_max, nI_min, isR_nI, n_10, n_2, hi_ne, hi_ni, hi_eq, hi_wL, hi_wR, hl_wI, hl_wR, hl_ne, hl_ni, hl_eq, hr_wI, hr_wL, if_true, if_false, if_pos, if_neg, true_and, and_true, not_true_eq_false, not_false_eq_true, x.n, x.h, x.b, x.mo, x.wi, x.ca, x.ro, x.ti, x.il, x.ni, x.ga, x.ri, e1]
      exact go 0 (by rw [if_neg (fun z => e1 (sd_eq0.mpr z.1))])
  · obtain ⟨rfl, rfl⟩ := hJ
    unfold f_X3_heldParts_b11
    simp (disch := first | omega | exact x.s | exact hi_eq | ((repeat (first | exact x.s | apply sw_I | apply sw_L | apply sw_cp | apply sw_18 | apply sw_21 | apply sw_22 | apply sw_m12 | apply sw_m18)); done) | rfl) only [wp_ite, wp_some, w_jn, wp_r0, wp_r1, wp_b2, wp_nn, w_bc, w_nt, wo_37, wg_37, wi_37, wr_37_41, wl_62, ws_62, w_has3, w_isMan, w_areTwo, w_isHour3, w_in3, w_night, wtM_0, wtM_1, wtM_2, nI_add, nI_1, nI_mul, nI_and, nI_or, nI_sd, nI_sub, l_sub1, l_addm1, l_all, l_1shl, l_or0, l_add0, l_0add, l_m1, l_m1r, l_neg, l_nn, l_eq0, l_le0, l_0lt, l_eq1, l_m1lt, l_m1le, l_m1eq0, l_10, l_00, l_1le, nI_le_l, nI_lt_l, nI_eq_l, bc_nI, nt_nI, bit_nI, b2_ite, b2_ite1, nI_max, nI_min, isR_nI, n_10, n_2, hi_ne, hi_ni, hi_eq, hi_wL, hi_wR, hl_wI, hl_wR, hl_ne, hl_ni, hl_eq, hr_wI, hr_wL, if_true, if_false, if_pos, if_neg, true_and, and_true, not_true_eq_false, not_false_eq_true, x.n, x.h, x.b, x.mo, x.wi, x.ca, x.ro, x.ti, x.il, x.ni, x.ga, x.ri]
    rfl
theorem m_fraction (x : MX σ P a) {up low : Nat} (hu : up < 2 ^ 60) (hl' : low < 2 ^ 45) (h0 : 0 < low) : wp (f_X3_tellPart (some 37) (nL up) (nL low) σ) (fun _ τ => Fr [43] [] [10] σ τ ∧ RowM τ (fracL up low)) := by
  have hg : 0 < Nat.gcd low up := Nat.gcd_pos_of_pos_left _ h0
  have hg2 : Nat.gcd low up ≤ low := Nat.gcd_le_left _ h0
  have ne := nL_ne0 hg (by omega)
  unfold f_X3_tellPart
  rw [gcd_X3 45 up low 100 hl' (by omega) (by decide) (by decide), e_bnd, nL_div (by omega) (by omega), nL_div (by omega) (by omega)]
  skip
  simp (disch := first | omega | exact x.s | exact hi_eq | ((repeat (first | exact x.s | apply sw_I | apply sw_L | apply sw_cp | apply sw_18 | apply sw_21 | apply sw_22 | apply sw_m12 | apply sw_m18)); done) | rfl) only [wp_ite, wp_some, w_jn, wp_r0, wp_r1, wp_b2, wp_nn, w_bc, w_nt, wo_37, wg_37, wi_37, w_has3, w_isMan, w_areTwo, w_isHour3, w_in3, w_night, wtM_0, wtM_1, wtM_2, nI_add, nI_1, nI_mul, nI_and, nI_or, nI_sd, nI_sub, l_sub1, l_addm1, l_all, l_1shl, l_or0, l_add0, l_0add, l_m1, l_m1r, l_neg, l_nn, l_eq0, l_le0, l_0lt, l_eq1, l_m1lt, l_m1le, l_m1eq0, l_10, l_00, l_1le, nI_le_l, nI_lt_l, nI_eq_l, bc_nI, nt_nI, bit_nI, b2_ite, b2_ite1, nI_max, nI_min, isR_nI, n_10, n_100, n_2, hi_ne, hi_ni, hi_eq, hi_wL, hi_wR, hl_wI, hl_wR, hl_ne, hl_ni, hl_eq, hr_wI, hr_wL, if_true, if_false, if_pos, if_neg, true_and, and_true, not_true_eq_false, not_false_eq_true, x.n, x.h, x.b, x.mo, x.wi, x.ca, x.ro, x.ti, x.il, x.ni, x.ga, x.ri, wp_ldv, ne]
  exact ⟨(by repeat (first | exact Fr.refl | exact (Fr.refl).mono rfl | refine Fr.putI ?_ rfl | refine Fr.putL ?_ rfl | refine Fr.putR ?_ rfl)), rowM2⟩
theorem well_lt : wellN P a < 2 ^ P.n := by
  have := sbs_le (sbs_sd (2 ^ P.n - 1) a.ill)
  have := Nat.two_pow_pos P.n
  unfold wellN
  omega
theorem m_heldQ (x : MX σ P a) (s : SM σ) {p : Nat} (hp : p ≤ 10) : wp (f_X3_held (some 37) (nI p) σ) (QuM σ 0 (some (fracL (heldF P (wellN P a) p) (10 ^ pop (wellN P a))))) := by
  have n8 := x.n8
  have x0 := x
  have w8 := wellN_lt (P := P) (a := a) n8
  have p8 := pop_le (wellN P a)
  have hb : heldF P (wellN P a) p ≤ 25600000000 := heldN_le n8 hp (by omega)
  have hin : ((0 : Int32) ≤ nI p ∧ nI p ≤ nI 10) := ⟨by rw [l_nn (by omega)]; trivial, by rw [nI_le_l (by omega) (by decide)]; exact hp⟩
  unfold f_X3_held
  simp (disch := first | omega | exact x.s | exact hi_eq | ((repeat (first | exact x.s | apply sw_I | apply sw_L | apply sw_cp | apply sw_18 | apply sw_21 | apply sw_22 | apply sw_m12 | apply sw_m18)); done) | rfl) only [wp_ite, wp_some, w_jn, wp_r0, wp_r1, wp_b2, wp_nn, w_bc, w_nt, wo_37, wg_37, wi_37, w_has3, w_isMan, w_areTwo, w_isHour3, w_in3, w_night, wtM_0, wtM_1, wtM_2, nI_add, nI_1, nI_mul, nI_and, nI_or, nI_sd, nI_sub, l_sub1, l_addm1, l_all, l_1shl, l_or0, l_add0, l_0add, l_m1, l_m1r, l_neg, l_nn, l_eq0, l_le0, l_0lt, l_eq1, l_m1lt, l_m1le, l_m1eq0, l_10, l_00, l_1le, nI_le_l, nI_lt_l, nI_eq_l, bc_nI, nt_nI, bit_nI, b2_ite, b2_ite1, nI_max, nI_min, isR_nI, n_10, n_11, n_2, hi_ne, hi_ni, hi_eq, hi_wL, hi_wR, hl_wI, hl_wR, hl_ne, hl_ni, hl_eq, hr_wI, hr_wL, if_true, if_false, if_pos, if_neg, true_and, and_true, not_true_eq_false, not_false_eq_true, x.n, x.h, x.b, x.mo, x.wi, x.ca, x.ro, x.ti, x.il, x.ni, x.ga, x.ri, hin]
  have f0 : Fr [] [] [11] σ (wI σ 37 11 0) := Fr.refl.putI rfl
  rw [wp_bnd]
  refine wp_mono (m_layCanBe (x0.fr f0 rfl) (s.fr f0 rfl)) (fun y τ h => ?_)
  obtain ⟨f, hc⟩ := h
  have ff : Fr [47, 54, 55, 58, 59, 62] [] [11, 12, 13, 14, 15, 16, 21] σ τ := (f0.mono rfl).then f rfl
  have s1 : SM τ := s.fr ff rfl
  replace x := x0.fr ff rfl
  simp (disch := first | omega | exact x.s | exact hi_eq | ((repeat (first | exact x.s | apply sw_I | apply sw_L | apply sw_cp | apply sw_18 | apply sw_21 | apply sw_22 | apply sw_m12 | apply sw_m18)); done) | rfl) only [wp_ite, wp_some, w_jn, wp_r0, wp_r1, wp_b2, wp_nn, w_bc, w_nt, wo_37, wg_37, wi_37, w_has3, w_isMan, w_areTwo, w_isHour3, w_in3, w_night, wtM_0, wtM_1, wtM_2, nI_add, nI_1, nI_mul, nI_and, nI_or, nI_sd, nI_sub, l_sub1, l_addm1, l_all, l_1shl, l_or0, l_add0, l_0add, l_m1, l_m1r, l_neg, l_nn, l_eq0, l_le0, l_0lt, l_eq1, l_m1lt, l_m1le, l_m1eq0, l_10, l_00, l_1le, nI_le_l, nI_lt_l, nI_eq_l, bc_nI, nt_nI, bit_nI, b2_ite, b2_ite1, nI_max, nI_min, isR_nI, n_10, n_11, n_2, hi_ne, hi_ni, hi_eq, hi_wL, hi_wR, hl_wI, hl_wR, hl_ne, hl_ni, hl_eq, hr_wI, hr_wL, if_true, if_false, if_pos, if_neg, true_and, and_true, not_true_eq_false, not_false_eq_true, x.n, x.h, x.b, x.mo, x.wi, x.ca, x.ro, x.ti, x.il, x.ni, x.ga, x.ri]
  rw [m_well x, e_bnd]
  simp (disch := first | omega | exact x.s | exact hi_eq | ((repeat (first | exact x.s | apply sw_I | apply sw_L | apply sw_cp | apply sw_18 | apply sw_21 | apply sw_22 | apply sw_m12 | apply sw_m18)); done) | rfl) only [wp_ite, wp_some, w_jn, wp_r0, wp_r1, wp_b2, wp_nn, w_bc, w_nt, wo_37, wg_37, wi_37, w_has3, w_isMan, w_areTwo, w_isHour3, w_in3, w_night, wtM_0, wtM_1, wtM_2, nI_add, nI_1, nI_mul, nI_and, nI_or, nI_sd, nI_sub, l_sub1, l_addm1, l_all, l_1shl, l_or0, l_add0, l_0add, l_m1, l_m1r, l_neg, l_nn, l_eq0, l_le0, l_0lt, l_eq1, l_m1lt, l_m1le, l_m1eq0, l_10, l_00, l_1le, nI_le_l, nI_lt_l, nI_eq_l, bc_nI, nt_nI, bit_nI, b2_ite, b2_ite1, nI_max, nI_min, isR_nI, n_10, n_11, n_2, hi_ne, hi_ni, hi_eq, hi_wL, hi_wR, hl_wI, hl_wR, hl_ne, hl_ni, hl_eq, hr_wI, hr_wL, if_true, if_false, if_pos, if_neg, true_and, and_true, not_true_eq_false, not_false_eq_true, x.n, x.h, x.b, x.mo, x.wi, x.ca, x.ro, x.ti, x.il, x.ni, x.ga, x.ri]
  rw [m_heldParts x hc well_lt (sd_and_self _ _) hp, e_bnd]
  simp (disch := first | omega | exact x.s | exact hi_eq | ((repeat (first | exact x.s | apply sw_I | apply sw_L | apply sw_cp | apply sw_18 | apply sw_21 | apply sw_22 | apply sw_m12 | apply sw_m18)); done) | rfl) only [wp_ite, wp_some, w_jn, wp_r0, wp_r1, wp_b2, wp_nn, w_bc, w_nt, wo_37, wg_37, wi_37, w_has3, w_isMan, w_areTwo, w_isHour3, w_in3, w_night, wtM_0, wtM_1, wtM_2, nI_add, nI_1, nI_mul, nI_and, nI_or, nI_sd, nI_sub, l_sub1, l_addm1, l_all, l_1shl, l_or0, l_add0, l_0add, l_m1, l_m1r, l_neg, l_nn, l_eq0, l_le0, l_0lt, l_eq1, l_m1lt, l_m1le, l_m1eq0, l_10, l_00, l_1le, nI_le_l, nI_lt_l, nI_eq_l, bc_nI, nt_nI, bit_nI, b2_ite, b2_ite1, nI_max, nI_min, isR_nI, n_10, n_11, n_2, hi_ne, hi_ni, hi_eq, hi_wL, hi_wR, hl_wI, hl_wR, hl_ne, hl_ni, hl_eq, hr_wI, hr_wL, if_true, if_false, if_pos, if_neg, true_and, and_true, not_true_eq_false, not_false_eq_true, x.n, x.h, x.b, x.mo, x.wi, x.ca, x.ro, x.ti, x.il, x.ni, x.ga, x.ri]
  rw [m_well x, e_bnd]
  simp (disch := first | omega | exact x.s | exact hi_eq | ((repeat (first | exact x.s | apply sw_I | apply sw_L | apply sw_cp | apply sw_18 | apply sw_21 | apply sw_22 | apply sw_m12 | apply sw_m18)); done) | rfl) only [wp_ite, wp_some, w_jn, wp_r0, wp_r1, wp_b2, wp_nn, w_bc, w_nt, wo_37, wg_37, wi_37, w_has3, w_isMan, w_areTwo, w_isHour3, w_in3, w_night, wtM_0, wtM_1, wtM_2, nI_add, nI_1, nI_mul, nI_and, nI_or, nI_sd, nI_sub, l_sub1, l_addm1, l_all, l_1shl, l_or0, l_add0, l_0add, l_m1, l_m1r, l_neg, l_nn, l_eq0, l_le0, l_0lt, l_eq1, l_m1lt, l_m1le, l_m1eq0, l_10, l_00, l_1le, nI_le_l, nI_lt_l, nI_eq_l, bc_nI, nt_nI, bit_nI, b2_ite, b2_ite1, nI_max, nI_min, isR_nI, n_10, n_11, n_2, hi_ne, hi_ni, hi_eq, hi_wL, hi_wR, hl_wI, hl_wR, hl_ne, hl_ni, hl_eq, hr_wI, hr_wL, if_true, if_false, if_pos, if_neg, true_and, and_true, not_true_eq_false, not_false_eq_true, x.n, x.h, x.b, x.mo, x.wi, x.ca, x.ro, x.ti, x.il, x.ni, x.ga, x.ri]
  rw [show (10 : Int64) = nL 10 from rfl, m_power (by omega), e_bnd]
  simp (disch := first | omega | exact x.s | exact hi_eq | ((repeat (first | exact x.s | apply sw_I | apply sw_L | apply sw_cp | apply sw_18 | apply sw_21 | apply sw_22 | apply sw_m12 | apply sw_m18)); done) | rfl) only [wp_ite, wp_some, w_jn, wp_r0, wp_r1, wp_b2, wp_nn, w_bc, w_nt, wo_37, wg_37, wi_37, w_has3, w_isMan, w_areTwo, w_isHour3, w_in3, w_night, wtM_0, wtM_1, wtM_2, nI_add, nI_1, nI_mul, nI_and, nI_or, nI_sd, nI_sub, l_sub1, l_addm1, l_all, l_1shl, l_or0, l_add0, l_0add, l_m1, l_m1r, l_neg, l_nn, l_eq0, l_le0, l_0lt, l_eq1, l_m1lt, l_m1le, l_m1eq0, l_10, l_00, l_1le, nI_le_l, nI_lt_l, nI_eq_l, bc_nI, nt_nI, bit_nI, b2_ite, b2_ite1, nI_max, nI_min, isR_nI, n_10, n_11, n_2, hi_ne, hi_ni, hi_eq, hi_wL, hi_wR, hl_wI, hl_wR, hl_ne, hl_ni, hl_eq, hr_wI, hr_wL, if_true, if_false, if_pos, if_neg, true_and, and_true, not_true_eq_false, not_false_eq_true, x.n, x.h, x.b, x.mo, x.wi, x.ca, x.ro, x.ti, x.il, x.ni, x.ga, x.ri]
  rw [wp_bnd]
  refine wp_mono (m_fraction x (up := heldF P (wellN P a) p) (by omega) (pow10_lt p8) (Nat.pow_pos (by decide))) (fun _ τ' h => ?_)
  rw [wp_some]
  exact ⟨rfl, (ff.mono rfl).then h.1 rfl, s1.fr h.1 rfl, h.2⟩
def kM (o : Option (Nat × Nat)) : Int32 × Int64 := match o with
  | none => (-1, 0)
  | some x => (nI x.1, nL x.2)
theorem keyO_some {w p : Nat} : ∀ n, keyO P w p n = none → ∀ r, r < n → w.testBit r = false := by
  intro n
  induction n with
  | zero => intro _ r hr'; exact absurd hr' (Nat.not_lt_zero _)
  | succ n ih =>
    intro h r hr'
    unfold keyO at h
    by_cases e : w.testBit n = true
    · rw [if_pos e] at h
      cases hk' : keyO P w p n with
      | none => rw [hk'] at h; cases h
      | some y => rw [hk'] at h; dsimp only at h; split at h <;> cases h
    · rw [if_neg e] at h
      by_cases e2 : r = n
      · rw [e2]; exact Bool.eq_false_iff.mpr e
      · exact ih h r (by omega)
theorem keyO_zero {p : Nat} : ∀ n, keyO P 0 p n = none := by
  intro n
  induction n with
  | zero => rfl
  | succ n ih => unfold keyO; rw [Nat.zero_testBit, if_neg (by decide)]; exact ih
theorem m_keystone (x : MX σ P a) (s : SM σ) {p : Nat} (hp : p ≤ 10) : wp (f_X3_keystone (some 37) (nI p) σ) (QuM σ (keyR P (wellN P a) (keyO P (wellN P a) p P.n)).1 (keyR P (wellN P a) (keyO P (wellN P a) p P.n)).2) := by
  have n8 := x.n8
  have x0 := x
  have w8 := wellN_lt (P := P) (a := a) n8
  have wl := well_lt (P := P) (a := a)
  have p8 := pop_le (wellN P a)
  have hin : ((0 : Int32) ≤ nI p ∧ nI p ≤ nI 10) := ⟨by rw [l_nn (by omega)]; trivial, by rw [nI_le_l (by omega) (by decide)]; exact hp⟩
  have f0 : Fr [] [] [11] σ (wI σ 37 11 0) := Fr.refl.putI rfl
  have x1 : MX (wI σ 37 11 0) P a := x0.fr f0 rfl
  unfold f_X3_keystone
  simp (disch := first | omega | exact x.s | exact hi_eq | ((repeat (first | exact x.s | apply sw_I | apply sw_L | apply sw_cp | apply sw_18 | apply sw_21 | apply sw_22 | apply sw_m12 | apply sw_m18)); done) | rfl) only [wp_ite, wp_some, w_jn, wp_r0, wp_r1, wp_b2, wp_nn, w_bc, w_nt, wo_37, wg_37, wi_37, w_has3, w_isMan, w_areTwo, w_isHour3, w_in3, w_night, wtM_0, wtM_1, wtM_2, nI_add, nI_1, nI_mul, nI_and, nI_or, nI_sd, nI_sub, l_sub1, l_addm1, l_all, l_1shl, l_or0, l_add0, l_0add, l_m1, l_m1r, l_neg, l_nn, l_eq0, l_le0, l_0lt, l_eq1, l_m1lt, l_m1le, l_m1eq0, l_10, l_00, l_1le, nI_le_l, nI_lt_l, nI_eq_l, bc_nI, nt_nI, bit_nI, b2_ite, b2_ite1, nI_max, nI_min, isR_nI, n_10, n_11, n_2, hi_ne, hi_ni, hi_eq, hi_wL, hi_wR, hl_wI, hl_wR, hl_ne, hl_ni, hl_eq, hr_wI, hr_wL, if_true, if_false, if_pos, if_neg, true_and, and_true, not_true_eq_false, not_false_eq_true, x.n, x.h, x.b, x.mo, x.wi, x.ca, x.ro, x.ti, x.il, x.ni, x.ga, x.ri, hin]
  rw [m_well x1, e_bnd]
  simp (disch := first | omega | exact x.s | exact hi_eq | ((repeat (first | exact x.s | apply sw_I | apply sw_L | apply sw_cp | apply sw_18 | apply sw_21 | apply sw_22 | apply sw_m12 | apply sw_m18)); done) | rfl) only [wp_ite, wp_some, w_jn, wp_r0, wp_r1, wp_b2, wp_nn, w_bc, w_nt, wo_37, wg_37, wi_37, w_has3, w_isMan, w_areTwo, w_isHour3, w_in3, w_night, wtM_0, wtM_1, wtM_2, nI_add, nI_1, nI_mul, nI_and, nI_or, nI_sd, nI_sub, l_sub1, l_addm1, l_all, l_1shl, l_or0, l_add0, l_0add, l_m1, l_m1r, l_neg, l_nn, l_eq0, l_le0, l_0lt, l_eq1, l_m1lt, l_m1le, l_m1eq0, l_10, l_00, l_1le, nI_le_l, nI_lt_l, nI_eq_l, bc_nI, nt_nI, bit_nI, b2_ite, b2_ite1, nI_max, nI_min, isR_nI, n_10, n_11, n_2, hi_ne, hi_ni, hi_eq, hi_wL, hi_wR, hl_wI, hl_wR, hl_ne, hl_ni, hl_eq, hr_wI, hr_wL, if_true, if_false, if_pos, if_neg, true_and, and_true, not_true_eq_false, not_false_eq_true, x.n, x.h, x.b, x.mo, x.wi, x.ca, x.ro, x.ti, x.il, x.ni, x.ga, x.ri]
  by_cases h0 : wellN P a = 0
  · rw [if_pos h0, h0, keyO_zero]
    exact ⟨rfl, f0.mono rfl, s.fr f0 rfl, RwM.fr f0 rfl⟩
  · rw [if_neg h0, wp_bnd]
    refine wp_mono (m_layCanBe x1 (s.fr f0 rfl)) (fun y τ h => ?_)
    obtain ⟨f, hc⟩ := h
    have ff : Fr [47, 54, 55, 58, 59, 62] [] [11, 12, 13, 14, 15, 16, 21] σ τ := (f0.mono rfl).then f rfl
    have s1 : SM τ := s.fr ff rfl
    replace x := x0.fr ff rfl
    refine wp_up P.n (fun i y τ' => y = ((kM (keyO P (wellN P a) p i)).1, (kM (keyO P (wellN P a) p i)).2, nI i) ∧ τ' = τ) (fun ag i y τ' hi' hJ hag => ?_) (fun ag y τ' hJ => ?_) (by omega) ⟨rfl, rfl⟩
    · obtain ⟨rfl, rfl⟩ := hJ
      have kl := keyO_lt n8 w8 hp i
      have sl : sd (wellN P a) (2 ^ i) < 2 ^ P.n := by have := sbs_le (sbs_sd (wellN P a) (2 ^ i)); omega
      have sl8 : sd (wellN P a) (2 ^ i) < 256 := sd_lt _ w8
      have hb : heldF P (sd (wellN P a) (2 ^ i)) p ≤ 25600000000 := heldN_le n8 hp (by omega)
      have hby := m_heldParts x hc sl (sbs_mono0 (sbs_sd _ _) (sd_and_self (2 ^ P.n - 1) a.ill)) hp
      have key : ∀ o, keyO P (wellN P a) p (i + 1) = o → wp (ag ((kM o).1, (kM o).2, nI (i + 1)) τ') (QuM σ (keyR P (wellN P a) (keyO P (wellN P a) p P.n)).1 (keyR P (wellN P a) (keyO P (wellN P a) p P.n)).2) := fun o ho => hag _ _ ⟨by rw [ho], rfl⟩
      have st : keyO P (wellN P a) p (i + 1) = if (wellN P a).testBit i then (match keyO P (wellN P a) p i with
        | none => some (i, heldF P (sd (wellN P a) (2 ^ i)) p)
        | some x => if heldF P (sd (wellN P a) (2 ^ i)) p < x.2 then some (i, heldF P (sd (wellN P a) (2 ^ i)) p) else some x) else keyO P (wellN P a) p i := rfl
      generalize heldF P (sd (wellN P a) (2 ^ i)) p = its at *
      unfold f_X3_keystone_b41
      simp (disch := first | omega | exact x.s | exact hi_eq | ((repeat (first | exact x.s | apply sw_I | apply sw_L | apply sw_cp | apply sw_18 | apply sw_21 | apply sw_22 | apply sw_m12 | apply sw_m18)); done) | rfl) only [wp_ite, wp_some, w_jn, wp_r0, wp_r1, wp_b2, wp_nn, w_bc, w_nt, wo_37, wg_37, wi_37, w_has3, w_isMan, w_areTwo, w_isHour3, w_in3, w_night, wtM_0, wtM_1, wtM_2, nI_add, nI_1, nI_mul, nI_and, nI_or, nI_sd, nI_sub, l_sub1, l_addm1, l_all, l_1shl, l_or0, l_add0, l_0add, l_m1, l_m1r, l_neg, l_nn, l_eq0, l_le0, l_0lt, l_eq1, l_m1lt, l_m1le, l_m1eq0, l_10, l_00, l_1le, nI_le_l, nI_lt_l, nI_eq_l, bc_nI, nt_nI, bit_nI, b2_ite, b2_ite1, nI_max, nI_min, isR_nI, n_2, n_3, hi_ne, hi_ni, hi_eq, hi_wL, hi_wR, hl_wI, hl_wR, hl_ne, hl_ni, hl_eq, hr_wI, hr_wL, if_true, if_false, if_pos, if_neg, true_and, and_true, not_true_eq_false, not_false_eq_true, x.n, x.h, x.b, x.mo, x.wi, x.ca, x.ro, x.ti, x.il, x.ni, x.ga, x.ri]
      by_cases e : (wellN P a).testBit i = true
      · rw [if_pos e] at st
        rw [if_pos e, hby, e_bnd]
        have i63 : its < 2 ^ 63 := by omega
        cases hk' : keyO P (wellN P a) p i with
        | none =>
          rw [hk'] at st
          have := key _ st
          unfold kM at *
          simp (disch := first | omega | exact x.s | exact hi_eq | ((repeat (first | exact x.s | apply sw_I | apply sw_L | apply sw_cp | apply sw_18 | apply sw_21 | apply sw_22 | apply sw_m12 | apply sw_m18)); done) | rfl) only [wp_ite, wp_some, w_jn, wp_r0, wp_r1, wp_b2, wp_nn, w_bc, w_nt, wo_37, wg_37, wi_37, w_has3, w_isMan, w_areTwo, w_isHour3, w_in3, w_night, wtM_0, wtM_1, wtM_2, nI_add, nI_1, nI_mul, nI_and, nI_or, nI_sd, nI_sub, l_sub1, l_addm1, l_all, l_1shl, l_or0, l_add0, l_0add, l_m1, l_m1r, l_neg, l_nn, l_eq0, l_le0, l_0lt, l_eq1, l_m1lt, l_m1le, l_m1eq0, l_10, l_00, l_1le, nI_le_l, nI_lt_l, nI_eq_l, bc_nI, nt_nI, bit_nI, b2_ite, b2_ite1, nI_max, nI_min, isR_nI, n_2, n_3, hi_ne, hi_ni, hi_eq, hi_wL, hi_wR, hl_wI, hl_wR, hl_ne, hl_ni, hl_eq, hr_wI, hr_wL, if_true, if_false, if_pos, if_neg, true_and, and_true, not_true_eq_false, not_false_eq_true, x.n, x.h, x.b, x.mo, x.wi, x.ca, x.ro, x.ti, x.il, x.ni, x.ga, x.ri]
          exact this
        | some y =>
          rw [hk'] at st
          obtain ⟨y1, y2, -⟩ := kl y hk'
          dsimp only at st
          have := key _ st
          have lt1 : (lg_cmp (nL its) (nL y.2) < 0) = (its < y.2) := by rw [lg_cmp_lt, nL_lt i63 (by omega)]
          by_cases h1 : its < y.2
          · rw [if_pos h1] at this
            unfold kM at *
            simp (disch := first | omega | exact x.s | exact hi_eq | ((repeat (first | exact x.s | apply sw_I | apply sw_L | apply sw_cp | apply sw_18 | apply sw_21 | apply sw_22 | apply sw_m12 | apply sw_m18)); done) | rfl) only [wp_ite, wp_some, w_jn, wp_r0, wp_r1, wp_b2, wp_nn, w_bc, w_nt, wo_37, wg_37, wi_37, w_has3, w_isMan, w_areTwo, w_isHour3, w_in3, w_night, wtM_0, wtM_1, wtM_2, nI_add, nI_1, nI_mul, nI_and, nI_or, nI_sd, nI_sub, l_sub1, l_addm1, l_all, l_1shl, l_or0, l_add0, l_0add, l_m1, l_m1r, l_neg, l_nn, l_eq0, l_le0, l_0lt, l_eq1, l_m1lt, l_m1le, l_m1eq0, l_10, l_00, l_1le, nI_le_l, nI_lt_l, nI_eq_l, bc_nI, nt_nI, bit_nI, b2_ite, b2_ite1, nI_max, nI_min, isR_nI, n_2, n_3, hi_ne, hi_ni, hi_eq, hi_wL, hi_wR, hl_wI, hl_wR, hl_ne, hl_ni, hl_eq, hr_wI, hr_wL, if_true, if_false, if_pos, if_neg, true_and, and_true, not_true_eq_false, not_false_eq_true, x.n, x.h, x.b, x.mo, x.wi, x.ca, x.ro, x.ti, x.il, x.ni, x.ga, x.ri, lt1]
            exact this
          · rw [if_neg h1] at this
            unfold kM at *
            simp (disch := first | omega | exact x.s | exact hi_eq | ((repeat (first | exact x.s | apply sw_I | apply sw_L | apply sw_cp | apply sw_18 | apply sw_21 | apply sw_22 | apply sw_m12 | apply sw_m18)); done) | rfl) only [wp_ite, wp_some, w_jn, wp_r0, wp_r1, wp_b2, wp_nn, w_bc, w_nt, wo_37, wg_37, wi_37, w_has3, w_isMan, w_areTwo, w_isHour3, w_in3, w_night, wtM_0, wtM_1, wtM_2, nI_add, nI_1, nI_mul, nI_and, nI_or, nI_sd, nI_sub, l_sub1, l_addm1, l_all, l_1shl, l_or0, l_add0, l_0add, l_m1, l_m1r, l_neg, l_nn, l_eq0, l_le0, l_0lt, l_eq1, l_m1lt, l_m1le, l_m1eq0, l_10, l_00, l_1le, nI_le_l, nI_lt_l, nI_eq_l, bc_nI, nt_nI, bit_nI, b2_ite, b2_ite1, nI_max, nI_min, isR_nI, n_2, n_3, hi_ne, hi_ni, hi_eq, hi_wL, hi_wR, hl_wI, hl_wR, hl_ne, hl_ni, hl_eq, hr_wI, hr_wL, if_true, if_false, if_pos, if_neg, true_and, and_true, not_true_eq_false, not_false_eq_true, x.n, x.h, x.b, x.mo, x.wi, x.ca, x.ro, x.ti, x.il, x.ni, x.ga, x.ri, lt1]
            exact this
      · rw [if_neg e] at st
        rw [if_neg e]
        exact key _ st
    · obtain ⟨rfl, rfl⟩ := hJ
      have kl := keyO_lt n8 w8 hp P.n
      unfold f_X3_keystone_b41
      cases hk' : keyO P (wellN P a) p P.n with
      | none =>
        have := keyO_some P.n hk'
        exfalso
        apply h0
        apply Nat.eq_of_testBit_eq
        intro i
        rw [Nat.zero_testBit]
        by_cases hi' : i < P.n
        · exact this i hi'
        · exact bit_lt wl (by omega)
      | some y =>
        obtain ⟨y1, y2, y3⟩ := kl y hk'
        have pp := pop_pos y3 (by omega)
        unfold kM
        dsimp only
        simp (disch := first | omega | exact x.s | exact hi_eq | ((repeat (first | exact x.s | apply sw_I | apply sw_L | apply sw_cp | apply sw_18 | apply sw_21 | apply sw_22 | apply sw_m12 | apply sw_m18)); done) | rfl) only [wp_ite, wp_some, w_jn, wp_r0, wp_r1, wp_b2, wp_nn, w_bc, w_nt, wo_37, wg_37, wi_37, w_has3, w_isMan, w_areTwo, w_isHour3, w_in3, w_night, wtM_0, wtM_1, wtM_2, nI_add, nI_1, nI_mul, nI_and, nI_or, nI_sd, nI_sub, l_sub1, l_addm1, l_all, l_1shl, l_or0, l_add0, l_0add, l_m1, l_m1r, l_neg, l_nn, l_eq0, l_le0, l_0lt, l_eq1, l_m1lt, l_m1le, l_m1eq0, l_10, l_00, l_1le, nI_le_l, nI_lt_l, nI_eq_l, bc_nI, nt_nI, bit_nI, b2_ite, b2_ite1, nI_max, nI_min, isR_nI, n_10, n_11, n_2, n_3, hi_ne, hi_ni, hi_eq, hi_wL, hi_wR, hl_wI, hl_wR, hl_ne, hl_ni, hl_eq, hr_wI, hr_wL, if_true, if_false, if_pos, if_neg, true_and, and_true, not_true_eq_false, not_false_eq_true, x.n, x.h, x.b, x.mo, x.wi, x.ca, x.ro, x.ti, x.il, x.ni, x.ga, x.ri]
        rw [show (10 : Int64) = nL 10 from rfl, m_power (by omega), e_bnd]
        simp (disch := first | omega | exact x.s | exact hi_eq | ((repeat (first | exact x.s | apply sw_I | apply sw_L | apply sw_cp | apply sw_18 | apply sw_21 | apply sw_22 | apply sw_m12 | apply sw_m18)); done) | rfl) only [wp_ite, wp_some, w_jn, wp_r0, wp_r1, wp_b2, wp_nn, w_bc, w_nt, wo_37, wg_37, wi_37, w_has3, w_isMan, w_areTwo, w_isHour3, w_in3, w_night, wtM_0, wtM_1, wtM_2, nI_add, nI_1, nI_mul, nI_and, nI_or, nI_sd, nI_sub, l_sub1, l_addm1, l_all, l_1shl, l_or0, l_add0, l_0add, l_m1, l_m1r, l_neg, l_nn, l_eq0, l_le0, l_0lt, l_eq1, l_m1lt, l_m1le, l_m1eq0, l_10, l_00, l_1le, nI_le_l, nI_lt_l, nI_eq_l, bc_nI, nt_nI, bit_nI, b2_ite, b2_ite1, nI_max, nI_min, isR_nI, n_10, n_11, n_2, n_3, hi_ne, hi_ni, hi_eq, hi_wL, hi_wR, hl_wI, hl_wR, hl_ne, hl_ni, hl_eq, hr_wI, hr_wL, if_true, if_false, if_pos, if_neg, true_and, and_true, not_true_eq_false, not_false_eq_true, x.n, x.h, x.b, x.mo, x.wi, x.ca, x.ro, x.ti, x.il, x.ni, x.ga, x.ri]
        rw [wp_bnd]
        refine wp_mono (m_fraction x (by omega) (pow10_lt (by omega)) (Nat.pow_pos (by decide))) (fun _ τ2 h => ?_)
        rw [wp_some]
        exact ⟨rfl, (ff.mono rfl).then h.1 rfl, s1.fr h.1 rfl, h.2⟩
end mheld
