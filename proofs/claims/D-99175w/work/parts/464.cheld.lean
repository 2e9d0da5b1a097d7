/-! PURE 52: fractions, chances (the class) -/
theorem nL_mul (a b : Nat) : nL a * nL b = nL (a * b) := (Int64.ofNat_mul a b).symm
theorem nL_div {a b : Nat} (ha : a < 2 ^ 63) (hb : b < 2 ^ 63) : nL a / nL b = nL (a / b) := (Int64.ofNat_div ha hb).symm
theorem nL_sub {a b : Nat} (h : b ≤ a) : nL a - nL b = nL (a - b) := (Int64.ofNat_sub a b h).symm
theorem nL_of {k : Nat} (h : k < 2 ^ 31) : Int32.toInt64 (nI k) = nL k := Int32.toInt64_ofNat' (by
  have : Int32.maxValue.toInt = 2147483647 := rfl
  omega)
theorem nL_ne0 {k : Nat} (h0 : 0 < k) (h : k < 2 ^ 63) : ¬ nL k = 0 := fun e => by
  have := (lg0 h).mp (by rw [e]; rfl)
  omega
theorem lrm_nL {a b : Nat} (ha : a < 2 ^ 63) (hb : b < 2 ^ 63) : lrm (nL a) (nL b) = nL (a % b) := by
  unfold lrm
  have : a / b * b ≤ a := Nat.div_mul_le_self a b
  rw [nL_div ha hb, nL_mul, nL_sub this]
  congr 1
  have := Nat.div_add_mod a b
  have e : a / b * b = b * (a / b) := Nat.mul_comm _ _
  omega
theorem gcd_X1 {σ : Hp} : ∀ k a b n, b < 2 ^ k → a < 2 ^ 63 → k ≤ 60 → 2 * k < n → f_X1_common n (nL a) (nL b) σ = some (nL (Nat.gcd b a), σ) := by
  intro k
  induction k with
  | zero =>
    intro a b n hb ha _ hn'
    obtain ⟨n, rfl⟩ : ∃ m, n = m + 1 := ⟨n - 1, by omega⟩
    obtain rfl : b = 0 := by have : (2 : Nat) ^ 0 = 1 := rfl; omega
    show fb_X1_common (g_common1 n) (nL a) (nL 0) σ = _
    unfold fb_X1_common
    rw [if_pos ((lg0 (by decide)).mpr rfl), Nat.gcd_zero_left]
  | succ k ih =>
    intro a b n hb ha hk' hn'
    have hp : 2 ^ (k + 1) = 2 * 2 ^ k := by rw [Nat.pow_succ]; omega
    have h60 : 2 ^ (k + 1) ≤ 2 ^ 60 := Nat.pow_le_pow_right (by decide) hk'
    obtain ⟨n, rfl⟩ : ∃ m, n = m + 1 := ⟨n - 1, by omega⟩
    show fb_X1_common (g_common1 n) (nL a) (nL b) σ = _
    unfold fb_X1_common
    by_cases hb0 : b = 0
    · subst hb0
      rw [if_pos ((lg0 (by decide)).mpr rfl), Nat.gcd_zero_left]
    · have hm := Nat.mod_lt a (show 0 < b by omega)
      rw [if_neg (fun z => hb0 ((lg0 (by omega)).mp z)), lrm_nL ha (by omega)]
      unfold ldv
      rw [if_neg (nL_ne0 (by omega) (by omega))]
      have step : g_common1 n (nL b) (nL (a % b)) σ = some (nL (Nat.gcd (a % b) b), σ) := by
        obtain ⟨n, rfl⟩ : ∃ m, n = m + 1 := ⟨n - 1, by omega⟩
        show fb_X1_common (g_common1 n) (nL b) (nL (a % b)) σ = _
        unfold fb_X1_common
        by_cases hr : a % b = 0
        · rw [if_pos ((lg0 (by omega)).mpr hr), hr, Nat.gcd_zero_left]
        · have h1 := Nat.mod_lt b (show 0 < a % b by omega)
          have h2 : 2 * (b % (a % b)) < b + 1 := by
            have h3 := Nat.div_add_mod b (a % b)
            have h4 : 1 ≤ b / (a % b) := (Nat.one_le_div_iff (by omega)).mpr (by omega)
            have h5 : (a % b) * 1 ≤ (a % b) * (b / (a % b)) := Nat.mul_le_mul_left _ h4
            omega
          rw [if_neg (fun z => hr ((lg0 (by omega)).mp z)), lrm_nL (by omega) (by omega)]
          unfold ldv
          rw [if_neg (nL_ne0 (by omega) (by omega))]
          have := ih (a % b) (b % (a % b)) n (by omega) (by omega) (by omega) (by omega)
          unfold f_X1_common at this
          rw [this, e_bnd, Nat.gcd_rec (a % b) b]
      rw [step, e_bnd, Nat.gcd_rec b a]
theorem gcd_X3 {σ : Hp} : ∀ k a b n, b < 2 ^ k → a < 2 ^ 63 → k ≤ 60 → 2 * k < n → f_X3_common n (nL a) (nL b) σ = some (nL (Nat.gcd b a), σ) := by
  intro k
  induction k with
  | zero =>
    intro a b n hb ha _ hn'
    obtain ⟨n, rfl⟩ : ∃ m, n = m + 1 := ⟨n - 1, by omega⟩
    obtain rfl : b = 0 := by have : (2 : Nat) ^ 0 = 1 := rfl; omega
    show fb_X3_common (g_common3 n) (nL a) (nL 0) σ = _
    unfold fb_X3_common
    rw [if_pos ((lg0 (by decide)).mpr rfl), Nat.gcd_zero_left]
  | succ k ih =>
    intro a b n hb ha hk' hn'
    have hp : 2 ^ (k + 1) = 2 * 2 ^ k := by rw [Nat.pow_succ]; omega
    have h60 : 2 ^ (k + 1) ≤ 2 ^ 60 := Nat.pow_le_pow_right (by decide) hk'
    obtain ⟨n, rfl⟩ : ∃ m, n = m + 1 := ⟨n - 1, by omega⟩
    show fb_X3_common (g_common3 n) (nL a) (nL b) σ = _
    unfold fb_X3_common
    by_cases hb0 : b = 0
    · subst hb0
      rw [if_pos ((lg0 (by decide)).mpr rfl), Nat.gcd_zero_left]
    · have hm := Nat.mod_lt a (show 0 < b by omega)
      rw [if_neg (fun z => hb0 ((lg0 (by omega)).mp z)), lrm_nL ha (by omega)]
      unfold ldv
      rw [if_neg (nL_ne0 (by omega) (by omega))]
      have step : g_common3 n (nL b) (nL (a % b)) σ = some (nL (Nat.gcd (a % b) b), σ) := by
        obtain ⟨n, rfl⟩ : ∃ m, n = m + 1 := ⟨n - 1, by omega⟩
        show fb_X3_common (g_common3 n) (nL b) (nL (a % b)) σ = _
        unfold fb_X3_common
        by_cases hr : a % b = 0
        · rw [if_pos ((lg0 (by omega)).mpr hr), hr, Nat.gcd_zero_left]
        · have h1 := Nat.mod_lt b (show 0 < a % b by omega)
          have h2 : 2 * (b % (a % b)) < b + 1 := by
            have h3 := Nat.div_add_mod b (a % b)
            have h4 : 1 ≤ b / (a % b) := (Nat.one_le_div_iff (by omega)).mpr (by omega)
            have h5 : (a % b) * 1 ≤ (a % b) * (b / (a % b)) := Nat.mul_le_mul_left _ h4
            omega
          rw [if_neg (fun z => hr ((lg0 (by omega)).mp z)), lrm_nL (by omega) (by omega)]
          unfold ldv
          rw [if_neg (nL_ne0 (by omega) (by omega))]
          have := ih (a % b) (b % (a % b)) n (by omega) (by omega) (by omega) (by omega)
          unfold f_X3_common at this
          rw [this, e_bnd, Nat.gcd_rec (a % b) b]
      rw [step, e_bnd, Nat.gcd_rec b a]
/-- a fraction, told -/
def fracL (up low : Nat) : List Int64 := [nL (up / Nat.gcd low up), nL (low / Nat.gcd low up)]
def prodN (f : Nat → Nat) : Nat → Nat
  | 0 => 1
  | n + 1 => prodN f n * f n
theorem prodN_le {f : Nat → Nat} (h : ∀ i, f i ≤ 10) : ∀ n, prodN f n ≤ 10 ^ n := by
  intro n
  induction n with
  | zero => exact Nat.le_refl _
  | succ n ih =>
    show prodN f n * f n ≤ 10 ^ n * 10
    exact Nat.mul_le_mul ih (h n)
def heldT (P : Pk) (s t p : Nat) (n : Nat) : Nat := prodN (fun r => if s.testBit r then (if t.testBit r then 10 - p else p) else 1) n
def heldN (P : Pk) (s p : Nat) (n : Nat) : Nat := sumN (fun t => if sbs t s ∧ lackO P t = none then heldT P s t p P.n else 0) n
theorem sumN_bd {f : Nat → Nat} {m : Nat} (h : ∀ i, f i ≤ m) : ∀ n, sumN f n ≤ n * m := by
  intro n
  induction n with
  | zero => exact Nat.zero_le _
  | succ n ih =>
    have := h n
    show sumN f n + f n ≤ (n + 1) * m
    rw [Nat.succ_mul]
    omega
theorem heldN_le {P : Pk} {s p n : Nat} (n8 : P.n ≤ 8) (hp : p ≤ 10) (hn' : n ≤ 256) : heldN P s p n ≤ 25600000000 := by
  have h1 : ∀ t, (if sbs t s ∧ lackO P t = none then heldT P s t p P.n else 0) ≤ 100000000 := fun t => by
    split
    · refine Nat.le_trans (prodN_le (fun i => ?_) P.n) (Nat.le_trans (Nat.pow_le_pow_right (by decide) n8) (by decide))
      split
      · split <;> omega
      · omega
    · omega
  have h2 := sumN_bd h1 n
  have h3 : n * 100000000 ≤ 256 * 100000000 := Nat.mul_le_mul_right _ hn'
  exact Nat.le_trans h2 (by omega)
section cheld
variable {σ τ : Hp} {P : Pk} {a : HS}
theorem c_fraction (x : CX σ P a) {up low : Nat} (hu : up < 2 ^ 60) (hl' : low < 2 ^ 45) (h0 : 0 < low) : wp (f_X1_tellsFraction (some 0) (nL up) (nL low) σ) (fun _ τ => Fr [36] [52] [] σ τ ∧ RowC τ (fracL up low)) := by
  have hg : 0 < Nat.gcd low up := Nat.gcd_pos_of_pos_left _ h0
  have hg2 : Nat.gcd low up ≤ low := Nat.gcd_le_left _ h0
  have ne := nL_ne0 hg (by omega)
  unfold f_X1_tellsFraction
  rw [gcd_X1 45 up low 100 hl' (by omega) (by decide) (by decide), e_bnd, nL_div (by omega) (by omega), nL_div (by omega) (by omega)]
  skip
  simp (disch := first | omega | exact x.s | exact hi_eq | ((repeat (first | exact x.s | apply sw_I | apply sw_L | apply sw_cp | apply sw_18 | apply sw_21 | apply sw_22 | apply sw_m12 | apply sw_m18)); done) | rfl) only [wp_ite, wp_some, w_jn, wp_r0, wp_r1, wp_b2, wp_nn, w_bc, w_nt, wo_0, wg_0, wi_0, w_has, w_isRider, w_isPair, w_isHour, w_in, w_in0, w_in_0_1, w_in_0_10, w_in_0_3, w_in_0_30, w_in_0_60, w_in_0_7, w_in_0_9, w_in_0_999, w_in_1_60, w_in_20_27, w_in_2_40, w_in_48_57, w_whole, w_all, wt_0, wt_1, wt_2, nI_add, nI_1, nI_mul, nI_and, nI_or, nI_sd, nI_sub, l_sub1, l_addm1, l_all, l_1shl, l_or0, l_add0, l_0add, l_m1, l_m1r, l_neg, l_nn, l_eq0, l_le0, l_0lt, l_eq1, l_m1lt, l_m1le, l_m1eq0, l_10, l_00, l_1le, nI_le_l, nI_lt_l, nI_eq_l, bc_nI, nt_nI, bit_nI, b2_ite, b2_ite1, nI_max, nI_min, isR_nI, n_100, hi_ne, hi_ni, hi_eq, hi_wL, hi_wR, hl_wI, hl_wR, hl_ne, hl_ni, hl_eq, hr_wI, hr_wL, if_true, if_false, if_pos, if_neg, true_and, and_true, not_true_eq_false, not_false_eq_true, x.n, x.h, x.b, x.mo, x.wi, x.ca, x.ro, x.ti, x.il, x.ni, x.ga, x.ri, wp_ldv, ne]
  exact ⟨(by repeat (first | exact Fr.refl | exact (Fr.refl).mono rfl | refine Fr.putI ?_ rfl | refine Fr.putL ?_ rfl | refine Fr.putR ?_ rfl)), row2⟩
theorem c_tenTo {k : Nat} (hk' : k ≤ 100) : f_X1_tenTo (nI k) σ = some (nL (10 ^ k), σ) := by
  refine wp_eq ?_
  unfold f_X1_tenTo
  refine wp_up k (fun i y τ => y = (nL (10 ^ i), nI i) ∧ τ = σ) (fun ag i y τ hi' hJ hag => ?_) (fun ag y τ hJ => ?_) (by omega) ⟨rfl, rfl⟩
  · obtain ⟨rfl, rfl⟩ := hJ
    unfold f_X1_tenTo_b4
    rw [if_neg (by rw [nI_le_l (by omega) (by omega)]; omega), show (10 : Int64) = nL 10 from rfl, nL_mul, nI_1]
    exact hag _ _ ⟨rfl, rfl⟩
  · obtain ⟨rfl, rfl⟩ := hJ
    unfold f_X1_tenTo_b4
    rw [if_pos (by rw [nI_le_l (by omega) (by omega)]; exact Nat.le_refl _), wp_some]
    exact ⟨rfl, rfl⟩
theorem c_heldBy (x : CX σ P a) {s p : Nat} (hs : s < 256) (hp : p ≤ 10) : f_X1_heldBy (some 0) (nI s) (nI p) σ = some (nL (heldN P s p (s + 1)), σ) := by
  have n8 := x.n8
  have h8 := x.h8
  have W8 : 2 ^ P.hrs ≤ 256 := pow_le8 h8
  refine wp_eq ?_
  unfold f_X1_heldBy
  refine wp_up (s + 1) (fun i y τ => y = (nL (heldN P s p i), nI i) ∧ τ = σ) (fun ag i y τ hi' hJ hag => ?_) (fun ag y τ hJ => ?_) (by omega) ⟨rfl, rfl⟩
  · obtain ⟨rfl, rfl⟩ := hJ
    have sl : sd i s < 256 := sd_lt _ (by omega)
    have no : ¬ (sbs i s ∧ lackO P i = none) → wp (ag (nL (heldN P s p i), nI (i + 1)) τ) (fun v υ => v = nL (heldN P s p (s + 1)) ∧ υ = τ) := fun hno => hag _ _ ⟨by
      show _ = (nL (heldN P s p i + (if sbs i s ∧ lackO P i = none then heldT P s i p P.n else 0)), _)
      rw [if_neg hno]; rfl, rfl⟩
    unfold f_X1_heldBy_b5
    simp (disch := first | omega | exact x.s | exact hi_eq | ((repeat (first | exact x.s | apply sw_I | apply sw_L | apply sw_cp | apply sw_18 | apply sw_21 | apply sw_22 | apply sw_m12 | apply sw_m18)); done) | rfl) only [wp_ite, wp_some, w_jn, wp_r0, wp_r1, wp_b2, wp_nn, w_bc, w_nt, wo_0, wg_0, wi_0, w_has, w_isRider, w_isPair, w_isHour, w_in, w_in0, w_in_0_1, w_in_0_10, w_in_0_3, w_in_0_30, w_in_0_60, w_in_0_7, w_in_0_9, w_in_0_999, w_in_1_60, w_in_20_27, w_in_2_40, w_in_48_57, w_whole, w_all, wt_0, wt_1, wt_2, nI_add, nI_1, nI_mul, nI_and, nI_or, nI_sd, nI_sub, l_sub1, l_addm1, l_all, l_1shl, l_or0, l_add0, l_0add, l_m1, l_m1r, l_neg, l_nn, l_eq0, l_le0, l_0lt, l_eq1, l_m1lt, l_m1le, l_m1eq0, l_10, l_00, l_1le, nI_le_l, nI_lt_l, nI_eq_l, bc_nI, nt_nI, bit_nI, b2_ite, b2_ite1, nI_max, nI_min, isR_nI, hi_ne, hi_ni, hi_eq, hi_wL, hi_wR, hl_wI, hl_wR, hl_ne, hl_ni, hl_eq, hr_wI, hr_wL, if_true, if_false, if_pos, if_neg, true_and, and_true, not_true_eq_false, not_false_eq_true, x.n, x.h, x.b, x.mo, x.wi, x.ca, x.ro, x.ti, x.il, x.ni, x.ga, x.ri]
    by_cases e1 : sd i s = 0
    · rw [if_pos e1, c_lacking x (by omega), e_bnd]
      cases hl2 : lackO P i with
      | none =>
        simp (disch := first | omega | exact x.s | exact hi_eq | ((repeat (first | exact x.s | apply sw_I | apply sw_L | apply sw_cp | apply sw_18 | apply sw_21 | apply sw_22 | apply sw_m12 | apply sw_m18)); done) | rfl) only [wp_ite, wp_some, w_jn, wp_r0, wp_r1, wp_b2, wp_nn, w_bc, w_nt, wo_0, wg_0, wi_0, w_has, w_isRider, w_isPair, w_isHour, w_in, w_in0, w_in_0_1, w_in_0_10, w_in_0_3, w_in_0_30, w_in_0_60, w_in_0_7, w_in_0_9, w_in_0_999, w_in_1_60, w_in_20_27, w_in_2_40, w_in_48_57, w_whole, w_all, wt_0, wt_1, wt_2, nI_add, nI_1, nI_mul, nI_and, nI_or, nI_sd, nI_sub, l_sub1, l_addm1, l_all, l_1shl, l_or0, l_add0, l_0add, l_m1, l_m1r, l_neg, l_nn, l_eq0, l_le0, l_0lt, l_eq1, l_m1lt, l_m1le, l_m1eq0, l_10, l_00, l_1le, nI_le_l, nI_lt_l, nI_eq_l, bc_nI, nt_nI, bit_nI, b2_ite, b2_ite1, nI_max, nI_min, isR_nI, hi_ne, hi_ni, hi_eq, hi_wL, hi_wR, hl_wI, hl_wR, hl_ne, hl_ni, hl_eq, hr_wI, hr_wL, if_true, if_false, if_pos, if_neg, true_and, and_true, not_true_eq_false, not_false_eq_true, x.n, x.h, x.b, x.mo, x.wi, x.ca, x.ro, x.ti, x.il, x.ni, x.ga, x.ri, Option.getD_none]
        refine wp_up P.n (fun j y τ' => y = (nL (heldT P s i p j), nI j) ∧ τ' = τ) (fun ag' j y τ' hj hJ hag' => ?_) (fun ag' y τ' hJ => ?_) (by omega) ⟨rfl, rfl⟩
        · obtain ⟨rfl, rfl⟩ := hJ
          have fin : ∀ v k, v = nL k → k = (if s.testBit j then (if i.testBit j then 10 - p else p) else 1) → wp (ag' (nL (heldT P s i p j) * v, nI (j + 1)) τ') (fun v υ => v = nL (heldN P s p (s + 1)) ∧ υ = τ') := fun v k hv hk' => hag' _ _ ⟨by rw [hv, nL_mul, hk']; rfl, rfl⟩
          unfold f_X1_heldBy_b38
          simp (disch := first | omega | exact x.s | exact hi_eq | ((repeat (first | exact x.s | apply sw_I | apply sw_L | apply sw_cp | apply sw_18 | apply sw_21 | apply sw_22 | apply sw_m12 | apply sw_m18)); done) | rfl) only [wp_ite, wp_some, w_jn, wp_r0, wp_r1, wp_b2, wp_nn, w_bc, w_nt, wo_0, wg_0, wi_0, w_has, w_isRider, w_isPair, w_isHour, w_in, w_in0, w_in_0_1, w_in_0_10, w_in_0_3, w_in_0_30, w_in_0_60, w_in_0_7, w_in_0_9, w_in_0_999, w_in_1_60, w_in_20_27, w_in_2_40, w_in_48_57, w_whole, w_all, wt_0, wt_1, wt_2, nI_add, nI_1, nI_mul, nI_and, nI_or, nI_sd, nI_sub, l_sub1, l_addm1, l_all, l_1shl, l_or0, l_add0, l_0add, l_m1, l_m1r, l_neg, l_nn, l_eq0, l_le0, l_0lt, l_eq1, l_m1lt, l_m1le, l_m1eq0, l_10, l_00, l_1le, nI_le_l, nI_lt_l, nI_eq_l, bc_nI, nt_nI, bit_nI, b2_ite, b2_ite1, nI_max, nI_min, isR_nI, n_10, n_5, hi_ne, hi_ni, hi_eq, hi_wL, hi_wR, hl_wI, hl_wR, hl_ne, hl_ni, hl_eq, hr_wI, hr_wL, if_true, if_false, if_pos, if_neg, true_and, and_true, not_true_eq_false, not_false_eq_true, x.n, x.h, x.b, x.mo, x.wi, x.ca, x.ro, x.ti, x.il, x.ni, x.ga, x.ri, nL_of]
          by_cases e2 : s.testBit j = true
          · rw [if_pos e2]
            by_cases e3 : i.testBit j = true
            · rw [if_pos e3]; exact fin _ (10 - p) rfl (by rw [if_pos e2, if_pos e3])
            · rw [if_neg e3]; exact fin _ p rfl (by rw [if_pos e2, if_neg e3])
          · rw [if_neg e2]; exact fin _ 1 rfl (by rw [if_neg e2])
        · obtain ⟨rfl, rfl⟩ := hJ
          unfold f_X1_heldBy_b38
          simp (disch := first | omega | exact x.s | exact hi_eq | ((repeat (first | exact x.s | apply sw_I | apply sw_L | apply sw_cp | apply sw_18 | apply sw_21 | apply sw_22 | apply sw_m12 | apply sw_m18)); done) | rfl) only [wp_ite, wp_some, w_jn, wp_r0, wp_r1, wp_b2, wp_nn, w_bc, w_nt, wo_0, wg_0, wi_0, w_has, w_isRider, w_isPair, w_isHour, w_in, w_in0, w_in_0_1, w_in_0_10, w_in_0_3, w_in_0_30, w_in_0_60, w_in_0_7, w_in_0_9, w_in_0_999, w_in_1_60, w_in_20_27, w_in_2_40, w_in_48_57, w_whole, w_all, wt_0, wt_1, wt_2, nI_add, nI_1, nI_mul, nI_and, nI_or, nI_sd, nI_sub, l_sub1, l_addm1, l_all, l_1shl, l_or0, l_add0, l_0add, l_m1, l_m1r, l_neg, l_nn, l_eq0, l_le0, l_0lt, l_eq1, l_m1lt, l_m1le, l_m1eq0, l_10, l_00, l_1le, nI_le_l, nI_lt_l, nI_eq_l, bc_nI, nt_nI, bit_nI, b2_ite, b2_ite1, nI_max, nI_min, isR_nI, n_10, n_5, hi_ne, hi_ni, hi_eq, hi_wL, hi_wR, hl_wI, hl_wR, hl_ne, hl_ni, hl_eq, hr_wI, hr_wL, if_true, if_false, if_pos, if_neg, true_and, and_true, not_true_eq_false, not_false_eq_true, x.n, x.h, x.b, x.mo, x.wi, x.ca, x.ro, x.ti, x.il, x.ni, x.ga, x.ri, nL_add]
          refine hag _ _ ⟨?_, rfl⟩
          show _ = (nL (heldN P s p i + (if sbs i s ∧ lackO P i = none then heldT P s i p P.n else 0)), _)
          rw [if_pos ⟨sd_eq0.mp e1, hl2⟩]
      | some b =>
        have b0 := lackO_pos hl2
        have bl := lackO_lt hl2
        simp (disch := first | omega | exact x.s | exact hi_eq | ((repeat (first | exact x.s | apply sw_I | apply sw_L | apply sw_cp | apply sw_18 | apply sw_21 | apply sw_22 | apply sw_m12 | apply sw_m18)); done) | rfl) only [wp_ite, wp_some, w_jn, wp_r0, wp_r1, wp_b2, wp_nn, w_bc, w_nt, wo_0, wg_0, wi_0, w_has, w_isRider, w_isPair, w_isHour, w_in, w_in0, w_in_0_1, w_in_0_10, w_in_0_3, w_in_0_30, w_in_0_60, w_in_0_7, w_in_0_9, w_in_0_999, w_in_1_60, w_in_20_27, w_in_2_40, w_in_48_57, w_whole, w_all, wt_0, wt_1, wt_2, nI_add, nI_1, nI_mul, nI_and, nI_or, nI_sd, nI_sub, l_sub1, l_addm1, l_all, l_1shl, l_or0, l_add0, l_0add, l_m1, l_m1r, l_neg, l_nn, l_eq0, l_le0, l_0lt, l_eq1, l_m1lt, l_m1le, l_m1eq0, l_10, l_00, l_1le, nI_le_l, nI_lt_l, nI_eq_l, bc_nI, nt_nI, bit_nI, b2_ite, b2_ite1, nI_max, nI_min, isR_nI, n_10, n_5, hi_ne, hi_ni, hi_eq, hi_wL, hi_wR, hl_wI, hl_wR, hl_ne, hl_ni, hl_eq, hr_wI, hr_wL, if_true, if_false, if_pos, if_neg, true_and, and_true, not_true_eq_false, not_false_eq_true, x.n, x.h, x.b, x.mo, x.wi, x.ca, x.ro, x.ti, x.il, x.ni, x.ga, x.ri, Option.getD_some]
        exact no (fun z => by rw [hl2] at z; cases z.2)
    · rw [if_neg e1]
      exact no (fun z => e1 (sd_eq0.mpr z.1))
  · obtain ⟨rfl, rfl⟩ := hJ
    unfold f_X1_heldBy_b5
    simp (disch := first | omega | exact x.s | exact hi_eq | ((repeat (first | exact x.s | apply sw_I | apply sw_L | apply sw_cp | apply sw_18 | apply sw_21 | apply sw_22 | apply sw_m12 | apply sw_m18)); done) | rfl) only [wp_ite, wp_some, w_jn, wp_r0, wp_r1, wp_b2, wp_nn, w_bc, w_nt, wo_0, wg_0, wi_0, w_has, w_isRider, w_isPair, w_isHour, w_in, w_in0, w_in_0_1, w_in_0_10, w_in_0_3, w_in_0_30, w_in_0_60, w_in_0_7, w_in_0_9, w_in_0_999, w_in_1_60, w_in_20_27, w_in_2_40, w_in_48_57, w_whole, w_all, wt_0, wt_1, wt_2, nI_add, nI_1, nI_mul, nI_and, nI_or, nI_sd, nI_sub, l_sub1, l_addm1, l_all, l_1shl, l_or0, l_add0, l_0add, l_m1, l_m1r, l_neg, l_nn, l_eq0, l_le0, l_0lt, l_eq1, l_m1lt, l_m1le, l_m1eq0, l_10, l_00, l_1le, nI_le_l, nI_lt_l, nI_eq_l, bc_nI, nt_nI, bit_nI, b2_ite, b2_ite1, nI_max, nI_min, isR_nI, hi_ne, hi_ni, hi_eq, hi_wL, hi_wR, hl_wI, hl_wR, hl_ne, hl_ni, hl_eq, hr_wI, hr_wL, if_true, if_false, if_pos, if_neg, true_and, and_true, not_true_eq_false, not_false_eq_true, x.n, x.h, x.b, x.mo, x.wi, x.ca, x.ro, x.ti, x.il, x.ni, x.ga, x.ri]
end cheld
