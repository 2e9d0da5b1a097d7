/-! PURE 46: the reference: the fairest -/
def lowI (lo : Nat) : Int32 := if lo = 0 then -1 else nI (lo - 1)
theorem low_sub {lo hh : Nat} (h : lo ≤ hh) (hb : hh < 5000) : (nI hh - lowI lo ≤ 1) = (hh ≤ lo) := by
  unfold lowI
  by_cases h0 : lo = 0
  · rw [if_pos h0, show nI hh - -1 = nI (hh + 1) by rw [Int32.sub_neg]; exact nI_1 hh, show (1 : Int32) = nI 1 from rfl, nI_le_l (by omega) (by decide)]
    exact propext (by omega)
  · rw [if_neg h0, nI_sub (by omega), show (1 : Int32) = nI 1 from rfl, nI_le_l (by omega) (by decide)]
    exact propext (by omega)
theorem low_mid {lo hh : Nat} (h : lo < hh) (hb : hh < 5000) : (lowI lo + nI hh) / nI 2 = nI ((lo + hh - 1) / 2) := by
  unfold lowI
  by_cases h0 : lo = 0
  · rw [if_pos h0, Int32.add_comm, l_addm1 (by omega), nI_div (by omega) (by decide), h0, Nat.zero_add]
  · rw [if_neg h0, nI_add, nI_div (by omega) (by decide), show lo - 1 + hh = lo + hh - 1 by omega]
section mfair
variable {σ τ : Hp} {P : Pk} {a : HS} {may : Nat → Nat} {pr : Nat → Nat → Nat} {lim v : Nat}
theorem lst_four (pk : POK P) (hpl : ∀ r h, pr r h ≤ 999) (h : lstO P may lim pr ≠ none) : lstO P may 3996 pr ≠ none := by
  obtain ⟨v, hv⟩ := lst_ne h
  refine lst_some (Tw.mono _ _ _ (fun r b _ _ _ hok => ⟨⟨hok.1, hok.2.1, ?_⟩, rfl⟩) hv)
  have h1 := prS_le (b := b) (hpl r)
  have h2 := hok.2.1
  have h3 := (pk.2.2.2 r).1
  have h4 : 999 * pop b ≤ 999 * 4 := Nat.mul_le_mul_left _ (by omega)
  omega
theorem m_fairest (x : MX σ P a) (s : SM σ) : wp (f_X3_fairest (some 37) σ) (QuM σ (match lstO P (mayOf P a 0) 1000000 (prH P a) with
    | none => -2
    | some _ => (fairR P (mayOf P a 0) (prH P a)).1) (match lstO P (mayOf P a 0) 1000000 (prH P a) with
    | none => none
    | some _ => (fairR P (mayOf P a 0) (prH P a)).2)) := by
  have x0 := x
  have pk := x.pk
  unfold f_X3_fairest
  simp (disch := first | omega | exact x.s | exact hi_eq | ((repeat (first | exact x.s | apply sw_I | apply sw_L | apply sw_cp | apply sw_18 | apply sw_21 | apply sw_22 | apply sw_m12 | apply sw_m18)); done) | rfl) only [wp_ite, wp_some, w_jn, wp_r0, wp_r1, wp_b2, wp_nn, w_bc, w_nt, wo_37, wg_37, wi_37, w_has3, w_isMan, w_areTwo, w_isHour3, w_in3, w_night, wtM_0, wtM_1, wtM_2, nI_add, nI_1, nI_mul, nI_and, nI_or, nI_sd, nI_sub, l_sub1, l_addm1, l_all, l_1shl, l_or0, l_add0, l_0add, l_m1, l_m1r, l_neg, l_nn, l_eq0, l_le0, l_0lt, l_eq1, l_m1lt, l_m1le, l_m1eq0, l_10, l_00, l_1le, nI_le_l, nI_lt_l, nI_eq_l, bc_nI, nt_nI, bit_nI, b2_ite, b2_ite1, nI_max, nI_min, isR_nI, n_10, n_1000000000, n_11, n_2, hi_ne, hi_ni, hi_eq, hi_wL, hi_wR, hl_wI, hl_wR, hl_ne, hl_ni, hl_eq, hr_wI, hr_wL, if_true, if_false, if_pos, if_neg, true_and, and_true, not_true_eq_false, not_false_eq_true, x.n, x.h, x.b, x.mo, x.wi, x.ca, x.ro, x.ti, x.il, x.ni, x.ga, x.ri]
  have f0 : Fr [] [] [11] σ (wI σ 37 11 0) := Fr.refl.putI rfl
  rw [wp_bnd]
  refine wp_mono (m_laid (x0.fr f0 rfl) (s.fr f0 rfl) (but_none x.n8)) (fun y τ h => ?_)
  obtain ⟨f, ld⟩ := h
  have ff0 : Fr [47, 54, 55, 58] [] [11, 12, 13, 14, 15, 16, 21] σ τ := (f0.mono rfl).then f rfl
  have mono : ∀ b c, b ≤ c → lstO P (mayOf P a 0) b (prH P a) ≠ none → lstO P (mayOf P a 0) c (prH P a) ≠ none := fun b c hbc h => lst_mono (fun _ => sbs_refl _) hbc h
  have call : ∀ τ' b, Fr [59] [] [39] τ τ' → hi τ' 37 39 = nI b → b ≤ 4000 → wp (f_X3_solve (some 37) 0 τ') (fun v τ'' => v = nI ((lstO P (mayOf P a 0) b (prH P a)).getD 1000000000) ∧ Fr [59] [] [] τ' τ'') := fun τ' b f1 h1 hb => by
    have x1 : MX τ' P a := x0.fr ((ff0.mono (D' := MD) (F' := []) (G' := MG) rfl).then f1 rfl) rfl
    have ld1 : LdM τ' P (mayOf P a 0) (fun _ => 0) (hardN P a) b := ⟨ld.1.fr f1 rfl (by decide) (by decide), ld.2.1.fr f1 rfl (by decide) (by decide), fun r i a1 a2 => (f1.i rfl).trans (ld.2.2.1 r i a1 a2), h1⟩
    exact m_least x1 ld1 mayOf_ok MustI.zero (hardN_le P a) (prH_le P a) (by omega) bd_same (m_cost0' x1 ld1 τ' Fr.refl)
  refine wp_lp (fun y τ' => ∃ lo hh, y = (lowI lo, nI hh) ∧ lo ≤ hh ∧ hh ≤ 3997 ∧ (hh = 3997 ∨ lstO P (mayOf P a 0) hh (prH P a) ≠ none) ∧ (∀ b, b < lo → lstO P (mayOf P a 0) b (prH P a) = none) ∧ Fr [59] [] [39] τ τ') (fun y _ => Nat.log2 (2 * (ix y.2 - (if y.1 = -1 then 0 else ix y.1 + 1)) + 1)) (fun ag y τ' hI hag => ?_) 2000 _ _ ⟨0, 3997, rfl, Nat.zero_le _, Nat.le_refl _, Or.inl rfl, fun b hb => absurd hb (Nat.not_lt_zero _), Fr.refl⟩ (hlf0 (d := 3997) (by decide))
  obtain ⟨lo, hh, rfl, k1, k2, k3, k4, f1⟩ := hI
  have ff : Fr MD [] MG σ τ' := (ff0.mono rfl).then f1 rfl
  replace x := x0.fr ff rfl
  have mu : ∀ lo hh : Nat, hh ≤ 3997 → lo ≤ 4000 → ix (nI hh) - (if lowI lo = -1 then 0 else ix (lowI lo) + 1) = hh - lo := fun lo hh h1 h2 => by
    rw [ix_nI (by omega)]
    unfold lowI
    by_cases h0 : lo = 0
    · rw [if_pos h0, if_pos rfl, h0]
    · rw [if_neg h0, if_neg (m1_ne (by omega)), ix_nI (by omega)]; omega
  dsimp only at hag
  rw [mu lo hh k2 (by omega)] at hag
  unfold f_X3_fairest_b16
  simp (disch := first | omega | exact x.s | exact hi_eq | ((repeat (first | exact x.s | apply sw_I | apply sw_L | apply sw_cp | apply sw_18 | apply sw_21 | apply sw_22 | apply sw_m12 | apply sw_m18)); done) | rfl) only [wp_ite, wp_some, w_jn, wp_r0, wp_r1, wp_b2, wp_nn, w_bc, w_nt, wo_37, wg_37, wi_37, w_has3, w_isMan, w_areTwo, w_isHour3, w_in3, w_night, wtM_0, wtM_1, wtM_2, nI_add, nI_1, nI_mul, nI_and, nI_or, nI_sd, nI_sub, l_sub1, l_addm1, l_all, l_1shl, l_or0, l_add0, l_0add, l_m1, l_m1r, l_neg, l_nn, l_eq0, l_le0, l_0lt, l_eq1, l_m1lt, l_m1le, l_m1eq0, l_10, l_00, l_1le, nI_le_l, nI_lt_l, nI_eq_l, bc_nI, nt_nI, bit_nI, b2_ite, b2_ite1, nI_max, nI_min, isR_nI, n_10, n_1000000000, n_11, n_2, hi_ne, hi_ni, hi_eq, hi_wL, hi_wR, hl_wI, hl_wR, hl_ne, hl_ni, hl_eq, hr_wI, hr_wL, if_true, if_false, if_pos, if_neg, true_and, and_true, not_true_eq_false, not_false_eq_true, x.n, x.h, x.b, x.mo, x.wi, x.ca, x.ro, x.ti, x.il, x.ni, x.ga, x.ri, wp_idv, low_sub, low_mid]
  by_cases hlh : hh ≤ lo
  · rw [if_pos hlh]
    obtain rfl : lo = hh := by omega
    rw [wp_bnd]
    refine wp_mono (call (wI τ' 37 39 (nI lo)) lo (f1.putI rfl) hi_eq (by omega)) (fun y τ'' h => ?_)
    obtain ⟨rfl, f2⟩ := h
    have ff2 : Fr MD [] MG σ τ'' := (ff.putI (a := 37) (i := 39) rfl).then f2 rfl
    have fr3 : Fr [47, 54, 55, 58, 59] [] [11, 12, 13, 14, 15, 16, 21, 39] σ τ'' := (((ff0.mono rfl).then f1 rfl).putI (a := 37) (i := 39) rfl).then f2 rfl
    replace x := x0.fr ff2 rfl
    cases hl2 : lstO P (mayOf P a 0) 1000000 (prH P a) with
    | none =>
      have hno : lstO P (mayOf P a 0) lo (prH P a) = none := by
        apply Classical.byContradiction
        intro hc
        exact mono lo 1000000 (by omega) hc hl2
      rw [hno]
      simp (disch := first | omega | exact x.s | exact hi_eq | ((repeat (first | exact x.s | apply sw_I | apply sw_L | apply sw_cp | apply sw_18 | apply sw_21 | apply sw_22 | apply sw_m12 | apply sw_m18)); done) | rfl) only [wp_ite, wp_some, w_jn, wp_r0, wp_r1, wp_b2, wp_nn, w_bc, w_nt, wo_37, wg_37, wi_37, w_has3, w_isMan, w_areTwo, w_isHour3, w_in3, w_night, wtM_0, wtM_1, wtM_2, nI_add, nI_1, nI_mul, nI_and, nI_or, nI_sd, nI_sub, l_sub1, l_addm1, l_all, l_1shl, l_or0, l_add0, l_0add, l_m1, l_m1r, l_neg, l_nn, l_eq0, l_le0, l_0lt, l_eq1, l_m1lt, l_m1le, l_m1eq0, l_10, l_00, l_1le, nI_le_l, nI_lt_l, nI_eq_l, bc_nI, nt_nI, bit_nI, b2_ite, b2_ite1, nI_max, nI_min, isR_nI, n_10, n_1000000000, n_11, n_2, hi_ne, hi_ni, hi_eq, hi_wL, hi_wR, hl_wI, hl_wR, hl_ne, hl_ni, hl_eq, hr_wI, hr_wL, if_true, if_false, if_pos, if_neg, true_and, and_true, not_true_eq_false, not_false_eq_true, x.n, x.h, x.b, x.mo, x.wi, x.ca, x.ro, x.ti, x.il, x.ni, x.ga, x.ri, Option.getD_none]
      exact ⟨rfl, (by repeat (first | exact ff2 | exact (ff2).mono rfl | refine Fr.putI ?_ rfl | refine Fr.putL ?_ rfl | refine Fr.putR ?_ rfl)), hi_eq, RwM.fr (fr3.putI (a := 37) (i := 39) rfl) rfl⟩
    | some u =>
      have hy : lstO P (mayOf P a 0) lo (prH P a) ≠ none := by
        rcases k3 with h | h
        · rw [h]; exact mono 3996 3997 (by decide) (lst_four pk (prH_le P a) (by rw [hl2]; exact fun e => by cases e))
        · exact h
      have hfr : frO P (mayOf P a 0) (prH P a) = some lo := minO_some.mpr ⟨hy, fun c hc => by
        apply Nat.le_of_not_lt
        intro hlt
        exact hc (k4 c hlt)⟩
      unfold fairR
      rw [hfr]
      cases hl3 : lstO P (mayOf P a 0) lo (prH P a) with
      | none => exact absurd hl3 hy
      | some w =>
        have w8 := lst_le (prH_le P a) hl3
        simp (disch := first | omega | exact x.s | exact hi_eq | ((repeat (first | exact x.s | apply sw_I | apply sw_L | apply sw_cp | apply sw_18 | apply sw_21 | apply sw_22 | apply sw_m12 | apply sw_m18)); done) | rfl) only [wp_ite, wp_some, w_jn, wp_r0, wp_r1, wp_b2, wp_nn, w_bc, w_nt, wo_37, wg_37, wi_37, w_has3, w_isMan, w_areTwo, w_isHour3, w_in3, w_night, wtM_0, wtM_1, wtM_2, nI_add, nI_1, nI_mul, nI_and, nI_or, nI_sd, nI_sub, l_sub1, l_addm1, l_all, l_1shl, l_or0, l_add0, l_0add, l_m1, l_m1r, l_neg, l_nn, l_eq0, l_le0, l_0lt, l_eq1, l_m1lt, l_m1le, l_m1eq0, l_10, l_00, l_1le, nI_le_l, nI_lt_l, nI_eq_l, bc_nI, nt_nI, bit_nI, b2_ite, b2_ite1, nI_max, nI_min, isR_nI, n_10, n_1000000000, n_11, n_2, hi_ne, hi_ni, hi_eq, hi_wL, hi_wR, hl_wI, hl_wR, hl_ne, hl_ni, hl_eq, hr_wI, hr_wL, if_true, if_false, if_pos, if_neg, true_and, and_true, not_true_eq_false, not_false_eq_true, x.n, x.h, x.b, x.mo, x.wi, x.ca, x.ro, x.ti, x.il, x.ni, x.ga, x.ri, Option.getD_some, hl3]
        exact ⟨rfl, (by repeat (first | exact ff2 | exact (ff2).mono rfl | refine Fr.putI ?_ rfl | refine Fr.putL ?_ rfl | refine Fr.putR ?_ rfl)), by show hi _ 37 39 = _; rw [hi_ni (by decide), hi_wL, hi_ni (by decide), hi_eq]; rfl, rowM1⟩
  · rw [if_neg hlh]
    have hm1 : (lo + hh - 1) / 2 < hh := by omega
    have hm2 : lo ≤ (lo + hh - 1) / 2 := by omega
    have hm3 := low_mid (lo := lo) (hh := hh) (by omega) (by omega)
    generalize hmid : (lo + hh - 1) / 2 = mid at *
    refine ⟨by decide, ?_⟩
    have x1 : MX (wI τ' 37 39 (nI mid)) P a := x0.fr (ff.putI (a := 37) (i := 39) rfl) rfl
    rw [wp_bnd]
    refine wp_mono (call (wI τ' 37 39 (nI mid)) mid (f1.putI rfl) hi_eq (by omega)) (fun y τ'' h => ?_)
    obtain ⟨rfl, f2⟩ := h
    have f3 : Fr [59] [] [39] τ τ'' := (f1.putI (a := 37) (i := 39) rfl).then f2 rfl
    replace x := x0.fr ((ff0.mono (D' := MD) (F' := []) (G' := MG) rfl).then f3 rfl) rfl
    have l1 : hi τ'' 37 39 = nI mid := (f2.i rfl).trans hi_eq
    cases hl3 : lstO P (mayOf P a 0) mid (prH P a) with
    | none =>
      simp (disch := first | omega | exact x.s | exact hi_eq | ((repeat (first | exact x.s | apply sw_I | apply sw_L | apply sw_cp | apply sw_18 | apply sw_21 | apply sw_22 | apply sw_m12 | apply sw_m18)); done) | rfl) only [wp_ite, wp_some, w_jn, wp_r0, wp_r1, wp_b2, wp_nn, w_bc, w_nt, wo_37, wg_37, wi_37, w_has3, w_isMan, w_areTwo, w_isHour3, w_in3, w_night, wtM_0, wtM_1, wtM_2, nI_add, nI_1, nI_mul, nI_and, nI_or, nI_sd, nI_sub, l_sub1, l_addm1, l_all, l_1shl, l_or0, l_add0, l_0add, l_m1, l_m1r, l_neg, l_nn, l_eq0, l_le0, l_0lt, l_eq1, l_m1lt, l_m1le, l_m1eq0, l_10, l_00, l_1le, nI_le_l, nI_lt_l, nI_eq_l, bc_nI, nt_nI, bit_nI, b2_ite, b2_ite1, nI_max, nI_min, isR_nI, n_10, n_1000000000, n_11, n_2, hi_ne, hi_ni, hi_eq, hi_wL, hi_wR, hl_wI, hl_wR, hl_ne, hl_ni, hl_eq, hr_wI, hr_wL, if_true, if_false, if_pos, if_neg, true_and, and_true, not_true_eq_false, not_false_eq_true, x.n, x.h, x.b, x.mo, x.wi, x.ca, x.ro, x.ti, x.il, x.ni, x.ga, x.ri, Option.getD_none, l1]
      refine hag _ _ ⟨mid + 1, hh, by unfold lowI; rw [if_neg (by omega), Nat.add_sub_cancel], by omega, k2, k3, fun b hb => ?_, f3⟩ ?_
      · apply Classical.byContradiction
        intro hc
        exact mono b mid (by omega) hc hl3
      · dsimp only
        rw [show nI mid = lowI (mid + 1) by unfold lowI; rw [if_neg (by omega), Nat.add_sub_cancel], mu (mid + 1) hh k2 (by omega)]
        exact hlf (by omega) (by omega)
    | some w =>
      have w8 := lst_le (prH_le P a) hl3
      simp (disch := first | omega | exact x.s | exact hi_eq | ((repeat (first | exact x.s | apply sw_I | apply sw_L | apply sw_cp | apply sw_18 | apply sw_21 | apply sw_22 | apply sw_m12 | apply sw_m18)); done) | rfl) only [wp_ite, wp_some, w_jn, wp_r0, wp_r1, wp_b2, wp_nn, w_bc, w_nt, wo_37, wg_37, wi_37, w_has3, w_isMan, w_areTwo, w_isHour3, w_in3, w_night, wtM_0, wtM_1, wtM_2, nI_add, nI_1, nI_mul, nI_and, nI_or, nI_sd, nI_sub, l_sub1, l_addm1, l_all, l_1shl, l_or0, l_add0, l_0add, l_m1, l_m1r, l_neg, l_nn, l_eq0, l_le0, l_0lt, l_eq1, l_m1lt, l_m1le, l_m1eq0, l_10, l_00, l_1le, nI_le_l, nI_lt_l, nI_eq_l, bc_nI, nt_nI, bit_nI, b2_ite, b2_ite1, nI_max, nI_min, isR_nI, n_10, n_1000000000, n_11, n_2, hi_ne, hi_ni, hi_eq, hi_wL, hi_wR, hl_wI, hl_wR, hl_ne, hl_ni, hl_eq, hr_wI, hr_wL, if_true, if_false, if_pos, if_neg, true_and, and_true, not_true_eq_false, not_false_eq_true, x.n, x.h, x.b, x.mo, x.wi, x.ca, x.ro, x.ti, x.il, x.ni, x.ga, x.ri, Option.getD_some, l1]
      refine hag _ _ ⟨lo, mid, rfl, by omega, by omega, Or.inr (by rw [hl3]; exact fun e => by cases e), k4, f3⟩ ?_
      dsimp only
      rw [mu lo mid (by omega) (by omega)]
      exact hlf (by omega) (by omega)
end mfair
