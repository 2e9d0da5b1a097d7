/-! PURE 45: the reference asked for rotas -/
abbrev HG : List Nat := [12, 13, 14, 15, 16, 21]
section mques
variable {σ τ : Hp} {P : Pk} {a : HS} {may must : Nat → Nat} {pr hd : Nat → Nat → Nat} {lim lim' v : Nat} {what but : Int32} {w : Nat} {D F G : List Nat}
/-- who is left out, told one way and the other -/
def ButI (n : Nat) (but : Int32) (w : Nat) : Prop := ∀ r, r < n → (nI r = but ↔ w.testBit r = true)
theorem but_none {n : Nat} (h : n ≤ 8) : ButI n (-1) 0 := fun r hr' => by
  rw [Nat.zero_testBit]
  exact ⟨fun e => absurd e (m1_ne (by omega)), fun e => by cases e⟩
theorem but_one {n r : Nat} (h : n ≤ 8) (hr' : r < n) : ButI n (nI r) (2 ^ r) := fun q hq => by
  rw [bit_pow, nI_eq (by omega) (by omega), decide_eq_true_iff]
  exact ⟨fun e => e.symm, fun e => e.symm⟩
theorem bd_far (hdl : ∀ r h, hd r h ≤ 999) (hpl : ∀ r h, pr r h ≤ 999) : BdOK P hd pr 1000000000 1000000 := fun r b _ _ => by
  have := prS_le8 (hdl r) b
  have := prS_le8 (hpl r) b
  omega
theorem bd_same : BdOK P (hardN P a) (prH P a) lim lim := fun r b hr' hb => by rw [prH_eq hr' hb]
theorem m_laid (x : MX σ P a) (s : SM σ) (hb : ButI P.n but w) : wp (f_X3_layMay (some 37) but σ) (fun _ τ => Fr [47, 54, 55, 58] [] HG σ τ ∧ LdM τ P (mayOf P a w) (fun _ => 0) (hardN P a) 1000000000) := by
  refine wp_mono (m_layMay x hb) (fun _ τ h => ?_)
  obtain ⟨f, h1, h2, h3⟩ := h
  exact ⟨f, h1, h2, h3, (f.i rfl).trans s⟩
theorem LdM.sm (h : LdM σ P may must hd 1000000000) : SM σ := h.2.2.2
theorem m_cost0' (x : MX σ P a) (ld : LdM σ P may must (hardN P a) lim) : ∀ τ, Fr LL [] [] σ τ → CostM τ P 0 (prH P a) := fun τ f => m_cost0 (x.fr f rfl) (fun r h a1 a2 => (f.i rfl).trans (ld.2.2.1 r h a1 a2))
theorem m_cost1' (x : MX σ P a) : ∀ τ, Fr LL [] [] σ τ → CostM τ P 1 (prO P a) := fun τ f => m_cost1 (x.fr f rfl)
theorem m_cost2' : ∀ τ, Fr LL [] [] σ τ → CostM τ P 2 prZ := fun τ f => m_cost2
theorem m_easiestBut (x : MX σ P a) (s : SM σ) (hb : ButI P.n but w) : wp (f_X3_easiestBut (some 37) but σ) (fun v τ => v = nI ((lstO P (mayOf P a w) 1000000 (prH P a)).getD 1000000000) ∧ Fr [47, 54, 55, 58, 59] [] HG σ τ ∧ LdM τ P (mayOf P a w) (fun _ => 0) (hardN P a) 1000000000) := by
  have x0 := x
  unfold f_X3_easiestBut
  simp (disch := first | omega | exact x.s | exact hi_eq | ((repeat (first | exact x.s | apply sw_I | apply sw_L | apply sw_cp | apply sw_18 | apply sw_21 | apply sw_22 | apply sw_m12 | apply sw_m18)); done) | rfl) only [wp_ite, wp_some, w_jn, wp_r0, wp_r1, wp_b2, wp_nn, w_bc, w_nt, wo_37, wg_37, wi_37, w_has3, w_isMan, w_areTwo, w_isHour3, w_in3, w_night, wtM_0, wtM_1, wtM_2, nI_add, nI_1, nI_mul, nI_and, nI_or, nI_sd, nI_sub, l_sub1, l_addm1, l_all, l_1shl, l_or0, l_add0, l_0add, l_m1, l_m1r, l_neg, l_nn, l_eq0, l_le0, l_0lt, l_eq1, l_m1lt, l_m1le, l_m1eq0, l_10, l_00, l_1le, nI_le_l, nI_lt_l, nI_eq_l, bc_nI, nt_nI, bit_nI, b2_ite, b2_ite1, nI_max, nI_min, isR_nI, n_2, hi_ne, hi_ni, hi_eq, hi_wL, hi_wR, hl_wI, hl_wR, hl_ne, hl_ni, hl_eq, hr_wI, hr_wL, if_true, if_false, if_pos, if_neg, true_and, and_true, not_true_eq_false, not_false_eq_true, x.n, x.h, x.b, x.mo, x.wi, x.ca, x.ro, x.ti, x.il, x.ni, x.ga, x.ri]
  rw [wp_bnd]
  refine wp_mono (m_laid x s hb) (fun _ τ h => ?_)
  obtain ⟨f, ld⟩ := h
  replace x := x0.fr f rfl
  simp (disch := first | omega | exact x.s | exact hi_eq | ((repeat (first | exact x.s | apply sw_I | apply sw_L | apply sw_cp | apply sw_18 | apply sw_21 | apply sw_22 | apply sw_m12 | apply sw_m18)); done) | rfl) only [wp_ite, wp_some, w_jn, wp_r0, wp_r1, wp_b2, wp_nn, w_bc, w_nt, wo_37, wg_37, wi_37, w_has3, w_isMan, w_areTwo, w_isHour3, w_in3, w_night, wtM_0, wtM_1, wtM_2, nI_add, nI_1, nI_mul, nI_and, nI_or, nI_sd, nI_sub, l_sub1, l_addm1, l_all, l_1shl, l_or0, l_add0, l_0add, l_m1, l_m1r, l_neg, l_nn, l_eq0, l_le0, l_0lt, l_eq1, l_m1lt, l_m1le, l_m1eq0, l_10, l_00, l_1le, nI_le_l, nI_lt_l, nI_eq_l, bc_nI, nt_nI, bit_nI, b2_ite, b2_ite1, nI_max, nI_min, isR_nI, n_2, hi_ne, hi_ni, hi_eq, hi_wL, hi_wR, hl_wI, hl_wR, hl_ne, hl_ni, hl_eq, hr_wI, hr_wL, if_true, if_false, if_pos, if_neg, true_and, and_true, not_true_eq_false, not_false_eq_true, x.n, x.h, x.b, x.mo, x.wi, x.ca, x.ro, x.ti, x.il, x.ni, x.ga, x.ri]
  rw [wp_bnd]
  refine wp_mono (m_least x ld mayOf_ok MustI.zero (hardN_le P a) (prH_le P a) (Nat.le_refl _) (bd_far (hardN_le P a) (prH_le P a)) (m_cost0' x ld τ Fr.refl)) (fun v τ' h => ?_)
  obtain ⟨rfl, f'⟩ := h
  rw [wp_some]
  exact ⟨rfl, (f.mono rfl).then f' rfl, ld.fr f' rfl⟩
theorem getD_ne {o : Option Nat} (h : ∀ v, o = some v → v ≤ 7992) : nI (o.getD 1000000000) = nI 1000000000 ↔ o = none := by
  cases o with
  | none => exact ⟨fun _ => rfl, fun _ => rfl⟩
  | some v =>
    have := h v rfl
    show nI v = nI 1000000000 ↔ some v = none
    rw [nI_eq (by omega) (by decide)]
    exact ⟨fun e => by omega, fun e => by cases e⟩
theorem m_easiest (x : MX σ P a) (s : SM σ) : wp (f_X3_easiest (some 37) σ) (QuM σ (lstR P (mayOf P a 0) (prH P a)) (lstW P (mayOf P a 0) (prH P a))) := by
  have x0 := x
  unfold f_X3_easiest
  simp (disch := first | omega | exact x.s | exact hi_eq | ((repeat (first | exact x.s | apply sw_I | apply sw_L | apply sw_cp | apply sw_18 | apply sw_21 | apply sw_22 | apply sw_m12 | apply sw_m18)); done) | rfl) only [wp_ite, wp_some, w_jn, wp_r0, wp_r1, wp_b2, wp_nn, w_bc, w_nt, wo_37, wg_37, wi_37, w_has3, w_isMan, w_areTwo, w_isHour3, w_in3, w_night, wtM_0, wtM_1, wtM_2, nI_add, nI_1, nI_mul, nI_and, nI_or, nI_sd, nI_sub, l_sub1, l_addm1, l_all, l_1shl, l_or0, l_add0, l_0add, l_m1, l_m1r, l_neg, l_nn, l_eq0, l_le0, l_0lt, l_eq1, l_m1lt, l_m1le, l_m1eq0, l_10, l_00, l_1le, nI_le_l, nI_lt_l, nI_eq_l, bc_nI, nt_nI, bit_nI, b2_ite, b2_ite1, nI_max, nI_min, isR_nI, n_1000000000, n_11, n_2, hi_ne, hi_ni, hi_eq, hi_wL, hi_wR, hl_wI, hl_wR, hl_ne, hl_ni, hl_eq, hr_wI, hr_wL, if_true, if_false, if_pos, if_neg, true_and, and_true, not_true_eq_false, not_false_eq_true, x.n, x.h, x.b, x.mo, x.wi, x.ca, x.ro, x.ti, x.il, x.ni, x.ga, x.ri]
  have f0 : Fr [] [] [11] σ (wI σ 37 11 0) := Fr.refl.putI rfl
  rw [wp_bnd]
  refine wp_mono (m_easiestBut (x0.fr f0 rfl) (s.fr f0 rfl) (but_none x.n8)) (fun y τ h => ?_)
  obtain ⟨rfl, f, ld⟩ := h
  have ff : Fr [47, 54, 55, 58, 59] [] [11, 12, 13, 14, 15, 16, 21] σ τ := (f0.mono rfl).then f rfl
  replace x := x0.fr ff rfl
  unfold lstR lstW
  cases hl2 : lstO P (mayOf P a 0) 1000000 (prH P a) with
  | none =>
    simp (disch := first | omega | exact x.s | exact hi_eq | ((repeat (first | exact x.s | apply sw_I | apply sw_L | apply sw_cp | apply sw_18 | apply sw_21 | apply sw_22 | apply sw_m12 | apply sw_m18)); done) | rfl) only [wp_ite, wp_some, w_jn, wp_r0, wp_r1, wp_b2, wp_nn, w_bc, w_nt, wo_37, wg_37, wi_37, w_has3, w_isMan, w_areTwo, w_isHour3, w_in3, w_night, wtM_0, wtM_1, wtM_2, nI_add, nI_1, nI_mul, nI_and, nI_or, nI_sd, nI_sub, l_sub1, l_addm1, l_all, l_1shl, l_or0, l_add0, l_0add, l_m1, l_m1r, l_neg, l_nn, l_eq0, l_le0, l_0lt, l_eq1, l_m1lt, l_m1le, l_m1eq0, l_10, l_00, l_1le, nI_le_l, nI_lt_l, nI_eq_l, bc_nI, nt_nI, bit_nI, b2_ite, b2_ite1, nI_max, nI_min, isR_nI, n_1000000000, n_11, n_2, hi_ne, hi_ni, hi_eq, hi_wL, hi_wR, hl_wI, hl_wR, hl_ne, hl_ni, hl_eq, hr_wI, hr_wL, if_true, if_false, if_pos, if_neg, true_and, and_true, not_true_eq_false, not_false_eq_true, x.n, x.h, x.b, x.mo, x.wi, x.ca, x.ro, x.ti, x.il, x.ni, x.ga, x.ri, Option.getD_none]
    exact ⟨rfl, ff.mono rfl, ld.sm, RwM.fr ff rfl⟩
  | some v =>
    have v8 := lst_le (prH_le P a) hl2
    simp (disch := first | omega | exact x.s | exact hi_eq | ((repeat (first | exact x.s | apply sw_I | apply sw_L | apply sw_cp | apply sw_18 | apply sw_21 | apply sw_22 | apply sw_m12 | apply sw_m18)); done) | rfl) only [wp_ite, wp_some, w_jn, wp_r0, wp_r1, wp_b2, wp_nn, w_bc, w_nt, wo_37, wg_37, wi_37, w_has3, w_isMan, w_areTwo, w_isHour3, w_in3, w_night, wtM_0, wtM_1, wtM_2, nI_add, nI_1, nI_mul, nI_and, nI_or, nI_sd, nI_sub, l_sub1, l_addm1, l_all, l_1shl, l_or0, l_add0, l_0add, l_m1, l_m1r, l_neg, l_nn, l_eq0, l_le0, l_0lt, l_eq1, l_m1lt, l_m1le, l_m1eq0, l_10, l_00, l_1le, nI_le_l, nI_lt_l, nI_eq_l, bc_nI, nt_nI, bit_nI, b2_ite, b2_ite1, nI_max, nI_min, isR_nI, n_1000000000, n_11, n_2, hi_ne, hi_ni, hi_eq, hi_wL, hi_wR, hl_wI, hl_wR, hl_ne, hl_ni, hl_eq, hr_wI, hr_wL, if_true, if_false, if_pos, if_neg, true_and, and_true, not_true_eq_false, not_false_eq_true, x.n, x.h, x.b, x.mo, x.wi, x.ca, x.ro, x.ti, x.il, x.ni, x.ga, x.ri, Option.getD_some]
    refine m_lineTold x ld mayOf_ok MustI.zero (hardN_le P a) (prH_le P a) (Nat.le_refl _) (bd_far (hardN_le P a) (prH_le P a)) (m_cost0' x ld) hl2 (fun τ' f' hr' => ?_)
    rw [wp_some]
    exact ⟨rfl, (ff.mono rfl).then f' rfl, ld.sm.fr f' rfl, hr'⟩
theorem m_missed (x : MX σ P a) (s : SM σ) {r : Nat} (hr' : r < P.n) : wp (f_X3_missed (some 37) (nI r) σ) (QuM σ (match lstO P (mayOf P a (2 ^ r)) 1000000 (prH P a) with
    | none => -2
    | some u => nI u - nI ((lstO P (mayOf P a 0) 1000000 (prH P a)).getD 1000000)) none) := by
  have n8 := x.n8
  have x0 := x
  unfold f_X3_missed
  simp (disch := first | omega | exact x.s | exact hi_eq | ((repeat (first | exact x.s | apply sw_I | apply sw_L | apply sw_cp | apply sw_18 | apply sw_21 | apply sw_22 | apply sw_m12 | apply sw_m18)); done) | rfl) only [wp_ite, wp_some, w_jn, wp_r0, wp_r1, wp_b2, wp_nn, w_bc, w_nt, wo_37, wg_37, wi_37, w_has3, w_isMan, w_areTwo, w_isHour3, w_in3, w_night, wtM_0, wtM_1, wtM_2, nI_add, nI_1, nI_mul, nI_and, nI_or, nI_sd, nI_sub, l_sub1, l_addm1, l_all, l_1shl, l_or0, l_add0, l_0add, l_m1, l_m1r, l_neg, l_nn, l_eq0, l_le0, l_0lt, l_eq1, l_m1lt, l_m1le, l_m1eq0, l_10, l_00, l_1le, nI_le_l, nI_lt_l, nI_eq_l, bc_nI, nt_nI, bit_nI, b2_ite, b2_ite1, nI_max, nI_min, isR_nI, n_1000000000, n_11, n_2, hi_ne, hi_ni, hi_eq, hi_wL, hi_wR, hl_wI, hl_wR, hl_ne, hl_ni, hl_eq, hr_wI, hr_wL, if_true, if_false, if_pos, if_neg, true_and, and_true, not_true_eq_false, not_false_eq_true, x.n, x.h, x.b, x.mo, x.wi, x.ca, x.ro, x.ti, x.il, x.ni, x.ga, x.ri]
  have f0 : Fr [] [] [11] σ (wI σ 37 11 0) := Fr.refl.putI rfl
  rw [wp_bnd]
  refine wp_mono (m_easiestBut (x0.fr f0 rfl) (s.fr f0 rfl) (but_none x.n8)) (fun y τ h => ?_)
  obtain ⟨rfl, f, ld⟩ := h
  have ff : Fr [47, 54, 55, 58, 59] [] [11, 12, 13, 14, 15, 16, 21] σ τ := (f0.mono rfl).then f rfl
  replace x := x0.fr ff rfl
  simp (disch := first | omega | exact x.s | exact hi_eq | ((repeat (first | exact x.s | apply sw_I | apply sw_L | apply sw_cp | apply sw_18 | apply sw_21 | apply sw_22 | apply sw_m12 | apply sw_m18)); done) | rfl) only [wp_ite, wp_some, w_jn, wp_r0, wp_r1, wp_b2, wp_nn, w_bc, w_nt, wo_37, wg_37, wi_37, w_has3, w_isMan, w_areTwo, w_isHour3, w_in3, w_night, wtM_0, wtM_1, wtM_2, nI_add, nI_1, nI_mul, nI_and, nI_or, nI_sd, nI_sub, l_sub1, l_addm1, l_all, l_1shl, l_or0, l_add0, l_0add, l_m1, l_m1r, l_neg, l_nn, l_eq0, l_le0, l_0lt, l_eq1, l_m1lt, l_m1le, l_m1eq0, l_10, l_00, l_1le, nI_le_l, nI_lt_l, nI_eq_l, bc_nI, nt_nI, bit_nI, b2_ite, b2_ite1, nI_max, nI_min, isR_nI, n_1000000000, n_11, n_2, hi_ne, hi_ni, hi_eq, hi_wL, hi_wR, hl_wI, hl_wR, hl_ne, hl_ni, hl_eq, hr_wI, hr_wL, if_true, if_false, if_pos, if_neg, true_and, and_true, not_true_eq_false, not_false_eq_true, x.n, x.h, x.b, x.mo, x.wi, x.ca, x.ro, x.ti, x.il, x.ni, x.ga, x.ri]
  rw [wp_bnd]
  refine wp_mono (m_easiestBut x ld.sm (but_one n8 hr')) (fun y τ' h => ?_)
  obtain ⟨rfl, f', ld⟩ := h
  replace ff := ff.then f' rfl
  replace x := x0.fr ff rfl
  cases hl2 : lstO P (mayOf P a (2 ^ r)) 1000000 (prH P a) with
  | none =>
    simp (disch := first | omega | exact x.s | exact hi_eq | ((repeat (first | exact x.s | apply sw_I | apply sw_L | apply sw_cp | apply sw_18 | apply sw_21 | apply sw_22 | apply sw_m12 | apply sw_m18)); done) | rfl) only [wp_ite, wp_some, w_jn, wp_r0, wp_r1, wp_b2, wp_nn, w_bc, w_nt, wo_37, wg_37, wi_37, w_has3, w_isMan, w_areTwo, w_isHour3, w_in3, w_night, wtM_0, wtM_1, wtM_2, nI_add, nI_1, nI_mul, nI_and, nI_or, nI_sd, nI_sub, l_sub1, l_addm1, l_all, l_1shl, l_or0, l_add0, l_0add, l_m1, l_m1r, l_neg, l_nn, l_eq0, l_le0, l_0lt, l_eq1, l_m1lt, l_m1le, l_m1eq0, l_10, l_00, l_1le, nI_le_l, nI_lt_l, nI_eq_l, bc_nI, nt_nI, bit_nI, b2_ite, b2_ite1, nI_max, nI_min, isR_nI, n_1000000000, n_11, n_2, hi_ne, hi_ni, hi_eq, hi_wL, hi_wR, hl_wI, hl_wR, hl_ne, hl_ni, hl_eq, hr_wI, hr_wL, if_true, if_false, if_pos, if_neg, true_and, and_true, not_true_eq_false, not_false_eq_true, x.n, x.h, x.b, x.mo, x.wi, x.ca, x.ro, x.ti, x.il, x.ni, x.ga, x.ri, Option.getD_none]
    split
    · exact ⟨rfl, ff.mono rfl, ld.sm, RwM.fr ff rfl⟩
    · exact ⟨rfl, ff.mono rfl, ld.sm, RwM.fr ff rfl⟩
  | some u =>
    have u8 := lst_le (prH_le P a) hl2
    cases hl3 : lstO P (mayOf P a 0) 1000000 (prH P a) with
    | none => exact absurd hl3 (lst_mono mayOf_sbs (Nat.le_refl _) (by rw [hl2]; exact fun e => by cases e))
    | some v =>
      have v8 := lst_le (prH_le P a) hl3
      simp (disch := first | omega | exact x.s | exact hi_eq | ((repeat (first | exact x.s | apply sw_I | apply sw_L | apply sw_cp | apply sw_18 | apply sw_21 | apply sw_22 | apply sw_m12 | apply sw_m18)); done) | rfl) only [wp_ite, wp_some, w_jn, wp_r0, wp_r1, wp_b2, wp_nn, w_bc, w_nt, wo_37, wg_37, wi_37, w_has3, w_isMan, w_areTwo, w_isHour3, w_in3, w_night, wtM_0, wtM_1, wtM_2, nI_add, nI_1, nI_mul, nI_and, nI_or, nI_sd, nI_sub, l_sub1, l_addm1, l_all, l_1shl, l_or0, l_add0, l_0add, l_m1, l_m1r, l_neg, l_nn, l_eq0, l_le0, l_0lt, l_eq1, l_m1lt, l_m1le, l_m1eq0, l_10, l_00, l_1le, nI_le_l, nI_lt_l, nI_eq_l, bc_nI, nt_nI, bit_nI, b2_ite, b2_ite1, nI_max, nI_min, isR_nI, n_1000000000, n_11, n_2, hi_ne, hi_ni, hi_eq, hi_wL, hi_wR, hl_wI, hl_wR, hl_ne, hl_ni, hl_eq, hr_wI, hr_wL, if_true, if_false, if_pos, if_neg, true_and, and_true, not_true_eq_false, not_false_eq_true, x.n, x.h, x.b, x.mo, x.wi, x.ca, x.ro, x.ti, x.il, x.ni, x.ga, x.ri, Option.getD_some]
      exact ⟨rfl, ff.mono rfl, ld.sm, RwM.fr ff rfl⟩
theorem m_tellWays (x : MX σ P a) (ld : LdM σ P may must hd 1000000000) (mk : MayOK P may) (hm : MustI P may must) (hdl : ∀ r h, hd r h ≤ 999) : wp (f_X3_tellWays (some 37) σ) (fun y τ => y = nI (cntW P may) ∧ Fr [43, 54, 55, 56, 57, 59, 60, 61] [] [10] σ τ ∧ RowM τ (wayW P may)) := by
  have x0 := x
  have cl := cntW_le (may := may) x.h8 x.n8
  unfold f_X3_tellWays
  simp (disch := first | omega | exact x.s | exact hi_eq | ((repeat (first | exact x.s | apply sw_I | apply sw_L | apply sw_cp | apply sw_18 | apply sw_21 | apply sw_22 | apply sw_m12 | apply sw_m18)); done) | rfl) only [wp_ite, wp_some, w_jn, wp_r0, wp_r1, wp_b2, wp_nn, w_bc, w_nt, wo_37, wg_37, wi_37, w_has3, w_isMan, w_areTwo, w_isHour3, w_in3, w_night, wtM_0, wtM_1, wtM_2, nI_add, nI_1, nI_mul, nI_and, nI_or, nI_sd, nI_sub, l_sub1, l_addm1, l_all, l_1shl, l_or0, l_add0, l_0add, l_m1, l_m1r, l_neg, l_nn, l_eq0, l_le0, l_0lt, l_eq1, l_m1lt, l_m1le, l_m1eq0, l_10, l_00, l_1le, nI_le_l, nI_lt_l, nI_eq_l, bc_nI, nt_nI, bit_nI, b2_ite, b2_ite1, nI_max, nI_min, isR_nI, n_10, n_2, hi_ne, hi_ni, hi_eq, hi_wL, hi_wR, hl_wI, hl_wR, hl_ne, hl_ni, hl_eq, hr_wI, hr_wL, if_true, if_false, if_pos, if_neg, true_and, and_true, not_true_eq_false, not_false_eq_true, x.n, x.h, x.b, x.mo, x.wi, x.ca, x.ro, x.ti, x.il, x.ni, x.ga, x.ri]
  rw [wp_bnd]
  refine wp_mono (m_countWays x ld mk hm hdl (Nat.le_refl _) (by decide)) (fun y τ h => ?_)
  obtain ⟨rfl, f⟩ := h
  have f0 : Fr [43, 54, 55, 56, 57, 59, 60, 61] [] [10] σ (wI τ 37 10 0) := (f.mono rfl).putI rfl
  have ld' : LdM (wI τ 37 10 0) P may must hd 1000000000 := (ld.fr f rfl).fr (D := []) (F := []) (G := [10]) (Fr.refl.putI rfl) rfl
  replace x := x0.fr f rfl
  rw [wi_37 x.s]
  replace x := x0.fr f0 rfl
  simp (disch := first | omega | exact x.s | exact hi_eq | ((repeat (first | exact x.s | apply sw_I | apply sw_L | apply sw_cp | apply sw_18 | apply sw_21 | apply sw_22 | apply sw_m12 | apply sw_m18)); done) | rfl) only [wp_ite, wp_some, w_jn, wp_r0, wp_r1, wp_b2, wp_nn, w_bc, w_nt, wo_37, wg_37, wi_37, w_has3, w_isMan, w_areTwo, w_isHour3, w_in3, w_night, wtM_0, wtM_1, wtM_2, nI_add, nI_1, nI_mul, nI_and, nI_or, nI_sd, nI_sub, l_sub1, l_addm1, l_all, l_1shl, l_or0, l_add0, l_0add, l_m1, l_m1r, l_neg, l_nn, l_eq0, l_le0, l_0lt, l_eq1, l_m1lt, l_m1le, l_m1eq0, l_10, l_00, l_1le, nI_le_l, nI_lt_l, nI_eq_l, bc_nI, nt_nI, bit_nI, b2_ite, b2_ite1, nI_max, nI_min, isR_nI, n_10, n_2, hi_ne, hi_ni, hi_eq, hi_wL, hi_wR, hl_wI, hl_wR, hl_ne, hl_ni, hl_eq, hr_wI, hr_wL, if_true, if_false, if_pos, if_neg, true_and, and_true, not_true_eq_false, not_false_eq_true, x.n, x.h, x.b, x.mo, x.wi, x.ca, x.ro, x.ti, x.il, x.ni, x.ga, x.ri]
  by_cases h0 : cntW P may = 0
  · rw [if_pos h0, h0]
    refine ⟨rfl, f0, ?_⟩
    unfold wayW
    rw [if_pos h0]
    exact rowM0
  · rw [if_neg h0]
    refine m_lineTold x ld' mk hm hdl (fun _ _ => Nat.zero_le _) (Nat.le_refl _) (bd_far hdl (fun _ _ => Nat.zero_le _)) m_cost2' ((cntW_pos x.h8).mp h0) (fun τ' f' hr' => ?_)
    rw [wp_some]
    refine ⟨rfl, f0.then f' rfl, ?_⟩
    unfold wayW
    rw [if_neg h0]
    exact hr'
theorem m_rotas (x : MX σ P a) (s : SM σ) : wp (f_X3_rotas (some 37) σ) (QuM σ (nI (cntW P (mayOf P a 0))) (some (wayW P (mayOf P a 0)))) := by
  have x0 := x
  unfold f_X3_rotas
  simp (disch := first | omega | exact x.s | exact hi_eq | ((repeat (first | exact x.s | apply sw_I | apply sw_L | apply sw_cp | apply sw_18 | apply sw_21 | apply sw_22 | apply sw_m12 | apply sw_m18)); done) | rfl) only [wp_ite, wp_some, w_jn, wp_r0, wp_r1, wp_b2, wp_nn, w_bc, w_nt, wo_37, wg_37, wi_37, w_has3, w_isMan, w_areTwo, w_isHour3, w_in3, w_night, wtM_0, wtM_1, wtM_2, nI_add, nI_1, nI_mul, nI_and, nI_or, nI_sd, nI_sub, l_sub1, l_addm1, l_all, l_1shl, l_or0, l_add0, l_0add, l_m1, l_m1r, l_neg, l_nn, l_eq0, l_le0, l_0lt, l_eq1, l_m1lt, l_m1le, l_m1eq0, l_10, l_00, l_1le, nI_le_l, nI_lt_l, nI_eq_l, bc_nI, nt_nI, bit_nI, b2_ite, b2_ite1, nI_max, nI_min, isR_nI, n_11, n_2, hi_ne, hi_ni, hi_eq, hi_wL, hi_wR, hl_wI, hl_wR, hl_ne, hl_ni, hl_eq, hr_wI, hr_wL, if_true, if_false, if_pos, if_neg, true_and, and_true, not_true_eq_false, not_false_eq_true, x.n, x.h, x.b, x.mo, x.wi, x.ca, x.ro, x.ti, x.il, x.ni, x.ga, x.ri]
  have f0 : Fr [] [] [11] σ (wI σ 37 11 0) := Fr.refl.putI rfl
  rw [wp_bnd]
  refine wp_mono (m_laid (x0.fr f0 rfl) (s.fr f0 rfl) (but_none x.n8)) (fun y τ h => ?_)
  obtain ⟨f, ld⟩ := h
  have ff : Fr MD [] MG σ τ := (f0.mono rfl).then f rfl
  replace x := x0.fr ff rfl
  simp (disch := first | omega | exact x.s | exact hi_eq | ((repeat (first | exact x.s | apply sw_I | apply sw_L | apply sw_cp | apply sw_18 | apply sw_21 | apply sw_22 | apply sw_m12 | apply sw_m18)); done) | rfl) only [wp_ite, wp_some, w_jn, wp_r0, wp_r1, wp_b2, wp_nn, w_bc, w_nt, wo_37, wg_37, wi_37, w_has3, w_isMan, w_areTwo, w_isHour3, w_in3, w_night, wtM_0, wtM_1, wtM_2, nI_add, nI_1, nI_mul, nI_and, nI_or, nI_sd, nI_sub, l_sub1, l_addm1, l_all, l_1shl, l_or0, l_add0, l_0add, l_m1, l_m1r, l_neg, l_nn, l_eq0, l_le0, l_0lt, l_eq1, l_m1lt, l_m1le, l_m1eq0, l_10, l_00, l_1le, nI_le_l, nI_lt_l, nI_eq_l, bc_nI, nt_nI, bit_nI, b2_ite, b2_ite1, nI_max, nI_min, isR_nI, n_11, n_2, hi_ne, hi_ni, hi_eq, hi_wL, hi_wR, hl_wI, hl_wR, hl_ne, hl_ni, hl_eq, hr_wI, hr_wL, if_true, if_false, if_pos, if_neg, true_and, and_true, not_true_eq_false, not_false_eq_true, x.n, x.h, x.b, x.mo, x.wi, x.ca, x.ro, x.ti, x.il, x.ni, x.ga, x.ri]
  rw [wp_bnd]
  refine wp_mono (m_tellWays x ld mayOf_ok MustI.zero (hardN_le P a)) (fun y τ' h => ?_)
  obtain ⟨rfl, f', hr'⟩ := h
  rw [wp_some]
  exact ⟨rfl, ff.then f' rfl, ld.sm.fr f' rfl, hr'⟩
theorem m_mended (x : MX σ P a) (s : SM σ) {r : Nat} (hr' : r < P.n) : wp (f_X3_mended (some 37) (nI r) σ) (QuM σ (lstR P (mayOf P a (2 ^ r)) (prO P a)) (lstW P (mayOf P a (2 ^ r)) (prO P a))) := by
  have n8 := x.n8
  have x0 := x
  unfold f_X3_mended
  simp (disch := first | omega | exact x.s | exact hi_eq | ((repeat (first | exact x.s | apply sw_I | apply sw_L | apply sw_cp | apply sw_18 | apply sw_21 | apply sw_22 | apply sw_m12 | apply sw_m18)); done) | rfl) only [wp_ite, wp_some, w_jn, wp_r0, wp_r1, wp_b2, wp_nn, w_bc, w_nt, wo_37, wg_37, wi_37, w_has3, w_isMan, w_areTwo, w_isHour3, w_in3, w_night, wtM_0, wtM_1, wtM_2, nI_add, nI_1, nI_mul, nI_and, nI_or, nI_sd, nI_sub, l_sub1, l_addm1, l_all, l_1shl, l_or0, l_add0, l_0add, l_m1, l_m1r, l_neg, l_nn, l_eq0, l_le0, l_0lt, l_eq1, l_m1lt, l_m1le, l_m1eq0, l_10, l_00, l_1le, nI_le_l, nI_lt_l, nI_eq_l, bc_nI, nt_nI, bit_nI, b2_ite, b2_ite1, nI_max, nI_min, isR_nI, n_1000000000, n_11, n_2, hi_ne, hi_ni, hi_eq, hi_wL, hi_wR, hl_wI, hl_wR, hl_ne, hl_ni, hl_eq, hr_wI, hr_wL, if_true, if_false, if_pos, if_neg, true_and, and_true, not_true_eq_false, not_false_eq_true, x.n, x.h, x.b, x.mo, x.wi, x.ca, x.ro, x.ti, x.il, x.ni, x.ga, x.ri]
  have f0 : Fr [] [] [11] σ (wI σ 37 11 0) := Fr.refl.putI rfl
  rw [wp_bnd]
  refine wp_mono (m_laid (x0.fr f0 rfl) (s.fr f0 rfl) (but_one n8 hr')) (fun y τ h => ?_)
  obtain ⟨f, ld⟩ := h
  have ff : Fr [47, 54, 55, 58] [] [11, 12, 13, 14, 15, 16, 21] σ τ := (f0.mono rfl).then f rfl
  replace x := x0.fr ff rfl
  simp (disch := first | omega | exact x.s | exact hi_eq | ((repeat (first | exact x.s | apply sw_I | apply sw_L | apply sw_cp | apply sw_18 | apply sw_21 | apply sw_22 | apply sw_m12 | apply sw_m18)); done) | rfl) only [wp_ite, wp_some, w_jn, wp_r0, wp_r1, wp_b2, wp_nn, w_bc, w_nt, wo_37, wg_37, wi_37, w_has3, w_isMan, w_areTwo, w_isHour3, w_in3, w_night, wtM_0, wtM_1, wtM_2, nI_add, nI_1, nI_mul, nI_and, nI_or, nI_sd, nI_sub, l_sub1, l_addm1, l_all, l_1shl, l_or0, l_add0, l_0add, l_m1, l_m1r, l_neg, l_nn, l_eq0, l_le0, l_0lt, l_eq1, l_m1lt, l_m1le, l_m1eq0, l_10, l_00, l_1le, nI_le_l, nI_lt_l, nI_eq_l, bc_nI, nt_nI, bit_nI, b2_ite, b2_ite1, nI_max, nI_min, isR_nI, n_1000000000, n_11, n_2, hi_ne, hi_ni, hi_eq, hi_wL, hi_wR, hl_wI, hl_wR, hl_ne, hl_ni, hl_eq, hr_wI, hr_wL, if_true, if_false, if_pos, if_neg, true_and, and_true, not_true_eq_false, not_false_eq_true, x.n, x.h, x.b, x.mo, x.wi, x.ca, x.ro, x.ti, x.il, x.ni, x.ga, x.ri]
  rw [wp_bnd]
  refine wp_mono (m_least x ld mayOf_ok MustI.zero (hardN_le P a) (prO_le P a) (Nat.le_refl _) (bd_far (hardN_le P a) (prO_le P a)) (m_cost1' x τ Fr.refl)) (fun v τ' h => ?_)
  obtain ⟨rfl, f'⟩ := h
  have ff' : Fr [47, 54, 55, 58, 59] [] [11, 12, 13, 14, 15, 16, 21] σ τ' := (ff.mono rfl).then f' rfl
  replace ld := ld.fr f' rfl
  replace x := x0.fr ff' rfl
  unfold lstR lstW
  cases hl2 : lstO P (mayOf P a (2 ^ r)) 1000000 (prO P a) with
  | none =>
    simp (disch := first | omega | exact x.s | exact hi_eq | ((repeat (first | exact x.s | apply sw_I | apply sw_L | apply sw_cp | apply sw_18 | apply sw_21 | apply sw_22 | apply sw_m12 | apply sw_m18)); done) | rfl) only [wp_ite, wp_some, w_jn, wp_r0, wp_r1, wp_b2, wp_nn, w_bc, w_nt, wo_37, wg_37, wi_37, w_has3, w_isMan, w_areTwo, w_isHour3, w_in3, w_night, wtM_0, wtM_1, wtM_2, nI_add, nI_1, nI_mul, nI_and, nI_or, nI_sd, nI_sub, l_sub1, l_addm1, l_all, l_1shl, l_or0, l_add0, l_0add, l_m1, l_m1r, l_neg, l_nn, l_eq0, l_le0, l_0lt, l_eq1, l_m1lt, l_m1le, l_m1eq0, l_10, l_00, l_1le, nI_le_l, nI_lt_l, nI_eq_l, bc_nI, nt_nI, bit_nI, b2_ite, b2_ite1, nI_max, nI_min, isR_nI, n_1000000000, n_11, n_2, hi_ne, hi_ni, hi_eq, hi_wL, hi_wR, hl_wI, hl_wR, hl_ne, hl_ni, hl_eq, hr_wI, hr_wL, if_true, if_false, if_pos, if_neg, true_and, and_true, not_true_eq_false, not_false_eq_true, x.n, x.h, x.b, x.mo, x.wi, x.ca, x.ro, x.ti, x.il, x.ni, x.ga, x.ri, Option.getD_none]
    exact ⟨rfl, ff'.mono rfl, ld.sm, RwM.fr ff' rfl⟩
  | some v =>
    have v8 := lst_le (prO_le P a) hl2
    simp (disch := first | omega | exact x.s | exact hi_eq | ((repeat (first | exact x.s | apply sw_I | apply sw_L | apply sw_cp | apply sw_18 | apply sw_21 | apply sw_22 | apply sw_m12 | apply sw_m18)); done) | rfl) only [wp_ite, wp_some, w_jn, wp_r0, wp_r1, wp_b2, wp_nn, w_bc, w_nt, wo_37, wg_37, wi_37, w_has3, w_isMan, w_areTwo, w_isHour3, w_in3, w_night, wtM_0, wtM_1, wtM_2, nI_add, nI_1, nI_mul, nI_and, nI_or, nI_sd, nI_sub, l_sub1, l_addm1, l_all, l_1shl, l_or0, l_add0, l_0add, l_m1, l_m1r, l_neg, l_nn, l_eq0, l_le0, l_0lt, l_eq1, l_m1lt, l_m1le, l_m1eq0, l_10, l_00, l_1le, nI_le_l, nI_lt_l, nI_eq_l, bc_nI, nt_nI, bit_nI, b2_ite, b2_ite1, nI_max, nI_min, isR_nI, n_1000000000, n_11, n_2, hi_ne, hi_ni, hi_eq, hi_wL, hi_wR, hl_wI, hl_wR, hl_ne, hl_ni, hl_eq, hr_wI, hr_wL, if_true, if_false, if_pos, if_neg, true_and, and_true, not_true_eq_false, not_false_eq_true, x.n, x.h, x.b, x.mo, x.wi, x.ca, x.ro, x.ti, x.il, x.ni, x.ga, x.ri, Option.getD_some]
    refine m_lineTold x ld mayOf_ok MustI.zero (hardN_le P a) (prO_le P a) (Nat.le_refl _) (bd_far (hardN_le P a) (prO_le P a)) (m_cost1' x) hl2 (fun τ' f' hr' => ?_)
    rw [wp_some]
    exact ⟨rfl, (ff'.mono rfl).then f' rfl, ld.sm.fr f' rfl, hr'⟩
theorem m_paid (x : MX σ P a) (s : SM σ) {r : Nat} (hr' : r < P.n) : wp (f_X3_paid (some 37) (nI r) σ) (QuM σ (paidR P a r).1 (paidR P a r).2) := by
  have n8 := x.n8
  have h8 := x.h8
  have x0 := x
  unfold f_X3_paid
  simp (disch := first | omega | exact x.s | exact hi_eq | ((repeat (first | exact x.s | apply sw_I | apply sw_L | apply sw_cp | apply sw_18 | apply sw_21 | apply sw_22 | apply sw_m12 | apply sw_m18)); done) | rfl) only [wp_ite, wp_some, w_jn, wp_r0, wp_r1, wp_b2, wp_nn, w_bc, w_nt, wo_37, wg_37, wi_37, w_has3, w_isMan, w_areTwo, w_isHour3, w_in3, w_night, wtM_0, wtM_1, wtM_2, nI_add, nI_1, nI_mul, nI_and, nI_or, nI_sd, nI_sub, l_sub1, l_addm1, l_all, l_1shl, l_or0, l_add0, l_0add, l_m1, l_m1r, l_neg, l_nn, l_eq0, l_le0, l_0lt, l_eq1, l_m1lt, l_m1le, l_m1eq0, l_10, l_00, l_1le, nI_le_l, nI_lt_l, nI_eq_l, bc_nI, nt_nI, bit_nI, b2_ite, b2_ite1, nI_max, nI_min, isR_nI, n_10, n_1000000000, n_11, n_2, hi_ne, hi_ni, hi_eq, hi_wL, hi_wR, hl_wI, hl_wR, hl_ne, hl_ni, hl_eq, hr_wI, hr_wL, if_true, if_false, if_pos, if_neg, true_and, and_true, not_true_eq_false, not_false_eq_true, x.n, x.h, x.b, x.mo, x.wi, x.ca, x.ro, x.ti, x.il, x.ni, x.ga, x.ri]
  have f0 : Fr [] [] [11] σ (wI σ 37 11 0) := Fr.refl.putI rfl
  rw [wp_bnd]
  refine wp_mono (m_easiestBut (x0.fr f0 rfl) (s.fr f0 rfl) (but_one n8 hr')) (fun y τ h => ?_)
  obtain ⟨rfl, f, ld⟩ := h
  have ff : Fr [47, 54, 55, 58, 59] [] [11, 12, 13, 14, 15, 16, 21] σ τ := (f0.mono rfl).then f rfl
  replace x := x0.fr ff rfl
  simp (disch := first | omega | exact x.s | exact hi_eq | ((repeat (first | exact x.s | apply sw_I | apply sw_L | apply sw_cp | apply sw_18 | apply sw_21 | apply sw_22 | apply sw_m12 | apply sw_m18)); done) | rfl) only [wp_ite, wp_some, w_jn, wp_r0, wp_r1, wp_b2, wp_nn, w_bc, w_nt, wo_37, wg_37, wi_37, w_has3, w_isMan, w_areTwo, w_isHour3, w_in3, w_night, wtM_0, wtM_1, wtM_2, nI_add, nI_1, nI_mul, nI_and, nI_or, nI_sd, nI_sub, l_sub1, l_addm1, l_all, l_1shl, l_or0, l_add0, l_0add, l_m1, l_m1r, l_neg, l_nn, l_eq0, l_le0, l_0lt, l_eq1, l_m1lt, l_m1le, l_m1eq0, l_10, l_00, l_1le, nI_le_l, nI_lt_l, nI_eq_l, bc_nI, nt_nI, bit_nI, b2_ite, b2_ite1, nI_max, nI_min, isR_nI, n_10, n_1000000000, n_11, n_2, hi_ne, hi_ni, hi_eq, hi_wL, hi_wR, hl_wI, hl_wR, hl_ne, hl_ni, hl_eq, hr_wI, hr_wL, if_true, if_false, if_pos, if_neg, true_and, and_true, not_true_eq_false, not_false_eq_true, x.n, x.h, x.b, x.mo, x.wi, x.ca, x.ro, x.ti, x.il, x.ni, x.ga, x.ri]
  rw [wp_bnd]
  refine wp_mono (m_easiestBut x ld.sm (but_none n8)) (fun y τ' h => ?_)
  obtain ⟨rfl, f', ld⟩ := h
  replace ff := ff.then f' rfl
  replace x := x0.fr ff rfl
  unfold paidR
  cases hl2 : lstO P (mayOf P a (2 ^ r)) 1000000 (prH P a) with
  | none =>
    simp (disch := first | omega | exact x.s | exact hi_eq | ((repeat (first | exact x.s | apply sw_I | apply sw_L | apply sw_cp | apply sw_18 | apply sw_21 | apply sw_22 | apply sw_m12 | apply sw_m18)); done) | rfl) only [wp_ite, wp_some, w_jn, wp_r0, wp_r1, wp_b2, wp_nn, w_bc, w_nt, wo_37, wg_37, wi_37, w_has3, w_isMan, w_areTwo, w_isHour3, w_in3, w_night, wtM_0, wtM_1, wtM_2, nI_add, nI_1, nI_mul, nI_and, nI_or, nI_sd, nI_sub, l_sub1, l_addm1, l_all, l_1shl, l_or0, l_add0, l_0add, l_m1, l_m1r, l_neg, l_nn, l_eq0, l_le0, l_0lt, l_eq1, l_m1lt, l_m1le, l_m1eq0, l_10, l_00, l_1le, nI_le_l, nI_lt_l, nI_eq_l, bc_nI, nt_nI, bit_nI, b2_ite, b2_ite1, nI_max, nI_min, isR_nI, n_10, n_1000000000, n_11, n_2, hi_ne, hi_ni, hi_eq, hi_wL, hi_wR, hl_wI, hl_wR, hl_ne, hl_ni, hl_eq, hr_wI, hr_wL, if_true, if_false, if_pos, if_neg, true_and, and_true, not_true_eq_false, not_false_eq_true, x.n, x.h, x.b, x.mo, x.wi, x.ca, x.ro, x.ti, x.il, x.ni, x.ga, x.ri, Option.getD_none]
    split
    · exact ⟨rfl, ff.mono rfl, ld.sm, RwM.fr ff rfl⟩
    · exact ⟨rfl, ff.mono rfl, ld.sm, RwM.fr ff rfl⟩
  | some u =>
    have u8 := lst_le (prH_le P a) hl2
    cases hl3 : lstO P (mayOf P a 0) 1000000 (prH P a) with
    | none => exact absurd hl3 (lst_mono mayOf_sbs (Nat.le_refl _) (by rw [hl2]; exact fun e => by cases e))
    | some v =>
      have v8 := lst_le (prH_le P a) hl3
      simp (disch := first | omega | exact x.s | exact hi_eq | ((repeat (first | exact x.s | apply sw_I | apply sw_L | apply sw_cp | apply sw_18 | apply sw_21 | apply sw_22 | apply sw_m12 | apply sw_m18)); done) | rfl) only [wp_ite, wp_some, w_jn, wp_r0, wp_r1, wp_b2, wp_nn, w_bc, w_nt, wo_37, wg_37, wi_37, w_has3, w_isMan, w_areTwo, w_isHour3, w_in3, w_night, wtM_0, wtM_1, wtM_2, nI_add, nI_1, nI_mul, nI_and, nI_or, nI_sd, nI_sub, l_sub1, l_addm1, l_all, l_1shl, l_or0, l_add0, l_0add, l_m1, l_m1r, l_neg, l_nn, l_eq0, l_le0, l_0lt, l_eq1, l_m1lt, l_m1le, l_m1eq0, l_10, l_00, l_1le, nI_le_l, nI_lt_l, nI_eq_l, bc_nI, nt_nI, bit_nI, b2_ite, b2_ite1, nI_max, nI_min, isR_nI, n_10, n_1000000000, n_11, n_2, hi_ne, hi_ni, hi_eq, hi_wL, hi_wR, hl_wI, hl_wR, hl_ne, hl_ni, hl_eq, hr_wI, hr_wL, if_true, if_false, if_pos, if_neg, true_and, and_true, not_true_eq_false, not_false_eq_true, x.n, x.h, x.b, x.mo, x.wi, x.ca, x.ro, x.ti, x.il, x.ni, x.ga, x.ri, Option.getD_some]
      rw [wp_bnd]
      refine wp_mono (m_layLine x ld mayOf_ok MustI.zero (hardN_le P a) (prH_le P a) (Nat.le_refl _) (bd_far (hardN_le P a) (prH_le P a)) (m_cost0' x ld) hl3) (fun _ τ'' h => ?_)
      obtain ⟨f2, ht⟩ := h
      have hlt := layS_lt hl3 P.hrs (Nat.le_refl _)
      generalize (layS P 1000000 (prH P a) v (mayOf P a 0) P.hrs).2 = t at *
      have ff2 : Fr MD [] MG σ τ'' := (ff.mono rfl).then f2 rfl
      have s2 : SM τ'' := ld.sm.fr f2 rfl
      refine wp_up P.hrs (fun i y τ => y = (ownI P a r t i, nI i) ∧ τ = τ'') (fun ag i y τ hi' hJ hag => ?_) (fun ag y τ hJ => ?_) (by omega) ⟨rfl, rfl⟩
      · obtain ⟨rfl, rfl⟩ := hJ
        replace x := x0.fr ff2 rfl
        have h3 := ht i hi'
        have h4 := hlt i hi'
        have h5 : hi τ 58 (8 * r + i) = nI (hardN P a r i) := (f2.i rfl).trans (ld.2.2.1 r i hr' (by omega))
        unfold f_X3_paid_b54
        simp (disch := first | omega | exact x.s | exact hi_eq | ((repeat (first | exact x.s | apply sw_I | apply sw_L | apply sw_cp | apply sw_18 | apply sw_21 | apply sw_22 | apply sw_m12 | apply sw_m18)); done) | rfl) only [wp_ite, wp_some, w_jn, wp_r0, wp_r1, wp_b2, wp_nn, w_bc, w_nt, wo_37, wg_37, wi_37, wr_37_40, wr_37_36, wl_58, ws_58, wl_61, ws_61, w_has3, w_isMan, w_areTwo, w_isHour3, w_in3, w_night, wtM_0, wtM_1, wtM_2, nI_add, nI_1, nI_mul, nI_and, nI_or, nI_sd, nI_sub, l_sub1, l_addm1, l_all, l_1shl, l_or0, l_add0, l_0add, l_m1, l_m1r, l_neg, l_nn, l_eq0, l_le0, l_0lt, l_eq1, l_m1lt, l_m1le, l_m1eq0, l_10, l_00, l_1le, nI_le_l, nI_lt_l, nI_eq_l, bc_nI, nt_nI, bit_nI, b2_ite, b2_ite1, nI_max, nI_min, isR_nI, n_100, n_2, n_40, n_8, hi_ne, hi_ni, hi_eq, hi_wL, hi_wR, hl_wI, hl_wR, hl_ne, hl_ni, hl_eq, hr_wI, hr_wL, if_true, if_false, if_pos, if_neg, true_and, and_true, not_true_eq_false, not_false_eq_true, x.n, x.h, x.b, x.mo, x.wi, x.ca, x.ro, x.ti, x.il, x.ni, x.ga, x.ri, h3, h5]
        split
        · rename_i e
          exact hag _ _ ⟨by show _ = (ownI P a r t i + (if t i = r then hardI P a r i else 0), _); rw [if_pos e, hardN_eq], rfl⟩
        · rename_i e
          exact hag _ _ ⟨by show _ = (ownI P a r t i + (if t i = r then hardI P a r i else 0), _); rw [if_neg e], rfl⟩
      · obtain ⟨rfl, rfl⟩ := hJ
        replace x := x0.fr ff2 rfl
        unfold f_X3_paid_b54
        simp (disch := first | omega | exact x.s | exact hi_eq | ((repeat (first | exact x.s | apply sw_I | apply sw_L | apply sw_cp | apply sw_18 | apply sw_21 | apply sw_22 | apply sw_m12 | apply sw_m18)); done) | rfl) only [wp_ite, wp_some, w_jn, wp_r0, wp_r1, wp_b2, wp_nn, w_bc, w_nt, wo_37, wg_37, wi_37, wr_37_40, wr_37_36, wl_58, ws_58, wl_61, ws_61, w_has3, w_isMan, w_areTwo, w_isHour3, w_in3, w_night, wtM_0, wtM_1, wtM_2, nI_add, nI_1, nI_mul, nI_and, nI_or, nI_sd, nI_sub, l_sub1, l_addm1, l_all, l_1shl, l_or0, l_add0, l_0add, l_m1, l_m1r, l_neg, l_nn, l_eq0, l_le0, l_0lt, l_eq1, l_m1lt, l_m1le, l_m1eq0, l_10, l_00, l_1le, nI_le_l, nI_lt_l, nI_eq_l, bc_nI, nt_nI, bit_nI, b2_ite, b2_ite1, nI_max, nI_min, isR_nI, n_10, n_100, n_1000000000, n_11, n_2, n_40, n_8, hi_ne, hi_ni, hi_eq, hi_wL, hi_wR, hl_wI, hl_wR, hl_ne, hl_ni, hl_eq, hr_wI, hr_wL, if_true, if_false, if_pos, if_neg, true_and, and_true, not_true_eq_false, not_false_eq_true, x.n, x.h, x.b, x.mo, x.wi, x.ca, x.ro, x.ti, x.il, x.ni, x.ga, x.ri]
        exact ⟨rfl, (by repeat (first | exact ff2 | exact (ff2).mono rfl | refine Fr.putI ?_ rfl | refine Fr.putL ?_ rfl | refine Fr.putR ?_ rfl)), s2.fr (D := [43]) (F := []) (G := [10]) (by repeat (first | exact Fr.refl | exact (Fr.refl).mono rfl | refine Fr.putI ?_ rfl | refine Fr.putL ?_ rfl | refine Fr.putR ?_ rfl)) rfl, rowM2⟩
end mques
