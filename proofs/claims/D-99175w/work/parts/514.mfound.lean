/-! PURE 76: who rode when (the reference) -/
section mfound
variable {σ τ : Hp} {P : Pk} {a : HS} {F : FD} {may must : Nat → Nat} {hd : Nat → Nat → Nat}
theorem m_layFound (x : MX σ P a) (s : SM σ) (hF : FOK P.n F) (hc : FM σ F) : wp (f_X3_layFound (some 37) σ) (fun _ τ => Fr [47, 54, 55, 58] [] HG σ τ ∧ LdM τ P (fdM P a F) (fdS P a F F.m).2 (hardN P a) 1000000000) := by
  have x0 := x
  have h8 := x.h8
  have n8 := x.n8
  have m12 := hF.1
  generalize hQ : (fun (_ : Unit) τ => Fr [47, 54, 55, 58] [] HG σ τ ∧ LdM τ P (fdM P a F) (fdS P a F F.m).2 (hardN P a) 1000000000) = Q
  unfold f_X3_layFound
  simp (disch := first | omega | exact x.s | exact hi_eq | ((repeat (first | exact x.s | apply sw_I | apply sw_L | apply sw_cp | apply sw_18 | apply sw_21 | apply sw_22 | apply sw_m12 | apply sw_m18)); done) | rfl) only [wp_ite, wp_some, y_jn, wp_r0, wp_r1, wp_b2, y_nn, w_bc, w_nt, wo_37, wg_37, wi_37, w_has3, w_isMan, w_areTwo, w_isHour3, w_in3, w_night, wtM_0, wtM_1, wtM_2, nI_add, nI_1, nI_mul, nI_and, nI_or, nI_sd, nI_sub, l_sub1, l_addm1, l_all, l_1shl, l_or0, l_add0, l_0add, l_m1, l_m1r, l_neg, l_nn, l_eq0, l_le0, l_0lt, l_eq1, l_m1lt, l_m1le, l_m1eq0, l_10, l_00, l_1le, nI_le_l, nI_lt_l, nI_eq_l, bc_nI, nt_nI, bit_nI, b2_ite, b2_ite1, nI_max, nI_min, isR_nI, n_2, hi_ne, hi_ni, hi_eq, y_iL, y_iR, y_lI, y_lR, hl_ne, hl_ni, hl_eq, y_rI, y_rL, if_true, if_false, if_pos, if_neg, true_and, and_true, not_true_eq_false, not_false_eq_true, x.n, x.h, x.b, x.mo, x.wi, x.ca, x.ro, x.ti, x.il, x.ni, x.ga, x.ri]
  rw [wp_bnd]
  refine wp_mono (m_laid x s (but_none n8)) (fun _ τ h => ?_)
  obtain ⟨f, ld⟩ := h
  refine wp_up F.m (fun k y τ => y = nI k ∧ Fr [47, 54, 55, 58] [] HG σ τ ∧ LdM τ P (fdS P a F k).1 (fdS P a F k).2 (hardN P a) 1000000000) (fun ag k y τ hk' hJ hag => ?_) (fun ag y τ hJ => ?_) (by omega) ⟨rfl, f, ld⟩
  · obtain ⟨rfl, f, l1, l2, l3, l4⟩ := hJ
    replace x := x0.fr f rfl
    obtain ⟨e45, hf, b, b12, e44, hb⟩ := hc.fr f rfl
    obtain ⟨e63, e64⟩ := hf k hk'
    have eb := hb k hk'
    obtain ⟨g1, g2⟩ := hF.2 k hk'
    have st : fdS P a F (k + 1) = if F.h k < P.hrs then (if F.b k then (fixM (fdS P a F k).1 (F.h k) (F.r k), up1 (fdS P a F k).2 (F.r k) ((fdS P a F k).2 (F.r k) ||| 2 ^ F.h k)) else (up1 (fdS P a F k).1 (F.r k) (sd ((fdS P a F k).1 (F.r k)) (2 ^ F.h k)), (fdS P a F k).2)) else fdS P a F k := rfl
    rw [st] at hag
    generalize fdS P a F k = s at *
    have e54 := l1 (F.r k) g2
    unfold f_X3_layFound_b7
    by_cases c1 : F.h k < P.hrs
    · rw [if_pos c1] at hag
      cases hb' : F.b k with
      | true =>
        rw [hb', if_pos rfl] at hag
        rw [hb'] at eb
        simp (disch := first | omega | exact x.s | exact hi_eq | ((repeat (first | exact x.s | apply sw_I | apply sw_L | apply sw_cp | apply sw_18 | apply sw_21 | apply sw_22 | apply sw_m12 | apply sw_m18)); done) | rfl) only [wp_ite, wp_some, y_jn, wp_r0, wp_r1, wp_b2, y_nn, w_bc, w_nt, wo_37, wg_37, wi_37, wr_37_32, wr_37_42, wr_37_43, wl_54, ws_54, wl_63, ws_63, wl_64, ws_64, w_has3, w_isMan, w_areTwo, w_isHour3, w_in3, w_night, wtM_0, wtM_1, wtM_2, nI_add, nI_1, nI_mul, nI_and, nI_or, nI_sd, nI_sub, l_sub1, l_addm1, l_all, l_1shl, l_or0, l_add0, l_0add, l_m1, l_m1r, l_neg, l_nn, l_eq0, l_le0, l_0lt, l_eq1, l_m1lt, l_m1le, l_m1eq0, l_10, l_00, l_1le, nI_le_l, nI_lt_l, nI_eq_l, bc_nI, nt_nI, bit_nI, b2_ite, b2_ite1, nI_max, nI_min, isR_nI, n_100, n_2, n_32, hi_ne, hi_ni, hi_eq, y_iL, y_iR, y_lI, y_lR, hl_ne, hl_ni, hl_eq, y_rI, y_rL, if_true, if_false, if_pos, if_neg, true_and, and_true, not_true_eq_false, not_false_eq_true, x.n, x.h, x.b, x.mo, x.wi, x.ca, x.ro, x.ti, x.il, x.ni, x.ga, x.ri, e45, e63, e64, e44, eb, c1]
        rw [wp_bnd]
        refine wp_mono (m_fix x g1 g2 l1 l2) (fun _ τ2 h => ?_)
        obtain ⟨f2, q1, q2⟩ := h
        exact hag _ _ ⟨rfl, f.then f2 rfl, q1, q2, fun r h a1 a2 => (f2.i rfl).trans (l3 r h a1 a2), (f2.i rfl).trans l4⟩
      | false =>
        rw [hb', if_neg (by decide)] at hag
        rw [hb'] at eb
        simp (disch := first | omega | exact x.s | exact hi_eq | ((repeat (first | exact x.s | apply sw_I | apply sw_L | apply sw_cp | apply sw_18 | apply sw_21 | apply sw_22 | apply sw_m12 | apply sw_m18)); done) | rfl) only [wp_ite, wp_some, y_jn, wp_r0, wp_r1, wp_b2, y_nn, w_bc, w_nt, wo_37, wg_37, wi_37, wr_37_32, wr_37_42, wr_37_43, wl_54, ws_54, wl_63, ws_63, wl_64, ws_64, w_has3, w_isMan, w_areTwo, w_isHour3, w_in3, w_night, wtM_0, wtM_1, wtM_2, nI_add, nI_1, nI_mul, nI_and, nI_or, nI_sd, nI_sub, l_sub1, l_addm1, l_all, l_1shl, l_or0, l_add0, l_0add, l_m1, l_m1r, l_neg, l_nn, l_eq0, l_le0, l_0lt, l_eq1, l_m1lt, l_m1le, l_m1eq0, l_10, l_00, l_1le, nI_le_l, nI_lt_l, nI_eq_l, bc_nI, nt_nI, bit_nI, b2_ite, b2_ite1, nI_max, nI_min, isR_nI, n_100, n_2, n_32, hi_ne, hi_ni, hi_eq, y_iL, y_iR, y_lI, y_lR, hl_ne, hl_ni, hl_eq, y_rI, y_rL, if_true, if_false, if_pos, if_neg, true_and, and_true, not_true_eq_false, not_false_eq_true, x.n, x.h, x.b, x.mo, x.wi, x.ca, x.ro, x.ti, x.il, x.ni, x.ga, x.ri, e45, e63, e64, e44, eb, c1, Bool.false_eq_true, e54]
        refine hag _ _ ⟨rfl, f.putI rfl, l1.put _ _, l2.ne (by decide), fun r h a1 a2 => ?_, ?_⟩
        · rw [hi_ne (by decide)]; exact l3 r h a1 a2
        · rw [hi_ne (by decide)]; exact l4
    · rw [if_neg c1] at hag
      simp (disch := first | omega | exact x.s | exact hi_eq | ((repeat (first | exact x.s | apply sw_I | apply sw_L | apply sw_cp | apply sw_18 | apply sw_21 | apply sw_22 | apply sw_m12 | apply sw_m18)); done) | rfl) only [wp_ite, wp_some, y_jn, wp_r0, wp_r1, wp_b2, y_nn, w_bc, w_nt, wo_37, wg_37, wi_37, wr_37_32, wr_37_42, wr_37_43, wl_54, ws_54, wl_63, ws_63, wl_64, ws_64, w_has3, w_isMan, w_areTwo, w_isHour3, w_in3, w_night, wtM_0, wtM_1, wtM_2, nI_add, nI_1, nI_mul, nI_and, nI_or, nI_sd, nI_sub, l_sub1, l_addm1, l_all, l_1shl, l_or0, l_add0, l_0add, l_m1, l_m1r, l_neg, l_nn, l_eq0, l_le0, l_0lt, l_eq1, l_m1lt, l_m1le, l_m1eq0, l_10, l_00, l_1le, nI_le_l, nI_lt_l, nI_eq_l, bc_nI, nt_nI, bit_nI, b2_ite, b2_ite1, nI_max, nI_min, isR_nI, n_100, n_2, n_32, hi_ne, hi_ni, hi_eq, y_iL, y_iR, y_lI, y_lR, hl_ne, hl_ni, hl_eq, y_rI, y_rL, if_true, if_false, if_pos, if_neg, true_and, and_true, not_true_eq_false, not_false_eq_true, x.n, x.h, x.b, x.mo, x.wi, x.ca, x.ro, x.ti, x.il, x.ni, x.ga, x.ri, e45, e63, c1]
      exact hag _ _ ⟨rfl, f, l1, l2, l3, l4⟩
  · obtain ⟨rfl, f, ld⟩ := hJ
    replace x := x0.fr f rfl
    obtain ⟨e45, -⟩ := hc.fr f rfl
    unfold f_X3_layFound_b7
    simp (disch := first | omega | exact x.s | exact hi_eq | ((repeat (first | exact x.s | apply sw_I | apply sw_L | apply sw_cp | apply sw_18 | apply sw_21 | apply sw_22 | apply sw_m12 | apply sw_m18)); done) | rfl) only [wp_ite, wp_some, y_jn, wp_r0, wp_r1, wp_b2, y_nn, w_bc, w_nt, wo_37, wg_37, wi_37, wr_37_32, wr_37_42, wr_37_43, wl_54, ws_54, wl_63, ws_63, wl_64, ws_64, w_has3, w_isMan, w_areTwo, w_isHour3, w_in3, w_night, wtM_0, wtM_1, wtM_2, nI_add, nI_1, nI_mul, nI_and, nI_or, nI_sd, nI_sub, l_sub1, l_addm1, l_all, l_1shl, l_or0, l_add0, l_0add, l_m1, l_m1r, l_neg, l_nn, l_eq0, l_le0, l_0lt, l_eq1, l_m1lt, l_m1le, l_m1eq0, l_10, l_00, l_1le, nI_le_l, nI_lt_l, nI_eq_l, bc_nI, nt_nI, bit_nI, b2_ite, b2_ite1, nI_max, nI_min, isR_nI, n_100, n_2, n_32, hi_ne, hi_ni, hi_eq, y_iL, y_iR, y_lI, y_lR, hl_ne, hl_ni, hl_eq, y_rI, y_rL, if_true, if_false, if_pos, if_neg, true_and, and_true, not_true_eq_false, not_false_eq_true, x.n, x.h, x.b, x.mo, x.wi, x.ca, x.ro, x.ti, x.il, x.ni, x.ga, x.ri, e45]
    rw [← hQ]
    exact ⟨f, ld⟩
theorem m_fitLp (x : MX σ P a) (ld : LdM σ P may must hd 1000000000) (mk : MayOK P may) (hm : MustI P may must) (hdl : ∀ r h, hd r h ≤ 999) : wp (lp 2000 (f_X3_fitting_b17 (some 37) (fun (_ : Unit) σ => ob 2 σ (some 37) fun _ => bnd (f_X3_countWays (some 37) σ) fun x6 σ => some (x6, σ))) 0 σ) (fun v τ => v = nI (cntW P may) ∧ Fr [60] [] [] σ τ) := by
  have n8 := x.n8
  have h8 := x.h8
  refine wp_up P.n (fun k y τ => y = nI k ∧ τ = σ) (fun ag k y τ hk' hJ hag => ?_) (fun ag y τ hJ => ?_) (by omega) ⟨rfl, rfl⟩
  · obtain ⟨rfl, rfl⟩ := hJ
    unfold f_X3_fitting_b17
    simp (disch := first | omega | exact x.s | exact hi_eq | ((repeat (first | exact x.s | apply sw_I | apply sw_L | apply sw_cp | apply sw_18 | apply sw_21 | apply sw_22 | apply sw_m12 | apply sw_m18)); done) | rfl) only [wp_ite, wp_some, y_jn, wp_r0, wp_r1, wp_b2, y_nn, w_bc, w_nt, wo_37, wg_37, wi_37, w_has3, w_isMan, w_areTwo, w_isHour3, w_in3, w_night, wtM_0, wtM_1, wtM_2, nI_add, nI_1, nI_mul, nI_and, nI_or, nI_sd, nI_sub, l_sub1, l_addm1, l_all, l_1shl, l_or0, l_add0, l_0add, l_m1, l_m1r, l_neg, l_nn, l_eq0, l_le0, l_0lt, l_eq1, l_m1lt, l_m1le, l_m1eq0, l_10, l_00, l_1le, nI_le_l, nI_lt_l, nI_eq_l, bc_nI, nt_nI, bit_nI, b2_ite, b2_ite1, nI_max, nI_min, isR_nI, n_2, n_3, hi_ne, hi_ni, hi_eq, y_iL, y_iR, y_lI, y_lR, hl_ne, hl_ni, hl_eq, y_rI, y_rL, if_true, if_false, if_pos, if_neg, true_and, and_true, not_true_eq_false, not_false_eq_true, x.n, x.h, x.b, x.mo, x.wi, x.ca, x.ro, x.ti, x.il, x.ni, x.ga, x.ri]
    rw [m_areRight x hk' ld.1 ld.2.1 (must_lt h8 hm), e_bnd]
    by_cases c : sbs (must k) (may k)
    · rw [if_neg (fun z => b2_eq0.mp z c)]
      exact hag _ _ ⟨rfl, rfl⟩
    · rw [if_pos (b2_eq0.mpr c), wp_some]
      refine ⟨?_, Fr.refl⟩
      have : cntW P may = 0 := Classical.byContradiction fun z => c (must_right hm hk' ((cntW_pos h8).mp z))
      rw [this]; rfl
  · obtain ⟨rfl, rfl⟩ := hJ
    unfold f_X3_fitting_b17
    simp (disch := first | omega | exact x.s | exact hi_eq | ((repeat (first | exact x.s | apply sw_I | apply sw_L | apply sw_cp | apply sw_18 | apply sw_21 | apply sw_22 | apply sw_m12 | apply sw_m18)); done) | rfl) only [wp_ite, wp_some, y_jn, wp_r0, wp_r1, wp_b2, y_nn, w_bc, w_nt, wo_37, wg_37, wi_37, w_has3, w_isMan, w_areTwo, w_isHour3, w_in3, w_night, wtM_0, wtM_1, wtM_2, nI_add, nI_1, nI_mul, nI_and, nI_or, nI_sd, nI_sub, l_sub1, l_addm1, l_all, l_1shl, l_or0, l_add0, l_0add, l_m1, l_m1r, l_neg, l_nn, l_eq0, l_le0, l_0lt, l_eq1, l_m1lt, l_m1le, l_m1eq0, l_10, l_00, l_1le, nI_le_l, nI_lt_l, nI_eq_l, bc_nI, nt_nI, bit_nI, b2_ite, b2_ite1, nI_max, nI_min, isR_nI, n_2, n_3, hi_ne, hi_ni, hi_eq, y_iL, y_iR, y_lI, y_lR, hl_ne, hl_ni, hl_eq, y_rI, y_rL, if_true, if_false, if_pos, if_neg, true_and, and_true, not_true_eq_false, not_false_eq_true, x.n, x.h, x.b, x.mo, x.wi, x.ca, x.ro, x.ti, x.il, x.ni, x.ga, x.ri]
    rw [wp_bnd]
    refine wp_mono (m_countWays x ld mk hm hdl (Nat.le_refl _) (by decide)) (fun v τ2 h => ?_)
    rw [wp_some]
    exact h
theorem m_fit0 (x : MX σ P a) (s : SM σ) (hF : FOK P.n F) (hc : FM σ F) : wp (f_X3_fitting (some 37) (-1) (-1) σ) (fun v τ => v = nI (cntW P (fdM P a F)) ∧ Fr [47, 54, 55, 58, 60] [] HG σ τ ∧ LdM τ P (fdM P a F) (fdS P a F F.m).2 (hardN P a) 1000000000) := by
  have x0 := x
  obtain ⟨mk, hm⟩ := fd_ok (a := a) hF F.m (Nat.le_refl _)
  unfold f_X3_fitting
  simp (disch := first | omega | exact x.s | exact hi_eq | ((repeat (first | exact x.s | apply sw_I | apply sw_L | apply sw_cp | apply sw_18 | apply sw_21 | apply sw_22 | apply sw_m12 | apply sw_m18)); done) | rfl) only [wp_ite, wp_some, wp_r0, wp_r1, wp_b2, y_nn, w_bc, w_nt, wo_37, wg_37, wi_37, w_has3, w_isMan, w_areTwo, w_isHour3, w_in3, w_night, wtM_0, wtM_1, wtM_2, nI_add, nI_1, nI_mul, nI_and, nI_or, nI_sd, nI_sub, l_sub1, l_addm1, l_all, l_1shl, l_or0, l_add0, l_0add, l_m1, l_m1r, l_neg, l_nn, l_eq0, l_le0, l_0lt, l_eq1, l_m1lt, l_m1le, l_m1eq0, l_10, l_00, l_1le, nI_le_l, nI_lt_l, nI_eq_l, bc_nI, nt_nI, bit_nI, b2_ite, b2_ite1, nI_max, nI_min, isR_nI, n_2, hi_ne, hi_ni, hi_eq, y_iL, y_iR, y_lI, y_lR, hl_ne, hl_ni, hl_eq, y_rI, y_rL, if_true, if_false, if_pos, if_neg, true_and, and_true, not_true_eq_false, not_false_eq_true, x.n, x.h, x.b, x.mo, x.wi, x.ca, x.ro, x.ti, x.il, x.ni, x.ga, x.ri]
  rw [wp_bnd]
  refine wp_mono (m_layFound x s hF hc) (fun _ τ h => ?_)
  obtain ⟨f, ld⟩ := h
  rw [y_jn]
  refine wp_mono (m_fitLp (x0.fr f rfl) ld mk hm (hardN_le P a)) (fun v τ2 h => ?_)
  exact ⟨h.1, (f.mono rfl).then h.2 rfl, ld.fr h.2 rfl⟩
theorem m_fit1 (x : MX σ P a) (s : SM σ) (hF : FOK P.n F) (hc : FM σ F) {h r : Nat} (hh : h < P.hrs) (hr' : r < P.n) : wp (f_X3_fitting (some 37) (nI h) (nI r) σ) (fun v τ => v = nI (fitW P (fdM P a F) h r) ∧ Fr [47, 54, 55, 58, 60] [] HG σ τ) := by
  have x0 := x
  have h8 := x.h8
  obtain ⟨mk, hm⟩ := fd_ok (a := a) hF F.m (Nat.le_refl _)
  unfold f_X3_fitting
  simp (disch := first | omega | exact x.s | exact hi_eq | ((repeat (first | exact x.s | apply sw_I | apply sw_L | apply sw_cp | apply sw_18 | apply sw_21 | apply sw_22 | apply sw_m12 | apply sw_m18)); done) | rfl) only [wp_ite, wp_some, wp_r0, wp_r1, wp_b2, y_nn, w_bc, w_nt, wo_37, wg_37, wi_37, w_has3, w_isMan, w_areTwo, w_isHour3, w_in3, w_night, wtM_0, wtM_1, wtM_2, nI_add, nI_1, nI_mul, nI_and, nI_or, nI_sd, nI_sub, l_sub1, l_addm1, l_all, l_1shl, l_or0, l_add0, l_0add, l_m1, l_m1r, l_neg, l_nn, l_eq0, l_le0, l_0lt, l_eq1, l_m1lt, l_m1le, l_m1eq0, l_10, l_00, l_1le, nI_le_l, nI_lt_l, nI_eq_l, bc_nI, nt_nI, bit_nI, b2_ite, b2_ite1, nI_max, nI_min, isR_nI, n_2, hi_ne, hi_ni, hi_eq, y_iL, y_iR, y_lI, y_lR, hl_ne, hl_ni, hl_eq, y_rI, y_rL, if_true, if_false, if_pos, if_neg, true_and, and_true, not_true_eq_false, not_false_eq_true, x.n, x.h, x.b, x.mo, x.wi, x.ca, x.ro, x.ti, x.il, x.ni, x.ga, x.ri]
  rw [wp_bnd]
  refine wp_mono (m_layFound x s hF hc) (fun _ τ h => ?_)
  obtain ⟨f, ld⟩ := h
  replace x := x0.fr f rfl
  rw [y_jn]
  simp (disch := first | omega | exact x.s | exact hi_eq | ((repeat (first | exact x.s | apply sw_I | apply sw_L | apply sw_cp | apply sw_18 | apply sw_21 | apply sw_22 | apply sw_m12 | apply sw_m18)); done) | rfl) only [wp_ite, wp_some, wp_r0, wp_r1, wp_b2, y_nn, w_bc, w_nt, wo_37, wg_37, wi_37, w_has3, w_isMan, w_areTwo, w_isHour3, w_in3, w_night, wtM_0, wtM_1, wtM_2, nI_add, nI_1, nI_mul, nI_and, nI_or, nI_sd, nI_sub, l_sub1, l_addm1, l_all, l_1shl, l_or0, l_add0, l_0add, l_m1, l_m1r, l_neg, l_nn, l_eq0, l_le0, l_0lt, l_eq1, l_m1lt, l_m1le, l_m1eq0, l_10, l_00, l_1le, nI_le_l, nI_lt_l, nI_eq_l, bc_nI, nt_nI, bit_nI, b2_ite, b2_ite1, nI_max, nI_min, isR_nI, n_2, hi_ne, hi_ni, hi_eq, y_iL, y_iR, y_lI, y_lR, hl_ne, hl_ni, hl_eq, y_rI, y_rL, if_true, if_false, if_pos, if_neg, true_and, and_true, not_true_eq_false, not_false_eq_true, x.n, x.h, x.b, x.mo, x.wi, x.ca, x.ro, x.ti, x.il, x.ni, x.ga, x.ri]
  rw [wp_bnd]
  refine wp_mono (m_fix x (by omega) hr' ld.1 ld.2.1) (fun _ τ2 h => ?_)
  obtain ⟨f2, q1, q2⟩ := h
  have f3 := f.then f2 rfl
  have ld2 : LdM τ2 P (fixM (fdM P a F) h r) (up1 (fdS P a F F.m).2 r ((fdS P a F F.m).2 r ||| 2 ^ h)) (hardN P a) 1000000000 := ⟨q1, q2, fun r h a1 a2 => (f2.i rfl).trans (ld.2.2.1 r h a1 a2), (f2.i rfl).trans ld.2.2.2⟩
  refine wp_mono (m_fitLp (x0.fr f3 rfl) ld2 (mk.fix h r) (hm.fix hh) (hardN_le P a)) (fun v τ3 h => ?_)
  exact ⟨h.1, (f3.mono rfl).then h.2 rfl⟩
theorem m_fits (x : MX σ P a) (s : SM σ) (hF : FOK P.n F) (hc : FM σ F) : wp (f_X3_fits (some 37) σ) (QuM σ (nI (cntW P (fdM P a F))) (some (wayW P (fdM P a F)))) := by
  have x0 := x
  have n8 := x.n8
  have h8 := x.h8
  have b1 := cntW_le (may := fdM P a F) h8 n8
  obtain ⟨mk, hm⟩ := fd_ok (a := a) hF F.m (Nat.le_refl _)
  have f0 : Fr [] [] [11] σ (wI σ 37 11 0) := Fr.refl.putI rfl
  unfold f_X3_fits
  simp (disch := first | omega | exact x.s | exact hi_eq | ((repeat (first | exact x.s | apply sw_I | apply sw_L | apply sw_cp | apply sw_18 | apply sw_21 | apply sw_22 | apply sw_m12 | apply sw_m18)); done) | rfl) only [wp_ite, wp_some, y_jn, wp_r0, wp_r1, wp_b2, y_nn, w_bc, w_nt, wo_37, wg_37, wi_37, w_has3, w_isMan, w_areTwo, w_isHour3, w_in3, w_night, wtM_0, wtM_1, wtM_2, nI_add, nI_1, nI_mul, nI_and, nI_or, nI_sd, nI_sub, l_sub1, l_addm1, l_all, l_1shl, l_or0, l_add0, l_0add, l_m1, l_m1r, l_neg, l_nn, l_eq0, l_le0, l_0lt, l_eq1, l_m1lt, l_m1le, l_m1eq0, l_10, l_00, l_1le, nI_le_l, nI_lt_l, nI_eq_l, bc_nI, nt_nI, bit_nI, b2_ite, b2_ite1, nI_max, nI_min, isR_nI, n_10, n_11, n_2, hi_ne, hi_ni, hi_eq, y_iL, y_iR, y_lI, y_lR, hl_ne, hl_ni, hl_eq, y_rI, y_rL, if_true, if_false, if_pos, if_neg, true_and, and_true, not_true_eq_false, not_false_eq_true, x.n, x.h, x.b, x.mo, x.wi, x.ca, x.ro, x.ti, x.il, x.ni, x.ga, x.ri]
  rw [wp_bnd]
  refine wp_mono (m_fit0 (x0.fr f0 rfl) (s.fr f0 rfl) hF (hc.fr f0 rfl)) (fun v τ h => ?_)
  obtain ⟨rfl, f1, ld⟩ := h
  have f2 : Fr [47, 54, 55, 58, 60] [] [11, 12, 13, 14, 15, 16, 21] σ τ := (f0.mono rfl).then f1 rfl
  replace x := x0.fr f2 rfl
  simp (disch := first | omega | exact x.s | exact hi_eq | ((repeat (first | exact x.s | apply sw_I | apply sw_L | apply sw_cp | apply sw_18 | apply sw_21 | apply sw_22 | apply sw_m12 | apply sw_m18)); done) | rfl) only [wp_ite, wp_some, y_jn, wp_r0, wp_r1, wp_b2, y_nn, w_bc, w_nt, wo_37, wg_37, wi_37, w_has3, w_isMan, w_areTwo, w_isHour3, w_in3, w_night, wtM_0, wtM_1, wtM_2, nI_add, nI_1, nI_mul, nI_and, nI_or, nI_sd, nI_sub, l_sub1, l_addm1, l_all, l_1shl, l_or0, l_add0, l_0add, l_m1, l_m1r, l_neg, l_nn, l_eq0, l_le0, l_0lt, l_eq1, l_m1lt, l_m1le, l_m1eq0, l_10, l_00, l_1le, nI_le_l, nI_lt_l, nI_eq_l, bc_nI, nt_nI, bit_nI, b2_ite, b2_ite1, nI_max, nI_min, isR_nI, n_10, n_11, n_2, hi_ne, hi_ni, hi_eq, y_iL, y_iR, y_lI, y_lR, hl_ne, hl_ni, hl_eq, y_rI, y_rL, if_true, if_false, if_pos, if_neg, true_and, and_true, not_true_eq_false, not_false_eq_true, x.n, x.h, x.b, x.mo, x.wi, x.ca, x.ro, x.ti, x.il, x.ni, x.ga, x.ri]
  have f3 : Fr [47, 54, 55, 58, 60] [] [10, 11, 12, 13, 14, 15, 16, 21] σ (wI τ 37 10 0) := (f2.mono rfl).putI rfl
  have ld3 : LdM (wI τ 37 10 0) P (fdM P a F) (fdS P a F F.m).2 (hardN P a) 1000000000 := ld.fr (D := []) (F := []) (G := [10]) (Fr.refl.putI rfl) rfl
  replace x := x0.fr f3 rfl
  by_cases h0 : cntW P (fdM P a F) = 0
  · rw [if_pos h0, h0]
    refine ⟨rfl, f3.mono rfl, s.fr f3 rfl, ?_⟩
    unfold wayW
    rw [if_pos h0]
    exact rowM0
  · rw [if_neg h0]
    rw [wp_bnd]
    refine wp_mono (m_tellWays x ld3 mk hm (hardN_le P a)) (fun y τ' h => ?_)
    obtain ⟨rfl, f', hr'⟩ := h
    rw [wp_some]
    exact ⟨rfl, (f3.mono (D' := MD) (F' := []) (G' := MG) rfl).then f' rfl, (s.fr f3 rfl).fr f' rfl, hr'⟩
theorem m_sure (x : MX σ P a) (s : SM σ) (hF : FOK P.n F) (hc : FM σ F) {h r : Nat} (hh : h < P.hrs) (hr' : r < P.n) : wp (f_X3_sure (some 37) (nI h) (nI r) σ) (QuM σ (sureR P (fdM P a F) h r).1 (sureR P (fdM P a F) h r).2) := by
  have x0 := x
  have n8 := x.n8
  have h8 := x.h8
  have b1 := cntW_le (may := fdM P a F) h8 n8
  have b2' : fitW P (fdM P a F) h r ≤ 16777216 := cntW_le h8 n8
  generalize hQ : QuM σ (sureR P (fdM P a F) h r).1 (sureR P (fdM P a F) h r).2 = Q
  unfold sureR at hQ
  have f0 : Fr [] [] [11] σ (wI σ 37 11 0) := Fr.refl.putI rfl
  have hin : ((0 : Int32) ≤ nI h ∧ nI h ≤ nI P.hrs - 1) := (isR_nI (by omega) (by omega)).mpr hh
  have hin' : ((0 : Int32) ≤ nI h ∧ nI h ≤ nI (P.hrs - 1)) := by rw [l_sub1 (by have := x.h1; omega)] at hin; exact hin
  unfold f_X3_sure
  simp (disch := first | omega | exact x.s | exact hi_eq | ((repeat (first | exact x.s | apply sw_I | apply sw_L | apply sw_cp | apply sw_18 | apply sw_21 | apply sw_22 | apply sw_m12 | apply sw_m18)); done) | rfl) only [wp_ite, wp_some, y_jn, wp_r0, wp_r1, wp_b2, y_nn, w_bc, w_nt, wo_37, wg_37, wi_37, w_has3, w_isMan, w_areTwo, w_isHour3, w_in3, w_night, wtM_0, wtM_1, wtM_2, nI_add, nI_1, nI_mul, nI_and, nI_or, nI_sd, nI_sub, l_sub1, l_addm1, l_all, l_1shl, l_or0, l_add0, l_0add, l_m1, l_m1r, l_neg, l_nn, l_eq0, l_le0, l_0lt, l_eq1, l_m1lt, l_m1le, l_m1eq0, l_10, l_00, l_1le, nI_le_l, nI_lt_l, nI_eq_l, bc_nI, nt_nI, bit_nI, b2_ite, b2_ite1, nI_max, nI_min, isR_nI, n_11, n_2, hi_ne, hi_ni, hi_eq, y_iL, y_iR, y_lI, y_lR, hl_ne, hl_ni, hl_eq, y_rI, y_rL, if_true, if_false, if_pos, if_neg, true_and, and_true, not_true_eq_false, not_false_eq_true, x.n, x.h, x.b, x.mo, x.wi, x.ca, x.ro, x.ti, x.il, x.ni, x.ga, x.ri, hr', hin, hin', hh]
  rw [wp_bnd]
  refine wp_mono (m_fit0 (x0.fr f0 rfl) (s.fr f0 rfl) hF (hc.fr f0 rfl)) (fun v τ h => ?_)
  obtain ⟨rfl, f1, -⟩ := h
  have f2 : Fr [47, 54, 55, 58, 60] [] [11, 12, 13, 14, 15, 16, 21] σ τ := (f0.mono rfl).then f1 rfl
  replace x := x0.fr f2 rfl
  have s2 := s.fr f2 rfl
  by_cases c : cntW P (fdM P a F) = 0
  · rw [if_pos c] at hQ
    rw [if_pos (by rw [c]; rfl), wp_some, ← hQ]
    exact ⟨rfl, f2.mono rfl, s2, RwM.fr f2 rfl⟩
  · rw [if_neg c] at hQ
    rw [if_neg (by rw [n_0, nI_eq_l (by omega) (by decide)]; exact c)]
    simp (disch := first | omega | exact x.s | exact hi_eq | ((repeat (first | exact x.s | apply sw_I | apply sw_L | apply sw_cp | apply sw_18 | apply sw_21 | apply sw_22 | apply sw_m12 | apply sw_m18)); done) | rfl) only [wp_ite, wp_some, y_jn, wp_r0, wp_r1, wp_b2, y_nn, w_bc, w_nt, wo_37, wg_37, wi_37, w_has3, w_isMan, w_areTwo, w_isHour3, w_in3, w_night, wtM_0, wtM_1, wtM_2, nI_add, nI_1, nI_mul, nI_and, nI_or, nI_sd, nI_sub, l_sub1, l_addm1, l_all, l_1shl, l_or0, l_add0, l_0add, l_m1, l_m1r, l_neg, l_nn, l_eq0, l_le0, l_0lt, l_eq1, l_m1lt, l_m1le, l_m1eq0, l_10, l_00, l_1le, nI_le_l, nI_lt_l, nI_eq_l, bc_nI, nt_nI, bit_nI, b2_ite, b2_ite1, nI_max, nI_min, isR_nI, n_11, n_2, hi_ne, hi_ni, hi_eq, y_iL, y_iR, y_lI, y_lR, hl_ne, hl_ni, hl_eq, y_rI, y_rL, if_true, if_false, if_pos, if_neg, true_and, and_true, not_true_eq_false, not_false_eq_true, x.n, x.h, x.b, x.mo, x.wi, x.ca, x.ro, x.ti, x.il, x.ni, x.ga, x.ri]
    rw [wp_bnd]
    refine wp_mono (m_fit1 x s2 hF (hc.fr f2 rfl) hh hr') (fun v τ3 h => ?_)
    obtain ⟨rfl, f4⟩ := h
    have f5 := f2.then f4 rfl
    replace x := x0.fr f5 rfl
    simp (disch := first | omega | exact x.s | exact hi_eq | ((repeat (first | exact x.s | apply sw_I | apply sw_L | apply sw_cp | apply sw_18 | apply sw_21 | apply sw_22 | apply sw_m12 | apply sw_m18)); done) | rfl) only [wp_ite, wp_some, y_jn, wp_r0, wp_r1, wp_b2, y_nn, w_bc, w_nt, wo_37, wg_37, wi_37, w_has3, w_isMan, w_areTwo, w_isHour3, w_in3, w_night, wtM_0, wtM_1, wtM_2, nI_add, nI_1, nI_mul, nI_and, nI_or, nI_sd, nI_sub, l_sub1, l_addm1, l_all, l_1shl, l_or0, l_add0, l_0add, l_m1, l_m1r, l_neg, l_nn, l_eq0, l_le0, l_0lt, l_eq1, l_m1lt, l_m1le, l_m1eq0, l_10, l_00, l_1le, nI_le_l, nI_lt_l, nI_eq_l, bc_nI, nt_nI, bit_nI, b2_ite, b2_ite1, nI_max, nI_min, isR_nI, n_11, n_2, hi_ne, hi_ni, hi_eq, y_iL, y_iR, y_lI, y_lR, hl_ne, hl_ni, hl_eq, y_rI, y_rL, if_true, if_false, if_pos, if_neg, true_and, and_true, not_true_eq_false, not_false_eq_true, x.n, x.h, x.b, x.mo, x.wi, x.ca, x.ro, x.ti, x.il, x.ni, x.ga, x.ri]
    rw [nL_of (by omega), nL_of (by omega), wp_bnd]
    refine wp_mono (m_fraction x (by omega) (by omega) (by omega)) (fun _ τ4 h => ?_)
    rw [wp_some, ← hQ]
    have f6 : Fr [43, 47, 54, 55, 58, 60] [] [10, 11, 12, 13, 14, 15, 16, 21] σ τ4 := (f5.mono rfl).then h.1 rfl
    exact ⟨rfl, f6.mono rfl, s.fr f6 rfl, h.2⟩
theorem m_askIn (x : MX σ P a) (s : SM σ) (hF : FOK P.n F) (hc : FM σ F) {h : Nat} (hh : h < P.hrs) {k0 : Int32 → Hp → Option (Int32 × Hp)} {Q : Int32 → Hp → Prop} (hk0 : ∀ τ, Fr [47, 54, 55, 58, 60] [] HG σ τ → wp (k0 (nI (mxN (fitW P (fdM P a F) h) P.n)) τ) Q) : wp (lp 2000 (f_X3_ask_b38 (some 37) (nI h) k0) (0, 0) σ) Q := by
  have x0 := x
  have n8 := x.n8
  have h8 := x.h8
  have bw : ∀ r, fitW P (fdM P a F) h r ≤ 16777216 := fun r => cntW_le h8 n8
  refine wp_up P.n (fun r y τ => y = (nI (mxN (fitW P (fdM P a F) h) r), nI r) ∧ Fr [47, 54, 55, 58, 60] [] HG σ τ) (fun ag r y τ hr' hJ hag => ?_) (fun ag y τ hJ => ?_) (by omega) ⟨rfl, Fr.refl⟩
  · obtain ⟨rfl, f⟩ := hJ
    replace x := x0.fr f rfl
    have b1 := bw r
    have b2' := mxN_le bw r
    unfold f_X3_ask_b38
    simp (disch := first | omega | exact x.s | exact hi_eq | ((repeat (first | exact x.s | apply sw_I | apply sw_L | apply sw_cp | apply sw_18 | apply sw_21 | apply sw_22 | apply sw_m12 | apply sw_m18)); done) | rfl) only [wp_ite, wp_some, y_jn, wp_r0, wp_r1, wp_b2, y_nn, w_bc, w_nt, wo_37, wg_37, wi_37, w_has3, w_isMan, w_areTwo, w_isHour3, w_in3, w_night, wtM_0, wtM_1, wtM_2, nI_add, nI_1, nI_mul, nI_and, nI_or, nI_sd, nI_sub, l_sub1, l_addm1, l_all, l_1shl, l_or0, l_add0, l_0add, l_m1, l_m1r, l_neg, l_nn, l_eq0, l_le0, l_0lt, l_eq1, l_m1lt, l_m1le, l_m1eq0, l_10, l_00, l_1le, nI_le_l, nI_lt_l, nI_eq_l, bc_nI, nt_nI, bit_nI, b2_ite, b2_ite1, nI_max, nI_min, isR_nI, n_2, n_3, hi_ne, hi_ni, hi_eq, y_iL, y_iR, y_lI, y_lR, hl_ne, hl_ni, hl_eq, y_rI, y_rL, if_true, if_false, if_pos, if_neg, true_and, and_true, not_true_eq_false, not_false_eq_true, x.n, x.h, x.b, x.mo, x.wi, x.ca, x.ro, x.ti, x.il, x.ni, x.ga, x.ri]
    rw [wp_bnd]
    refine wp_mono (m_fit1 x (s.fr f rfl) hF (hc.fr f rfl) hh hr') (fun v τ2 h => ?_)
    obtain ⟨rfl, f2⟩ := h
    rw [nI_max (by omega) (by omega)]
    exact hag _ _ ⟨rfl, f.then f2 rfl⟩
  · obtain ⟨rfl, f⟩ := hJ
    replace x := x0.fr f rfl
    unfold f_X3_ask_b38
    simp (disch := first | omega | exact x.s | exact hi_eq | ((repeat (first | exact x.s | apply sw_I | apply sw_L | apply sw_cp | apply sw_18 | apply sw_21 | apply sw_22 | apply sw_m12 | apply sw_m18)); done) | rfl) only [wp_ite, wp_some, y_jn, wp_r0, wp_r1, wp_b2, y_nn, w_bc, w_nt, wo_37, wg_37, wi_37, w_has3, w_isMan, w_areTwo, w_isHour3, w_in3, w_night, wtM_0, wtM_1, wtM_2, nI_add, nI_1, nI_mul, nI_and, nI_or, nI_sd, nI_sub, l_sub1, l_addm1, l_all, l_1shl, l_or0, l_add0, l_0add, l_m1, l_m1r, l_neg, l_nn, l_eq0, l_le0, l_0lt, l_eq1, l_m1lt, l_m1le, l_m1eq0, l_10, l_00, l_1le, nI_le_l, nI_lt_l, nI_eq_l, bc_nI, nt_nI, bit_nI, b2_ite, b2_ite1, nI_max, nI_min, isR_nI, n_2, n_3, hi_ne, hi_ni, hi_eq, y_iL, y_iR, y_lI, y_lR, hl_ne, hl_ni, hl_eq, y_rI, y_rL, if_true, if_false, if_pos, if_neg, true_and, and_true, not_true_eq_false, not_false_eq_true, x.n, x.h, x.b, x.mo, x.wi, x.ca, x.ro, x.ti, x.il, x.ni, x.ga, x.ri]
    exact hk0 _ f
theorem m_ask (x : MX σ P a) (s : SM σ) (hF : FOK P.n F) (hc : FM σ F) : wp (f_X3_ask (some 37) σ) (QuM σ (askR P (fdM P a F)).1 (askR P (fdM P a F)).2) := by
  have x0 := x
  have n8 := x.n8
  have h8 := x.h8
  have hh1 := x.h1
  have b1 := cntW_le (may := fdM P a F) h8 n8
  have bw : ∀ h, mxN (fitW P (fdM P a F) h) P.n ≤ 16777216 := fun h => mxN_le (fun r => cntW_le h8 n8) P.n
  generalize hQ : QuM σ (askR P (fdM P a F)).1 (askR P (fdM P a F)).2 = Q
  unfold askR at hQ
  have f0 : Fr [] [] [11] σ (wI σ 37 11 0) := Fr.refl.putI rfl
  unfold f_X3_ask
  simp (disch := first | omega | exact x.s | exact hi_eq | ((repeat (first | exact x.s | apply sw_I | apply sw_L | apply sw_cp | apply sw_18 | apply sw_21 | apply sw_22 | apply sw_m12 | apply sw_m18)); done) | rfl) only [wp_ite, wp_some, y_jn, wp_r0, wp_r1, wp_b2, y_nn, w_bc, w_nt, wo_37, wg_37, wi_37, w_has3, w_isMan, w_areTwo, w_isHour3, w_in3, w_night, wtM_0, wtM_1, wtM_2, nI_add, nI_1, nI_mul, nI_and, nI_or, nI_sd, nI_sub, l_sub1, l_addm1, l_all, l_1shl, l_or0, l_add0, l_0add, l_m1, l_m1r, l_neg, l_nn, l_eq0, l_le0, l_0lt, l_eq1, l_m1lt, l_m1le, l_m1eq0, l_10, l_00, l_1le, nI_le_l, nI_lt_l, nI_eq_l, bc_nI, nt_nI, bit_nI, b2_ite, b2_ite1, nI_max, nI_min, isR_nI, n_10, n_1000000000, n_11, n_2, hi_ne, hi_ni, hi_eq, y_iL, y_iR, y_lI, y_lR, hl_ne, hl_ni, hl_eq, y_rI, y_rL, if_true, if_false, if_pos, if_neg, true_and, and_true, not_true_eq_false, not_false_eq_true, x.n, x.h, x.b, x.mo, x.wi, x.ca, x.ro, x.ti, x.il, x.ni, x.ga, x.ri]
  rw [wp_bnd]
  refine wp_mono (m_fit0 (x0.fr f0 rfl) (s.fr f0 rfl) hF (hc.fr f0 rfl)) (fun v τ h => ?_)
  obtain ⟨rfl, f1, -⟩ := h
  have f3 : Fr [47, 54, 55, 58, 60] [] [11, 12, 13, 14, 15, 16, 21] σ τ := (f0.mono rfl).then f1 rfl
  replace x := x0.fr f3 rfl
  have s2 := s.fr f3 rfl
  by_cases c : cntW P (fdM P a F) = 0
  · rw [if_pos c] at hQ
    rw [if_pos (by rw [c]; rfl), wp_some, ← hQ]
    exact ⟨rfl, f3.mono rfl, s2, RwM.fr f3 rfl⟩
  · rw [if_neg c] at hQ
    rw [if_neg (by rw [n_0, nI_eq_l (by omega) (by decide)]; exact c)]
    generalize hw : (fun h => mxN (fitW P (fdM P a F) h) P.n) = w at *
    have ew : ∀ h, mxN (fitW P (fdM P a F) h) P.n = w h := fun h => by rw [← hw]
    have bw' : ∀ h, w h ≤ 16777216 := fun h => by rw [← ew]; exact bw h
    refine wp_up P.hrs (fun h y τ => y = ((aM (askO w h)).1, (aM (askO w h)).2, nI h) ∧ Fr [47, 54, 55, 58, 60] [] [11, 12, 13, 14, 15, 16, 21] σ τ) (fun ag h y τ hh hJ hag => ?_) (fun ag y τ hJ => ?_) (by omega) ⟨rfl, f3⟩
    · obtain ⟨rfl, f⟩ := hJ
      replace x := x0.fr f rfl
      have kl := askO_lt bw' h
      have b3 := bw' h
      have st : askO w (h + 1) = (match askO w h with
        | none => some (h, w h)
        | some x => if w h < x.2 then some (h, w h) else some x) := rfl
      rw [st] at hag
      unfold f_X3_ask_b24
      simp (disch := first | omega | exact x.s | exact hi_eq | ((repeat (first | exact x.s | apply sw_I | apply sw_L | apply sw_cp | apply sw_18 | apply sw_21 | apply sw_22 | apply sw_m12 | apply sw_m18)); done) | rfl) only [wp_ite, wp_some, wp_r0, wp_r1, wp_b2, y_nn, w_bc, w_nt, wo_37, wg_37, wi_37, w_has3, w_isMan, w_areTwo, w_isHour3, w_in3, w_night, wtM_0, wtM_1, wtM_2, nI_add, nI_1, nI_mul, nI_and, nI_or, nI_sd, nI_sub, l_sub1, l_addm1, l_all, l_1shl, l_or0, l_add0, l_0add, l_m1, l_m1r, l_neg, l_nn, l_eq0, l_le0, l_0lt, l_eq1, l_m1lt, l_m1le, l_m1eq0, l_10, l_00, l_1le, nI_le_l, nI_lt_l, nI_eq_l, bc_nI, nt_nI, bit_nI, b2_ite, b2_ite1, nI_max, nI_min, isR_nI, n_2, hi_ne, hi_ni, hi_eq, y_iL, y_iR, y_lI, y_lR, hl_ne, hl_ni, hl_eq, y_rI, y_rL, if_true, if_false, if_pos, if_neg, true_and, and_true, not_true_eq_false, not_false_eq_true, x.n, x.h, x.b, x.mo, x.wi, x.ca, x.ro, x.ti, x.il, x.ni, x.ga, x.ri]
      refine m_askIn x (s.fr f rfl) hF (hc.fr f rfl) hh (fun τ3 f4 => ?_)
      rw [ew]
      have f5 := f.then f4 rfl
      rw [y_jn]
      cases hk' : askO w h with
      | none =>
        rw [hk'] at hag
        show wp (if nI (w h) < 1000000000 then ag (nI h, nI (w h), nI (h + 1)) τ3 else ag (-1, 1000000000, nI (h + 1)) τ3) Q
        rw [if_pos (by rw [n_1000000000, nI_lt_l (by omega) (by decide)]; omega)]
        exact hag _ _ ⟨rfl, f5⟩
      | some y =>
        rw [hk'] at hag
        obtain ⟨y1, y2⟩ := kl y hk'
        dsimp only at hag
        show wp (if nI (w h) < nI y.2 then ag (nI h, nI (w h), nI (h + 1)) τ3 else ag (nI y.1, nI y.2, nI (h + 1)) τ3) Q
        rw [ite_lt (by omega) (by omega)]
        by_cases h1 : w h < y.2
        · rw [if_pos h1] at hag ⊢
          exact hag _ _ ⟨rfl, f5⟩
        · rw [if_neg h1] at hag ⊢
          exact hag _ _ ⟨rfl, f5⟩
    · obtain ⟨rfl, f⟩ := hJ
      replace x := x0.fr f rfl
      obtain ⟨y, hy⟩ := askO_some (w := w) (show 0 < P.hrs by omega)
      obtain ⟨y1, y2⟩ := askO_lt bw' P.hrs y hy
      rw [hy] at hQ ⊢
      dsimp only [aM] at hQ ⊢
      unfold f_X3_ask_b24
      simp (disch := first | omega | exact x.s | exact hi_eq | ((repeat (first | exact x.s | apply sw_I | apply sw_L | apply sw_cp | apply sw_18 | apply sw_21 | apply sw_22 | apply sw_m12 | apply sw_m18)); done) | rfl) only [wp_ite, wp_some, y_jn, wp_r0, wp_r1, wp_b2, y_nn, w_bc, w_nt, wo_37, wg_37, wi_37, w_has3, w_isMan, w_areTwo, w_isHour3, w_in3, w_night, wtM_0, wtM_1, wtM_2, nI_add, nI_1, nI_mul, nI_and, nI_or, nI_sd, nI_sub, l_sub1, l_addm1, l_all, l_1shl, l_or0, l_add0, l_0add, l_m1, l_m1r, l_neg, l_nn, l_eq0, l_le0, l_0lt, l_eq1, l_m1lt, l_m1le, l_m1eq0, l_10, l_00, l_1le, nI_le_l, nI_lt_l, nI_eq_l, bc_nI, nt_nI, bit_nI, b2_ite, b2_ite1, nI_max, nI_min, isR_nI, n_10, n_1000000000, n_11, n_2, hi_ne, hi_ni, hi_eq, y_iL, y_iR, y_lI, y_lR, hl_ne, hl_ni, hl_eq, y_rI, y_rL, if_true, if_false, if_pos, if_neg, true_and, and_true, not_true_eq_false, not_false_eq_true, x.n, x.h, x.b, x.mo, x.wi, x.ca, x.ro, x.ti, x.il, x.ni, x.ga, x.ri]
      rw [← hQ, nL_of (by omega)]
      exact ⟨rfl, (by repeat (first | exact f.mono rfl | exact (f.mono rfl).mono rfl | refine Fr.putI ?_ rfl | refine Fr.putL ?_ rfl | refine Fr.putR ?_ rfl)), s.fr (D := [43, 47, 54, 55, 58, 60]) (F := []) (G := [10, 11, 12, 13, 14, 15, 16, 21]) (by repeat (first | exact f.mono rfl | exact (f.mono rfl).mono rfl | refine Fr.putI ?_ rfl | refine Fr.putL ?_ rfl | refine Fr.putR ?_ rfl)) rfl, rowM1⟩
end mfound
