/-! PURE 65: changes -/
section chgs
variable {σ τ : Hp} {P : Pk} {a : HS}
theorem c_changes (x : CX σ P a) (s : SC σ) : wp (f_X1_changes (some 0) σ) (QuC σ (chg P a (P.hrs - 1)).1 (some [(chg P a (P.hrs - 1)).2.1.toInt64, (chg P a (P.hrs - 1)).2.2.toInt64])) := by
  have x0 := x
  have h8 := x.h8
  have h1 := x.h1
  have n8 := x.n8
  generalize hQ : QuC σ (chg P a (P.hrs - 1)).1 (some [(chg P a (P.hrs - 1)).2.1.toInt64, (chg P a (P.hrs - 1)).2.2.toInt64]) = Q
  unfold f_X1_changes
  refine wp_up (P.hrs - 1) (fun i y τ => y = ((chg P a i).1, (chg P a i).2.1, (chg P a i).2.2, nI (i + 1)) ∧ τ = σ) (fun ag i y τ hi' hJ hag => ?_) (fun ag y τ hJ => ?_) (by omega) ⟨rfl, rfl⟩
  · obtain ⟨rfl, rfl⟩ := hJ
    have st : chg P a (i + 1) = if a.rota i < 0 ∨ a.rota (i + 1) < 0 ∨ a.rota i = a.rota (i + 1) then chg P a i else ((chg P a i).1 + 1, (chg P a i).2.1 + (if absd (P.width (ix (a.rota i))) (P.width (ix (a.rota (i + 1)))) ≤ P.beats then 0 else 1), (chg P a i).2.2 + nI (absd (P.width (ix (a.rota i))) (P.width (ix (a.rota (i + 1)))))) := rfl
    rw [st] at hag
    generalize chg P a i = c at *
    have o1 := x.ok.2 i (by omega)
    have o2 := x.ok.2 (i + 1) (by omega)
    unfold f_X1_changes_b9
    rcases o1 with e1 | ⟨r, hr', e1⟩
    · rw [if_pos (Or.inl (by rw [e1]; decide))] at hag
      simp (disch := first | omega | exact x.s | exact hi_eq | ((repeat (first | exact x.s | apply sw_I | apply sw_L | apply sw_cp | apply sw_18 | apply sw_21 | apply sw_22 | apply sw_m12 | apply sw_m18)); done) | rfl) only [wp_ite, wp_some, y_jn, wp_r0, wp_r1, wp_b2, y_nn, w_bc, w_nt, wo_0, wg_0, wi_0, wr_0_0, wr_0_3, wo_1, wg_1, wi_1, wr_1_0, wr_1_1, wl_2, ws_2, wl_3, ws_3, wo_4, wg_4, wi_4, wr_4_0, wr_4_1, wl_5, ws_5, wl_6, ws_6, wl_8, ws_8, w_has, w_isRider, w_isPair, w_isHour, w_in, w_in0, w_in_0_1, w_in_0_10, w_in_0_3, w_in_0_30, w_in_0_60, w_in_0_7, w_in_0_9, w_in_0_999, w_in_1_60, w_in_20_27, w_in_2_40, w_in_48_57, w_whole, w_all, wt_0, wt_1, wt_2, nI_add, nI_1, nI_mul, nI_and, nI_or, nI_sd, nI_sub, l_sub1, l_addm1, l_all, l_1shl, l_or0, l_add0, l_0add, l_m1, l_m1r, l_neg, l_nn, l_eq0, l_le0, l_0lt, l_eq1, l_m1lt, l_m1le, l_m1eq0, l_10, l_00, l_1le, nI_le_l, nI_lt_l, nI_eq_l, bc_nI, nt_nI, bit_nI, b2_ite, b2_ite1, nI_max, nI_min, isR_nI, n_100, n_3, n_6, n_7, hi_ne, hi_ni, hi_eq, y_iL, y_iR, y_lI, y_lR, hl_ne, hl_ni, hl_eq, y_rI, y_rL, if_true, if_false, if_pos, if_neg, true_and, and_true, not_true_eq_false, not_false_eq_true, x.n, x.h, x.b, x.mo, x.wi, x.ca, x.ro, x.ti, x.il, x.ni, x.ga, x.ri, Nat.add_sub_cancel, e1]
      exact hag _ _ ⟨rfl, rfl⟩
    · rcases o2 with e2 | ⟨q, hq, e2⟩
      · rw [if_pos (Or.inr (Or.inl (by rw [e2]; decide)))] at hag
        simp (disch := first | omega | exact x.s | exact hi_eq | ((repeat (first | exact x.s | apply sw_I | apply sw_L | apply sw_cp | apply sw_18 | apply sw_21 | apply sw_22 | apply sw_m12 | apply sw_m18)); done) | rfl) only [wp_ite, wp_some, y_jn, wp_r0, wp_r1, wp_b2, y_nn, w_bc, w_nt, wo_0, wg_0, wi_0, wr_0_0, wr_0_3, wo_1, wg_1, wi_1, wr_1_0, wr_1_1, wl_2, ws_2, wl_3, ws_3, wo_4, wg_4, wi_4, wr_4_0, wr_4_1, wl_5, ws_5, wl_6, ws_6, wl_8, ws_8, w_has, w_isRider, w_isPair, w_isHour, w_in, w_in0, w_in_0_1, w_in_0_10, w_in_0_3, w_in_0_30, w_in_0_60, w_in_0_7, w_in_0_9, w_in_0_999, w_in_1_60, w_in_20_27, w_in_2_40, w_in_48_57, w_whole, w_all, wt_0, wt_1, wt_2, nI_add, nI_1, nI_mul, nI_and, nI_or, nI_sd, nI_sub, l_sub1, l_addm1, l_all, l_1shl, l_or0, l_add0, l_0add, l_m1, l_m1r, l_neg, l_nn, l_eq0, l_le0, l_0lt, l_eq1, l_m1lt, l_m1le, l_m1eq0, l_10, l_00, l_1le, nI_le_l, nI_lt_l, nI_eq_l, bc_nI, nt_nI, bit_nI, b2_ite, b2_ite1, nI_max, nI_min, isR_nI, n_100, n_3, n_6, n_7, hi_ne, hi_ni, hi_eq, y_iL, y_iR, y_lI, y_lR, hl_ne, hl_ni, hl_eq, y_rI, y_rL, if_true, if_false, if_pos, if_neg, true_and, and_true, not_true_eq_false, not_false_eq_true, x.n, x.h, x.b, x.mo, x.wi, x.ca, x.ro, x.ti, x.il, x.ni, x.ga, x.ri, Nat.add_sub_cancel, e1, e2]
        exact hag _ _ ⟨rfl, rfl⟩
      · have k2 := x.w9 q
        have k3 := x.w9 r
        have hb9 := x.b9
        have ha9 : absd (P.width r) (P.width q) ≤ 9 := by unfold absd; split <;> omega
        rw [e1, e2, ix_nI (by omega), ix_nI (by omega)] at hag
        simp (disch := first | omega | exact x.s | exact hi_eq | ((repeat (first | exact x.s | apply sw_I | apply sw_L | apply sw_cp | apply sw_18 | apply sw_21 | apply sw_22 | apply sw_m12 | apply sw_m18)); done) | rfl) only [wp_ite, wp_some, y_jn, wp_r0, wp_r1, wp_b2, y_nn, w_bc, w_nt, wo_0, wg_0, wi_0, wr_0_0, wr_0_3, wo_1, wg_1, wi_1, wr_1_0, wr_1_1, wl_2, ws_2, wl_3, ws_3, wo_4, wg_4, wi_4, wr_4_0, wr_4_1, wl_5, ws_5, wl_6, ws_6, wl_8, ws_8, w_has, w_isRider, w_isPair, w_isHour, w_in, w_in0, w_in_0_1, w_in_0_10, w_in_0_3, w_in_0_30, w_in_0_60, w_in_0_7, w_in_0_9, w_in_0_999, w_in_1_60, w_in_20_27, w_in_2_40, w_in_48_57, w_whole, w_all, wt_0, wt_1, wt_2, nI_add, nI_1, nI_mul, nI_and, nI_or, nI_sd, nI_sub, l_sub1, l_addm1, l_all, l_1shl, l_or0, l_add0, l_0add, l_m1, l_m1r, l_neg, l_nn, l_eq0, l_le0, l_0lt, l_eq1, l_m1lt, l_m1le, l_m1eq0, l_10, l_00, l_1le, nI_le_l, nI_lt_l, nI_eq_l, bc_nI, nt_nI, bit_nI, b2_ite, b2_ite1, nI_max, nI_min, isR_nI, n_100, n_3, n_6, n_7, hi_ne, hi_ni, hi_eq, y_iL, y_iR, y_lI, y_lR, hl_ne, hl_ni, hl_eq, y_rI, y_rL, if_true, if_false, if_pos, if_neg, true_and, and_true, not_true_eq_false, not_false_eq_true, x.n, x.h, x.b, x.mo, x.wi, x.ca, x.ro, x.ti, x.il, x.ni, x.ga, x.ri, Nat.add_sub_cancel, e1, e2, absd_nI]
        by_cases t1 : r = q
        · rw [if_pos (Or.inr (Or.inr (by rw [t1])))] at hag
          rw [if_pos t1]
          exact hag _ _ ⟨rfl, rfl⟩
        · rw [if_neg (fun z => by
            rcases z with z | z | z
            · exact nI_pos (by omega) z
            · exact nI_pos (by omega) z
            · exact t1 ((nI_eq (by omega) (by omega)).mp z))] at hag
          rw [if_neg t1]
          by_cases t2 : absd (P.width r) (P.width q) ≤ P.beats
          · rw [if_pos t2] at hag ⊢
            exact hag _ _ ⟨rfl, rfl⟩
          · rw [if_neg t2] at hag ⊢
            exact hag _ _ ⟨rfl, rfl⟩
  · obtain ⟨rfl, rfl⟩ := hJ
    rw [show P.hrs - 1 + 1 = P.hrs by omega]
    unfold f_X1_changes_b9
    simp (disch := first | omega | exact x.s | exact hi_eq | ((repeat (first | exact x.s | apply sw_I | apply sw_L | apply sw_cp | apply sw_18 | apply sw_21 | apply sw_22 | apply sw_m12 | apply sw_m18)); done) | rfl) only [wp_ite, wp_some, y_jn, wp_r0, wp_r1, wp_b2, y_nn, w_bc, w_nt, wo_0, wg_0, wi_0, wr_0_0, wr_0_3, wo_1, wg_1, wi_1, wr_1_0, wr_1_1, wl_2, ws_2, wl_3, ws_3, wo_4, wg_4, wi_4, wr_4_0, wr_4_1, wl_5, ws_5, wl_6, ws_6, wl_8, ws_8, w_has, w_isRider, w_isPair, w_isHour, w_in, w_in0, w_in_0_1, w_in_0_10, w_in_0_3, w_in_0_30, w_in_0_60, w_in_0_7, w_in_0_9, w_in_0_999, w_in_1_60, w_in_20_27, w_in_2_40, w_in_48_57, w_whole, w_all, wt_0, wt_1, wt_2, nI_add, nI_1, nI_mul, nI_and, nI_or, nI_sd, nI_sub, l_sub1, l_addm1, l_all, l_1shl, l_or0, l_add0, l_0add, l_m1, l_m1r, l_neg, l_nn, l_eq0, l_le0, l_0lt, l_eq1, l_m1lt, l_m1le, l_m1eq0, l_10, l_00, l_1le, nI_le_l, nI_lt_l, nI_eq_l, bc_nI, nt_nI, bit_nI, b2_ite, b2_ite1, nI_max, nI_min, isR_nI, n_100, n_3, n_6, n_7, hi_ne, hi_ni, hi_eq, y_iL, y_iR, y_lI, y_lR, hl_ne, hl_ni, hl_eq, y_rI, y_rL, if_true, if_false, if_pos, if_neg, true_and, and_true, not_true_eq_false, not_false_eq_true, x.n, x.h, x.b, x.mo, x.wi, x.ca, x.ro, x.ti, x.il, x.ni, x.ga, x.ri]
    rw [← hQ]
    exact ⟨rfl, (by repeat (first | exact Fr.refl | exact (Fr.refl).mono rfl | refine Fr.putI ?_ rfl | refine Fr.putL ?_ rfl | refine Fr.putR ?_ rfl)), s.fr (D := [36]) (F := [52]) (G := []) (by repeat (first | exact Fr.refl | exact (Fr.refl).mono rfl | refine Fr.putI ?_ rfl | refine Fr.putL ?_ rfl | refine Fr.putR ?_ rfl)) rfl, row2⟩
theorem m_changes (x : MX σ P a) (s : SM σ) : wp (f_X3_changes (some 37) σ) (QuM σ (chg P a (P.hrs - 1)).1 (some [(chg P a (P.hrs - 1)).2.1.toInt64, (chg P a (P.hrs - 1)).2.2.toInt64])) := by
  have x0 := x
  have h8 := x.h8
  have h1 := x.h1
  have n8 := x.n8
  generalize hQ : QuM σ (chg P a (P.hrs - 1)).1 (some [(chg P a (P.hrs - 1)).2.1.toInt64, (chg P a (P.hrs - 1)).2.2.toInt64]) = Q
  have f0 : Fr [] [] [11] σ (wI σ 37 11 0) := Fr.refl.putI rfl
  unfold f_X3_changes
  simp (disch := first | omega | exact x.s | exact hi_eq | ((repeat (first | exact x.s | apply sw_I | apply sw_L | apply sw_cp | apply sw_18 | apply sw_21 | apply sw_22 | apply sw_m12 | apply sw_m18)); done) | rfl) only [wp_ite, wp_some, y_jn, wp_r0, wp_r1, wp_b2, y_nn, w_bc, w_nt, wo_37, wg_37, wi_37, w_has3, w_isMan, w_areTwo, w_isHour3, w_in3, w_night, wtM_0, wtM_1, wtM_2, nI_add, nI_1, nI_mul, nI_and, nI_or, nI_sd, nI_sub, l_sub1, l_addm1, l_all, l_1shl, l_or0, l_add0, l_0add, l_m1, l_m1r, l_neg, l_nn, l_eq0, l_le0, l_0lt, l_eq1, l_m1lt, l_m1le, l_m1eq0, l_10, l_00, l_1le, nI_le_l, nI_lt_l, nI_eq_l, bc_nI, nt_nI, bit_nI, b2_ite, b2_ite1, nI_max, nI_min, isR_nI, n_10, n_11, n_2, hi_ne, hi_ni, hi_eq, y_iL, y_iR, y_lI, y_lR, hl_ne, hl_ni, hl_eq, y_rI, y_rL, if_true, if_false, if_pos, if_neg, true_and, and_true, not_true_eq_false, not_false_eq_true, x.n, x.h, x.b, x.mo, x.wi, x.ca, x.ro, x.ti, x.il, x.ni, x.ga, x.ri]
  replace x := x0.fr f0 rfl
  refine wp_up (P.hrs - 1) (fun i y τ => y = ((chg P a i).1, (chg P a i).2.1, (chg P a i).2.2, nI (i + 1)) ∧ τ = (wI σ 37 11 0)) (fun ag i y τ hi' hJ hag => ?_) (fun ag y τ hJ => ?_) (by omega) ⟨rfl, rfl⟩
  · obtain ⟨rfl, rfl⟩ := hJ
    have st : chg P a (i + 1) = if a.rota i < 0 ∨ a.rota (i + 1) < 0 ∨ a.rota i = a.rota (i + 1) then chg P a i else ((chg P a i).1 + 1, (chg P a i).2.1 + (if absd (P.width (ix (a.rota i))) (P.width (ix (a.rota (i + 1)))) ≤ P.beats then 0 else 1), (chg P a i).2.2 + nI (absd (P.width (ix (a.rota i))) (P.width (ix (a.rota (i + 1)))))) := rfl
    rw [st] at hag
    generalize chg P a i = c at *
    have o1 := x.ok.2 i (by omega)
    have o2 := x.ok.2 (i + 1) (by omega)
    unfold f_X3_changes_b14
    rcases o1 with e1 | ⟨r, hr', e1⟩
    · rw [if_pos (Or.inl (by rw [e1]; decide))] at hag
      simp (disch := first | omega | exact x.s | exact hi_eq | ((repeat (first | exact x.s | apply sw_I | apply sw_L | apply sw_cp | apply sw_18 | apply sw_21 | apply sw_22 | apply sw_m12 | apply sw_m18)); done) | rfl) only [wp_ite, wp_some, y_jn, wp_r0, wp_r1, wp_b2, y_nn, w_bc, w_nt, wo_37, wg_37, wi_37, wr_37_0, wr_37_5, wl_38, ws_38, wl_40, ws_40, w_has3, w_isMan, w_areTwo, w_isHour3, w_in3, w_night, wtM_0, wtM_1, wtM_2, nI_add, nI_1, nI_mul, nI_and, nI_or, nI_sd, nI_sub, l_sub1, l_addm1, l_all, l_1shl, l_or0, l_add0, l_0add, l_m1, l_m1r, l_neg, l_nn, l_eq0, l_le0, l_0lt, l_eq1, l_m1lt, l_m1le, l_m1eq0, l_10, l_00, l_1le, nI_le_l, nI_lt_l, nI_eq_l, bc_nI, nt_nI, bit_nI, b2_ite, b2_ite1, nI_max, nI_min, isR_nI, n_100, n_2, n_5, hi_ne, hi_ni, hi_eq, y_iL, y_iR, y_lI, y_lR, hl_ne, hl_ni, hl_eq, y_rI, y_rL, if_true, if_false, if_pos, if_neg, true_and, and_true, not_true_eq_false, not_false_eq_true, x.n, x.h, x.b, x.mo, x.wi, x.ca, x.ro, x.ti, x.il, x.ni, x.ga, x.ri, Nat.add_sub_cancel, e1]
      exact hag _ _ ⟨rfl, rfl⟩
    · rcases o2 with e2 | ⟨q, hq, e2⟩
      · rw [if_pos (Or.inr (Or.inl (by rw [e2]; decide)))] at hag
        simp (disch := first | omega | exact x.s | exact hi_eq | ((repeat (first | exact x.s | apply sw_I | apply sw_L | apply sw_cp | apply sw_18 | apply sw_21 | apply sw_22 | apply sw_m12 | apply sw_m18)); done) | rfl) only [wp_ite, wp_some, y_jn, wp_r0, wp_r1, wp_b2, y_nn, w_bc, w_nt, wo_37, wg_37, wi_37, wr_37_0, wr_37_5, wl_38, ws_38, wl_40, ws_40, w_has3, w_isMan, w_areTwo, w_isHour3, w_in3, w_night, wtM_0, wtM_1, wtM_2, nI_add, nI_1, nI_mul, nI_and, nI_or, nI_sd, nI_sub, l_sub1, l_addm1, l_all, l_1shl, l_or0, l_add0, l_0add, l_m1, l_m1r, l_neg, l_nn, l_eq0, l_le0, l_0lt, l_eq1, l_m1lt, l_m1le, l_m1eq0, l_10, l_00, l_1le, nI_le_l, nI_lt_l, nI_eq_l, bc_nI, nt_nI, bit_nI, b2_ite, b2_ite1, nI_max, nI_min, isR_nI, n_100, n_2, n_5, hi_ne, hi_ni, hi_eq, y_iL, y_iR, y_lI, y_lR, hl_ne, hl_ni, hl_eq, y_rI, y_rL, if_true, if_false, if_pos, if_neg, true_and, and_true, not_true_eq_false, not_false_eq_true, x.n, x.h, x.b, x.mo, x.wi, x.ca, x.ro, x.ti, x.il, x.ni, x.ga, x.ri, Nat.add_sub_cancel, e1, e2]
        exact hag _ _ ⟨rfl, rfl⟩
      · have k2 := x.w9 q
        have k3 := x.w9 r
        have hb9 := x.b9
        have ha9 : absd (P.width r) (P.width q) ≤ 9 := by unfold absd; split <;> omega
        rw [e1, e2, ix_nI (by omega), ix_nI (by omega)] at hag
        simp (disch := first | omega | exact x.s | exact hi_eq | ((repeat (first | exact x.s | apply sw_I | apply sw_L | apply sw_cp | apply sw_18 | apply sw_21 | apply sw_22 | apply sw_m12 | apply sw_m18)); done) | rfl) only [wp_ite, wp_some, y_jn, wp_r0, wp_r1, wp_b2, y_nn, w_bc, w_nt, wo_37, wg_37, wi_37, wr_37_0, wr_37_5, wl_38, ws_38, wl_40, ws_40, w_has3, w_isMan, w_areTwo, w_isHour3, w_in3, w_night, wtM_0, wtM_1, wtM_2, nI_add, nI_1, nI_mul, nI_and, nI_or, nI_sd, nI_sub, l_sub1, l_addm1, l_all, l_1shl, l_or0, l_add0, l_0add, l_m1, l_m1r, l_neg, l_nn, l_eq0, l_le0, l_0lt, l_eq1, l_m1lt, l_m1le, l_m1eq0, l_10, l_00, l_1le, nI_le_l, nI_lt_l, nI_eq_l, bc_nI, nt_nI, bit_nI, b2_ite, b2_ite1, nI_max, nI_min, isR_nI, n_100, n_2, n_5, hi_ne, hi_ni, hi_eq, y_iL, y_iR, y_lI, y_lR, hl_ne, hl_ni, hl_eq, y_rI, y_rL, if_true, if_false, if_pos, if_neg, true_and, and_true, not_true_eq_false, not_false_eq_true, x.n, x.h, x.b, x.mo, x.wi, x.ca, x.ro, x.ti, x.il, x.ni, x.ga, x.ri, Nat.add_sub_cancel, e1, e2, absd_nI]
        by_cases t1 : r = q
        · rw [if_pos (Or.inr (Or.inr (by rw [t1])))] at hag
          rw [if_pos t1]
          exact hag _ _ ⟨rfl, rfl⟩
        · rw [if_neg (fun z => by
            rcases z with z | z | z
            · exact nI_pos (by omega) z
            · exact nI_pos (by omega) z
            · exact t1 ((nI_eq (by omega) (by omega)).mp z))] at hag
          rw [if_neg t1]
          by_cases t2 : absd (P.width r) (P.width q) ≤ P.beats
          · rw [if_pos t2] at hag ⊢
            exact hag _ _ ⟨rfl, rfl⟩
          · rw [if_neg t2] at hag ⊢
            exact hag _ _ ⟨rfl, rfl⟩
  · obtain ⟨rfl, rfl⟩ := hJ
    rw [show P.hrs - 1 + 1 = P.hrs by omega]
    unfold f_X3_changes_b14
    simp (disch := first | omega | exact x.s | exact hi_eq | ((repeat (first | exact x.s | apply sw_I | apply sw_L | apply sw_cp | apply sw_18 | apply sw_21 | apply sw_22 | apply sw_m12 | apply sw_m18)); done) | rfl) only [wp_ite, wp_some, y_jn, wp_r0, wp_r1, wp_b2, y_nn, w_bc, w_nt, wo_37, wg_37, wi_37, wr_37_0, wr_37_5, wl_38, ws_38, wl_40, ws_40, w_has3, w_isMan, w_areTwo, w_isHour3, w_in3, w_night, wtM_0, wtM_1, wtM_2, nI_add, nI_1, nI_mul, nI_and, nI_or, nI_sd, nI_sub, l_sub1, l_addm1, l_all, l_1shl, l_or0, l_add0, l_0add, l_m1, l_m1r, l_neg, l_nn, l_eq0, l_le0, l_0lt, l_eq1, l_m1lt, l_m1le, l_m1eq0, l_10, l_00, l_1le, nI_le_l, nI_lt_l, nI_eq_l, bc_nI, nt_nI, bit_nI, b2_ite, b2_ite1, nI_max, nI_min, isR_nI, n_10, n_100, n_11, n_2, n_5, hi_ne, hi_ni, hi_eq, y_iL, y_iR, y_lI, y_lR, hl_ne, hl_ni, hl_eq, y_rI, y_rL, if_true, if_false, if_pos, if_neg, true_and, and_true, not_true_eq_false, not_false_eq_true, x.n, x.h, x.b, x.mo, x.wi, x.ca, x.ro, x.ti, x.il, x.ni, x.ga, x.ri]
    rw [← hQ]
    exact ⟨rfl, (by repeat (first | exact Fr.refl | exact (Fr.refl).mono rfl | refine Fr.putI ?_ rfl | refine Fr.putL ?_ rfl | refine Fr.putR ?_ rfl)), s.fr (D := [43]) (F := []) (G := [10, 11]) (by repeat (first | exact Fr.refl | exact (Fr.refl).mono rfl | refine Fr.putI ?_ rfl | refine Fr.putL ?_ rfl | refine Fr.putR ?_ rfl)) rfl, rowM2⟩
end chgs
