/-! PURE 66: who is spent (the class) -/
def spU (P : Pk) (a : HS) (v : Nat) (s : Nat × Int32) (r h : Nat) : Nat × Int32 := if (P.can r).testBit h = true ∧ nI v < hardI P a r h then (s.1 ||| 2 ^ r, imax s.2 (hardI P a r h)) else s
def spH (P : Pk) (a : HS) (v : Nat) (s : Nat × Int32) (r : Nat) : Nat → Nat × Int32
  | 0 => s
  | h + 1 => spU P a v (spH P a v s r h) r h
def spO (P : Pk) (a : HS) (v : Nat) : Nat → Nat × Int32
  | 0 => (0, 0)
  | r + 1 => spH P a v (spO P a v r) r 8
theorem spH_lt {P : Pk} {a : HS} {v r : Nat} {s : Nat × Int32} (hs : s.1 < 256) (hr' : r < 8) : ∀ h, (spH P a v s r h).1 < 256 := by
  intro h
  induction h with
  | zero => exact hs
  | succ h ih =>
    show (spU P a v (spH P a v s r h) r h).1 < 256
    unfold spU
    split
    · exact or_lt ih (pow_lt8 hr')
    · exact ih
theorem spO_lt {P : Pk} {a : HS} {v : Nat} : ∀ r, r ≤ 8 → (spO P a v r).1 < 256 := by
  intro r
  induction r with
  | zero => intro _; show 0 < 256; decide
  | succ r ih => intro hr'; exact spH_lt (ih (by omega)) (by omega) 8
section spents
variable {σ τ : Hp} {P : Pk} {a : HS}
theorem c_spent (x : CX σ P a) (s : SC σ) {v : Nat} (hv : v ≤ 999) : wp (f_X1_spent (some 0) (nI v) σ) (QuC σ (nI (spO P a v P.n).1) (some [(nI (pop (spO P a v P.n).1)).toInt64, (spO P a v P.n).2.toInt64])) := by
  have x0 := x
  have n8 := x.n8
  have hin : ((0 : Int32) ≤ nI v ∧ nI v ≤ nI 999) := ⟨by rw [l_nn (by omega)]; trivial, by rw [nI_le_l (by omega) (by decide)]; exact hv⟩
  have hz : ¬ nI v < (0 : Int32) := nI_pos (by omega)
  generalize hQ : QuC σ (nI (spO P a v P.n).1) (some [(nI (pop (spO P a v P.n).1)).toInt64, (spO P a v P.n).2.toInt64]) = Q
  unfold f_X1_spent
  simp (disch := first | omega | exact x.s | exact hi_eq | ((repeat (first | exact x.s | apply sw_I | apply sw_L | apply sw_cp | apply sw_18 | apply sw_21 | apply sw_22 | apply sw_m12 | apply sw_m18)); done) | rfl) only [wp_ite, wp_some, y_jn, wp_r0, wp_r1, wp_b2, y_nn, w_bc, w_nt, wo_0, wg_0, wi_0, w_has, w_isRider, w_isPair, w_isHour, w_in, w_in0, w_in_0_1, w_in_0_10, w_in_0_3, w_in_0_30, w_in_0_60, w_in_0_7, w_in_0_9, w_in_0_999, w_in_1_60, w_in_20_27, w_in_2_40, w_in_48_57, w_whole, w_all, wt_0, wt_1, wt_2, nI_add, nI_1, nI_mul, nI_and, nI_or, nI_sd, nI_sub, l_sub1, l_addm1, l_all, l_1shl, l_or0, l_add0, l_0add, l_m1, l_m1r, l_neg, l_nn, l_eq0, l_le0, l_0lt, l_eq1, l_m1lt, l_m1le, l_m1eq0, l_10, l_00, l_1le, nI_le_l, nI_lt_l, nI_eq_l, bc_nI, nt_nI, bit_nI, b2_ite, b2_ite1, nI_max, nI_min, isR_nI, n_999, hi_ne, hi_ni, hi_eq, y_iL, y_iR, y_lI, y_lR, hl_ne, hl_ni, hl_eq, y_rI, y_rL, if_true, if_false, if_pos, if_neg, true_and, and_true, not_true_eq_false, not_false_eq_true, x.n, x.h, x.b, x.mo, x.wi, x.ca, x.ro, x.ti, x.il, x.ni, x.ga, x.ri, hin]
  refine wp_up P.n (fun r y τ => y = (nI (spO P a v r).1, (spO P a v r).2, nI r) ∧ Fr [] [18, 19, 20] [] σ τ) (fun ag r y τ hr' hJ hag => ?_) (fun ag y τ hJ => ?_) (by omega) ⟨rfl, Fr.refl⟩
  · obtain ⟨rfl, f⟩ := hJ
    replace x := x0.fr f rfl
    have st : spO P a v (r + 1) = spH P a v (spO P a v r) r 8 := rfl
    rw [st] at hag
    generalize spO P a v r = s0 at *
    unfold f_X1_spent_b21
    simp (disch := first | omega | exact x.s | exact hi_eq | ((repeat (first | exact x.s | apply sw_I | apply sw_L | apply sw_cp | apply sw_18 | apply sw_21 | apply sw_22 | apply sw_m12 | apply sw_m18)); done) | rfl) only [wp_ite, wp_some, y_jn, wp_r0, wp_r1, wp_b2, y_nn, w_bc, w_nt, wo_0, wg_0, wi_0, w_has, w_isRider, w_isPair, w_isHour, w_in, w_in0, w_in_0_1, w_in_0_10, w_in_0_3, w_in_0_30, w_in_0_60, w_in_0_7, w_in_0_9, w_in_0_999, w_in_1_60, w_in_20_27, w_in_2_40, w_in_48_57, w_whole, w_all, wt_0, wt_1, wt_2, nI_add, nI_1, nI_mul, nI_and, nI_or, nI_sd, nI_sub, l_sub1, l_addm1, l_all, l_1shl, l_or0, l_add0, l_0add, l_m1, l_m1r, l_neg, l_nn, l_eq0, l_le0, l_0lt, l_eq1, l_m1lt, l_m1le, l_m1eq0, l_10, l_00, l_1le, nI_le_l, nI_lt_l, nI_eq_l, bc_nI, nt_nI, bit_nI, b2_ite, b2_ite1, nI_max, nI_min, isR_nI, n_5, hi_ne, hi_ni, hi_eq, y_iL, y_iR, y_lI, y_lR, hl_ne, hl_ni, hl_eq, y_rI, y_rL, if_true, if_false, if_pos, if_neg, true_and, and_true, not_true_eq_false, not_false_eq_true, x.n, x.h, x.b, x.mo, x.wi, x.ca, x.ro, x.ti, x.il, x.ni, x.ga, x.ri]
    refine wp_up 8 (fun h y τ => y = (nI (spH P a v s0 r h).1, (spH P a v s0 r h).2, nI h) ∧ Fr [] [18, 19, 20] [] σ τ) (fun ag' h y τ hh hJ hag' => ?_) (fun ag' y τ hJ => ?_) (by decide) ⟨rfl, f⟩
    · obtain ⟨rfl, f⟩ := hJ
      replace x := x0.fr f rfl
      have c8 := x.c8 r
      have st2 : spH P a v s0 r (h + 1) = spU P a v (spH P a v s0 r h) r h := rfl
      rw [st2] at hag'
      generalize spH P a v s0 r h = s1 at *
      unfold f_X1_spent_b33
      simp (disch := first | omega | exact x.s | exact hi_eq | ((repeat (first | exact x.s | apply sw_I | apply sw_L | apply sw_cp | apply sw_18 | apply sw_21 | apply sw_22 | apply sw_m12 | apply sw_m18)); done) | rfl) only [wp_ite, wp_some, y_jn, wp_r0, wp_r1, wp_b2, y_nn, w_bc, w_nt, wo_0, wg_0, wi_0, wr_0_0, wr_0_4, wo_1, wg_1, wi_1, wr_1_0, wr_1_1, wl_2, ws_2, wl_3, ws_3, wl_9, ws_9, w_has, w_isRider, w_isPair, w_isHour, w_in, w_in0, w_in_0_1, w_in_0_10, w_in_0_3, w_in_0_30, w_in_0_60, w_in_0_7, w_in_0_9, w_in_0_999, w_in_1_60, w_in_20_27, w_in_2_40, w_in_48_57, w_whole, w_all, wt_0, wt_1, wt_2, nI_add, nI_1, nI_mul, nI_and, nI_or, nI_sd, nI_sub, l_sub1, l_addm1, l_all, l_1shl, l_or0, l_add0, l_0add, l_m1, l_m1r, l_neg, l_nn, l_eq0, l_le0, l_0lt, l_eq1, l_m1lt, l_m1le, l_m1eq0, l_10, l_00, l_1le, nI_le_l, nI_lt_l, nI_eq_l, bc_nI, nt_nI, bit_nI, b2_ite, b2_ite1, nI_max, nI_min, isR_nI, n_100, n_4, n_8, hi_ne, hi_ni, hi_eq, y_iL, y_iR, y_lI, y_lR, hl_ne, hl_ni, hl_eq, y_rI, y_rL, if_true, if_false, if_pos, if_neg, true_and, and_true, not_true_eq_false, not_false_eq_true, x.n, x.h, x.b, x.mo, x.wi, x.ca, x.ro, x.ti, x.il, x.ni, x.ga, x.ri]
      by_cases e1 : (P.can r).testBit h = true
      · rw [if_pos e1]
        rw [c_hardOf x.s x.2.1 x.pk x.2.2.2.1 (by decide) hr' hh, e_bnd]
        unfold spU at hag'
        have f' : Fr [] [18, 19, 20] [] σ (asked τ 1 r h) := f.trans (asked_fr.mono rfl)
        generalize hardI P a r h = t at *
        by_cases e2 : nI v < t
        · rw [if_pos ⟨e1, e2⟩] at hag'
          rw [y_jn, if_pos e2]
          exact hag' _ _ ⟨rfl, f'⟩
        · rw [if_neg (fun z => e2 z.2)] at hag'
          rw [y_jn, if_neg e2]
          exact hag' _ _ ⟨rfl, f'⟩
      · rw [if_neg e1]
        unfold spU at hag'
        rw [if_neg (fun z => e1 z.1)] at hag'
        try rw [if_neg hz]
        exact hag' _ _ ⟨rfl, f⟩
    · obtain ⟨rfl, f⟩ := hJ
      replace x := x0.fr f rfl
      unfold f_X1_spent_b33
      simp (disch := first | omega | exact x.s | exact hi_eq | ((repeat (first | exact x.s | apply sw_I | apply sw_L | apply sw_cp | apply sw_18 | apply sw_21 | apply sw_22 | apply sw_m12 | apply sw_m18)); done) | rfl) only [wp_ite, wp_some, y_jn, wp_r0, wp_r1, wp_b2, y_nn, w_bc, w_nt, wo_0, wg_0, wi_0, wr_0_0, wr_0_4, wo_1, wg_1, wi_1, wr_1_0, wr_1_1, wl_2, ws_2, wl_3, ws_3, wl_9, ws_9, w_has, w_isRider, w_isPair, w_isHour, w_in, w_in0, w_in_0_1, w_in_0_10, w_in_0_3, w_in_0_30, w_in_0_60, w_in_0_7, w_in_0_9, w_in_0_999, w_in_1_60, w_in_20_27, w_in_2_40, w_in_48_57, w_whole, w_all, wt_0, wt_1, wt_2, nI_add, nI_1, nI_mul, nI_and, nI_or, nI_sd, nI_sub, l_sub1, l_addm1, l_all, l_1shl, l_or0, l_add0, l_0add, l_m1, l_m1r, l_neg, l_nn, l_eq0, l_le0, l_0lt, l_eq1, l_m1lt, l_m1le, l_m1eq0, l_10, l_00, l_1le, nI_le_l, nI_lt_l, nI_eq_l, bc_nI, nt_nI, bit_nI, b2_ite, b2_ite1, nI_max, nI_min, isR_nI, n_100, n_4, n_8, hi_ne, hi_ni, hi_eq, y_iL, y_iR, y_lI, y_lR, hl_ne, hl_ni, hl_eq, y_rI, y_rL, if_true, if_false, if_pos, if_neg, true_and, and_true, not_true_eq_false, not_false_eq_true, x.n, x.h, x.b, x.mo, x.wi, x.ca, x.ro, x.ti, x.il, x.ni, x.ga, x.ri]
      exact hag _ _ ⟨rfl, f⟩
  · obtain ⟨rfl, f⟩ := hJ
    replace x := x0.fr f rfl
    have sl := spO_lt (P := P) (a := a) (v := v) P.n n8
    generalize spO P a v P.n = s0 at *
    unfold f_X1_spent_b21
    simp (disch := first | omega | exact x.s | exact hi_eq | ((repeat (first | exact x.s | apply sw_I | apply sw_L | apply sw_cp | apply sw_18 | apply sw_21 | apply sw_22 | apply sw_m12 | apply sw_m18)); done) | rfl) only [wp_ite, wp_some, y_jn, wp_r0, wp_r1, wp_b2, y_nn, w_bc, w_nt, wo_0, wg_0, wi_0, w_has, w_isRider, w_isPair, w_isHour, w_in, w_in0, w_in_0_1, w_in_0_10, w_in_0_3, w_in_0_30, w_in_0_60, w_in_0_7, w_in_0_9, w_in_0_999, w_in_1_60, w_in_20_27, w_in_2_40, w_in_48_57, w_whole, w_all, wt_0, wt_1, wt_2, nI_add, nI_1, nI_mul, nI_and, nI_or, nI_sd, nI_sub, l_sub1, l_addm1, l_all, l_1shl, l_or0, l_add0, l_0add, l_m1, l_m1r, l_neg, l_nn, l_eq0, l_le0, l_0lt, l_eq1, l_m1lt, l_m1le, l_m1eq0, l_10, l_00, l_1le, nI_le_l, nI_lt_l, nI_eq_l, bc_nI, nt_nI, bit_nI, b2_ite, b2_ite1, nI_max, nI_min, isR_nI, n_5, n_999, hi_ne, hi_ni, hi_eq, y_iL, y_iR, y_lI, y_lR, hl_ne, hl_ni, hl_eq, y_rI, y_rL, if_true, if_false, if_pos, if_neg, true_and, and_true, not_true_eq_false, not_false_eq_true, x.n, x.h, x.b, x.mo, x.wi, x.ca, x.ro, x.ti, x.il, x.ni, x.ga, x.ri]
    rw [← hQ]
    exact ⟨rfl, (by repeat (first | exact f | exact (f).mono rfl | refine Fr.putI ?_ rfl | refine Fr.putL ?_ rfl | refine Fr.putR ?_ rfl)), s.fr (D := [36]) (F := [18, 19, 20, 52]) (G := []) (by repeat (first | exact f | exact (f).mono rfl | refine Fr.putI ?_ rfl | refine Fr.putL ?_ rfl | refine Fr.putR ?_ rfl)) rfl, row2⟩
theorem m_spent (x : MX σ P a) (s : SM σ) {v : Nat} (hv : v ≤ 999) : wp (f_X3_spent (some 37) (nI v) σ) (QuM σ (nI (spO P a v P.n).1) (some [(nI (pop (spO P a v P.n).1)).toInt64, (spO P a v P.n).2.toInt64])) := by
  have x0 := x
  have n8 := x.n8
  have hin : ((0 : Int32) ≤ nI v ∧ nI v ≤ nI 999) := ⟨by rw [l_nn (by omega)]; trivial, by rw [nI_le_l (by omega) (by decide)]; exact hv⟩
  have hz : ¬ nI v < (0 : Int32) := nI_pos (by omega)
  generalize hQ : QuM σ (nI (spO P a v P.n).1) (some [(nI (pop (spO P a v P.n).1)).toInt64, (spO P a v P.n).2.toInt64]) = Q
  unfold f_X3_spent
  simp (disch := first | omega | exact x.s | exact hi_eq | ((repeat (first | exact x.s | apply sw_I | apply sw_L | apply sw_cp | apply sw_18 | apply sw_21 | apply sw_22 | apply sw_m12 | apply sw_m18)); done) | rfl) only [wp_ite, wp_some, y_jn, wp_r0, wp_r1, wp_b2, y_nn, w_bc, w_nt, wo_37, wg_37, wi_37, w_has3, w_isMan, w_areTwo, w_isHour3, w_in3, w_night, wtM_0, wtM_1, wtM_2, nI_add, nI_1, nI_mul, nI_and, nI_or, nI_sd, nI_sub, l_sub1, l_addm1, l_all, l_1shl, l_or0, l_add0, l_0add, l_m1, l_m1r, l_neg, l_nn, l_eq0, l_le0, l_0lt, l_eq1, l_m1lt, l_m1le, l_m1eq0, l_10, l_00, l_1le, nI_le_l, nI_lt_l, nI_eq_l, bc_nI, nt_nI, bit_nI, b2_ite, b2_ite1, nI_max, nI_min, isR_nI, n_10, n_11, n_2, n_999, hi_ne, hi_ni, hi_eq, y_iL, y_iR, y_lI, y_lR, hl_ne, hl_ni, hl_eq, y_rI, y_rL, if_true, if_false, if_pos, if_neg, true_and, and_true, not_true_eq_false, not_false_eq_true, x.n, x.h, x.b, x.mo, x.wi, x.ca, x.ro, x.ti, x.il, x.ni, x.ga, x.ri, hin]
  refine wp_up P.n (fun r y τ => y = (nI (spO P a v r).1, (spO P a v r).2, nI r) ∧ Fr [47] [] [11, 12, 13, 14, 15, 16, 21] σ τ) (fun ag r y τ hr' hJ hag => ?_) (fun ag y τ hJ => ?_) (by omega) ⟨rfl, Fr.refl.putI rfl⟩
  · obtain ⟨rfl, f⟩ := hJ
    replace x := x0.fr f rfl
    have st : spO P a v (r + 1) = spH P a v (spO P a v r) r 8 := rfl
    rw [st] at hag
    generalize spO P a v r = s0 at *
    unfold f_X3_spent_b25
    simp (disch := first | omega | exact x.s | exact hi_eq | ((repeat (first | exact x.s | apply sw_I | apply sw_L | apply sw_cp | apply sw_18 | apply sw_21 | apply sw_22 | apply sw_m12 | apply sw_m18)); done) | rfl) only [wp_ite, wp_some, y_jn, wp_r0, wp_r1, wp_b2, y_nn, w_bc, w_nt, wo_37, wg_37, wi_37, w_has3, w_isMan, w_areTwo, w_isHour3, w_in3, w_night, wtM_0, wtM_1, wtM_2, nI_add, nI_1, nI_mul, nI_and, nI_or, nI_sd, nI_sub, l_sub1, l_addm1, l_all, l_1shl, l_or0, l_add0, l_0add, l_m1, l_m1r, l_neg, l_nn, l_eq0, l_le0, l_0lt, l_eq1, l_m1lt, l_m1le, l_m1eq0, l_10, l_00, l_1le, nI_le_l, nI_lt_l, nI_eq_l, bc_nI, nt_nI, bit_nI, b2_ite, b2_ite1, nI_max, nI_min, isR_nI, n_2, n_3, hi_ne, hi_ni, hi_eq, y_iL, y_iR, y_lI, y_lR, hl_ne, hl_ni, hl_eq, y_rI, y_rL, if_true, if_false, if_pos, if_neg, true_and, and_true, not_true_eq_false, not_false_eq_true, x.n, x.h, x.b, x.mo, x.wi, x.ca, x.ro, x.ti, x.il, x.ni, x.ga, x.ri]
    refine wp_up 8 (fun h y τ => y = (nI (spH P a v s0 r h).1, (spH P a v s0 r h).2, nI h) ∧ Fr [47] [] [11, 12, 13, 14, 15, 16, 21] σ τ) (fun ag' h y τ hh hJ hag' => ?_) (fun ag' y τ hJ => ?_) (by decide) ⟨rfl, f⟩
    · obtain ⟨rfl, f⟩ := hJ
      replace x := x0.fr f rfl
      have c8 := x.c8 r
      have st2 : spH P a v s0 r (h + 1) = spU P a v (spH P a v s0 r h) r h := rfl
      rw [st2] at hag'
      generalize spH P a v s0 r h = s1 at *
      unfold f_X3_spent_b37
      simp (disch := first | omega | exact x.s | exact hi_eq | ((repeat (first | exact x.s | apply sw_I | apply sw_L | apply sw_cp | apply sw_18 | apply sw_21 | apply sw_22 | apply sw_m12 | apply sw_m18)); done) | rfl) only [wp_ite, wp_some, y_jn, wp_r0, wp_r1, wp_b2, y_nn, w_bc, w_nt, wo_37, wg_37, wi_37, wr_37_0, wr_37_6, wl_38, ws_38, wl_41, ws_41, w_has3, w_isMan, w_areTwo, w_isHour3, w_in3, w_night, wtM_0, wtM_1, wtM_2, nI_add, nI_1, nI_mul, nI_and, nI_or, nI_sd, nI_sub, l_sub1, l_addm1, l_all, l_1shl, l_or0, l_add0, l_0add, l_m1, l_m1r, l_neg, l_nn, l_eq0, l_le0, l_0lt, l_eq1, l_m1lt, l_m1le, l_m1eq0, l_10, l_00, l_1le, nI_le_l, nI_lt_l, nI_eq_l, bc_nI, nt_nI, bit_nI, b2_ite, b2_ite1, nI_max, nI_min, isR_nI, n_100, n_2, n_6, n_8, hi_ne, hi_ni, hi_eq, y_iL, y_iR, y_lI, y_lR, hl_ne, hl_ni, hl_eq, y_rI, y_rL, if_true, if_false, if_pos, if_neg, true_and, and_true, not_true_eq_false, not_false_eq_true, x.n, x.h, x.b, x.mo, x.wi, x.ca, x.ro, x.ti, x.il, x.ni, x.ga, x.ri]
      by_cases e1 : (P.can r).testBit h = true
      · rw [if_pos e1]
        rw [wp_bnd]
        refine wp_mono (m_hard x hr' hh) (fun y τ2 hx => ?_)
        obtain ⟨rfl, f2⟩ := hx
        have f' := f.then f2 rfl
        have x2 := x0.fr f' rfl
        unfold spU at hag'
        by_cases e2 : nI v < hardI P a r h
        · rw [if_pos ⟨e1, e2⟩] at hag'
          rw [if_pos e2]
          simp (disch := first | omega | exact x2.s | exact hi_eq | ((repeat (first | exact x2.s | apply sw_I | apply sw_L | apply sw_cp | apply sw_18 | apply sw_21 | apply sw_22 | apply sw_m12 | apply sw_m18)); done) | rfl) only [wp_ite, wp_some, y_jn, wp_r0, wp_r1, wp_b2, y_nn, w_bc, w_nt, wo_37, wg_37, wi_37, wr_37_0, wr_37_6, wl_38, ws_38, wl_41, ws_41, w_has3, w_isMan, w_areTwo, w_isHour3, w_in3, w_night, wtM_0, wtM_1, wtM_2, nI_add, nI_1, nI_mul, nI_and, nI_or, nI_sd, nI_sub, l_sub1, l_addm1, l_all, l_1shl, l_or0, l_add0, l_0add, l_m1, l_m1r, l_neg, l_nn, l_eq0, l_le0, l_0lt, l_eq1, l_m1lt, l_m1le, l_m1eq0, l_10, l_00, l_1le, nI_le_l, nI_lt_l, nI_eq_l, bc_nI, nt_nI, bit_nI, b2_ite, b2_ite1, nI_max, nI_min, isR_nI, n_100, n_2, n_6, n_8, hi_ne, hi_ni, hi_eq, y_iL, y_iR, y_lI, y_lR, hl_ne, hl_ni, hl_eq, y_rI, y_rL, if_true, if_false, if_pos, if_neg, true_and, and_true, not_true_eq_false, not_false_eq_true, x2.n, x2.h, x2.b, x2.mo, x2.wi, x2.ca, x2.ro, x2.ti, x2.il, x2.ni, x2.ga, x2.ri]
          rw [wp_bnd]
          refine wp_mono (m_hard x2 hr' hh) (fun y τ3 hx => ?_)
          obtain ⟨rfl, f3⟩ := hx
          exact hag' _ _ ⟨rfl, f'.then f3 rfl⟩
        · rw [if_neg (fun z => e2 z.2)] at hag'
          rw [if_neg e2]
          exact hag' _ _ ⟨rfl, f'⟩
      · rw [if_neg e1]
        unfold spU at hag'
        rw [if_neg (fun z => e1 z.1)] at hag'
        try rw [if_neg hz]
        exact hag' _ _ ⟨rfl, f⟩
    · obtain ⟨rfl, f⟩ := hJ
      replace x := x0.fr f rfl
      unfold f_X3_spent_b37
      simp (disch := first | omega | exact x.s | exact hi_eq | ((repeat (first | exact x.s | apply sw_I | apply sw_L | apply sw_cp | apply sw_18 | apply sw_21 | apply sw_22 | apply sw_m12 | apply sw_m18)); done) | rfl) only [wp_ite, wp_some, y_jn, wp_r0, wp_r1, wp_b2, y_nn, w_bc, w_nt, wo_37, wg_37, wi_37, wr_37_0, wr_37_6, wl_38, ws_38, wl_41, ws_41, w_has3, w_isMan, w_areTwo, w_isHour3, w_in3, w_night, wtM_0, wtM_1, wtM_2, nI_add, nI_1, nI_mul, nI_and, nI_or, nI_sd, nI_sub, l_sub1, l_addm1, l_all, l_1shl, l_or0, l_add0, l_0add, l_m1, l_m1r, l_neg, l_nn, l_eq0, l_le0, l_0lt, l_eq1, l_m1lt, l_m1le, l_m1eq0, l_10, l_00, l_1le, nI_le_l, nI_lt_l, nI_eq_l, bc_nI, nt_nI, bit_nI, b2_ite, b2_ite1, nI_max, nI_min, isR_nI, n_100, n_2, n_6, n_8, hi_ne, hi_ni, hi_eq, y_iL, y_iR, y_lI, y_lR, hl_ne, hl_ni, hl_eq, y_rI, y_rL, if_true, if_false, if_pos, if_neg, true_and, and_true, not_true_eq_false, not_false_eq_true, x.n, x.h, x.b, x.mo, x.wi, x.ca, x.ro, x.ti, x.il, x.ni, x.ga, x.ri]
      exact hag _ _ ⟨rfl, f⟩
  · obtain ⟨rfl, f⟩ := hJ
    replace x := x0.fr f rfl
    have sl := spO_lt (P := P) (a := a) (v := v) P.n n8
    generalize spO P a v P.n = s0 at *
    unfold f_X3_spent_b25
    simp (disch := first | omega | exact x.s | exact hi_eq | ((repeat (first | exact x.s | apply sw_I | apply sw_L | apply sw_cp | apply sw_18 | apply sw_21 | apply sw_22 | apply sw_m12 | apply sw_m18)); done) | rfl) only [wp_ite, wp_some, y_jn, wp_r0, wp_r1, wp_b2, y_nn, w_bc, w_nt, wo_37, wg_37, wi_37, w_has3, w_isMan, w_areTwo, w_isHour3, w_in3, w_night, wtM_0, wtM_1, wtM_2, nI_add, nI_1, nI_mul, nI_and, nI_or, nI_sd, nI_sub, l_sub1, l_addm1, l_all, l_1shl, l_or0, l_add0, l_0add, l_m1, l_m1r, l_neg, l_nn, l_eq0, l_le0, l_0lt, l_eq1, l_m1lt, l_m1le, l_m1eq0, l_10, l_00, l_1le, nI_le_l, nI_lt_l, nI_eq_l, bc_nI, nt_nI, bit_nI, b2_ite, b2_ite1, nI_max, nI_min, isR_nI, n_10, n_11, n_2, n_3, n_999, hi_ne, hi_ni, hi_eq, y_iL, y_iR, y_lI, y_lR, hl_ne, hl_ni, hl_eq, y_rI, y_rL, if_true, if_false, if_pos, if_neg, true_and, and_true, not_true_eq_false, not_false_eq_true, x.n, x.h, x.b, x.mo, x.wi, x.ca, x.ro, x.ti, x.il, x.ni, x.ga, x.ri]
    rw [← hQ]
    exact ⟨rfl, (by repeat (first | exact f | exact (f).mono rfl | refine Fr.putI ?_ rfl | refine Fr.putL ?_ rfl | refine Fr.putR ?_ rfl)), s.fr (D := [43, 47]) (F := []) (G := [10, 11, 12, 13, 14, 15, 16, 21]) (by repeat (first | exact f | exact (f).mono rfl | refine Fr.putI ?_ rfl | refine Fr.putL ?_ rfl | refine Fr.putR ?_ rfl)) rfl, rowM2⟩
end spents
