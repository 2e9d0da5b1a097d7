/-! PURE 61: the reference lets a night go -/
abbrev GG2 : List Nat := [12, 13, 14, 15, 16, 21, 27, 28]
section mgo
variable {σ τ : Hp} {P : Pk} {a : HS}
theorem m_goNight_38 (x : MY σ P) (ha : MH σ 38 0 a) (hok : HOK P.n a) : wp (f_X3_goNight (some 37) (some 38) σ) (fun _ τ => Fr [47, 51, 52, 38] [] GG2 σ τ ∧ MH τ 38 0 (goN P a) ∧ hi τ 37 27 = nI (gapN P a) ∧ hi τ 37 28 = nI (ridN P a)) := by
  have n8 := x.n8
  have h8 := x.h8
  have x0 := x
  have i8 := ill_lt n8 hok
  have ro : ∀ {τ : Hp} {D F G : List Nat}, Fr D F G σ τ → D.contains 38 = false → ∀ h, h < 8 → hi τ 38 h = a.rota h := fun f hd h hh => by
    have := ha.1 h hh
    rw [Nat.zero_add] at this
    exact (f.i (dn_out hd (by decide) (by decide))).trans this
  have ti : ∀ {τ : Hp} {D F G : List Nat}, Fr D F G σ τ → D.contains 38 = false → ∀ h, h < 8 → hi τ 38 (8 + h) = a.tired h := fun f hd h hh => by
    have := ha.2.1 h hh
    rw [Nat.zero_add] at this
    exact (f.i (dn_out hd (by decide) (by decide))).trans this
  have il : ∀ {τ : Hp} {D F G : List Nat}, Fr D F G σ τ → D.contains 38 = false → ∀ h, h < 8 → hi τ 38 (16 + h) = if a.ill.testBit h then 1 else 0 := fun f hd h hh => by
    have := ha.2.2.1 h hh
    rw [Nat.zero_add] at this
    exact (f.i (dn_out hd (by decide) (by decide))).trans this
  generalize hQ : (fun (_ : Unit) (τ : Hp) => Fr [47, 51, 52, 38] [] GG2 σ τ ∧ MH τ 38 0 (goN P a) ∧ hi τ 37 27 = nI (gapN P a) ∧ hi τ 37 28 = nI (ridN P a)) = Q
  unfold f_X3_goNight
  simp (disch := first | omega | exact x.s | exact hi_eq | ((repeat (first | exact x.s | apply sw_I | apply sw_L | apply sw_cp | apply sw_18 | apply sw_21 | apply sw_22 | apply sw_m12 | apply sw_m18)); done) | rfl) only [wp_ite, wp_some, y_jn, wp_r0, wp_r1, wp_b2, y_nn, w_bc, w_nt, wo_37, wg_37, wi_37, wl_38, ws_38, wl_50, ws_50, w_has3, w_isMan, w_areTwo, w_isHour3, w_in3, w_night, wtM_0, wtM_1, wtM_2, nI_add, nI_1, nI_mul, nI_and, nI_or, nI_sd, nI_sub, l_sub1, l_addm1, l_all, l_1shl, l_or0, l_add0, l_0add, l_m1, l_m1r, l_neg, l_nn, l_eq0, l_le0, l_0lt, l_eq1, l_m1lt, l_m1le, l_m1eq0, l_10, l_00, l_1le, nI_le_l, nI_lt_l, nI_eq_l, bc_nI, nt_nI, bit_nI, b2_ite, b2_ite1, nI_max, nI_min, isR_nI, n_100, n_2, n_24, n_25, n_26, n_27, hi_ne, hi_ni, hi_eq, y_iL, y_iR, y_lI, y_lR, hl_ne, hl_ni, hl_eq, y_rI, y_rL, if_true, if_false, if_pos, if_neg, true_and, and_true, not_true_eq_false, not_false_eq_true, x.n, x.h, x.b, x.mo, x.wi, x.ca]
  refine wp_up 8 (fun i y τ => y = nI i ∧ Fr [51, 52] [] [27, 28] σ τ ∧ hi τ 37 27 = 0 ∧ hi τ 37 28 = 0 ∧ ∀ r, r < i → hi τ 51 r = 0 ∧ hi τ 52 r = 0) (fun ag i y τ hi' hJ hag => ?_) (fun ag y τ hJ => ?_) (by decide) ⟨rfl, (Fr.refl.putI rfl).putI rfl, rfl, rfl, fun r hr' => by omega⟩
  · obtain ⟨rfl, f, j1, j2, j3⟩ := hJ
    replace x := x0.fr f rfl
    unfold f_X3_goNight_b12
    simp (disch := first | omega | exact x.s | exact hi_eq | ((repeat (first | exact x.s | apply sw_I | apply sw_L | apply sw_cp | apply sw_18 | apply sw_21 | apply sw_22 | apply sw_m12 | apply sw_m18)); done) | rfl) only [wp_ite, wp_some, y_jn, wp_r0, wp_r1, wp_b2, y_nn, w_bc, w_nt, wo_37, wg_37, wi_37, wr_37_29, wr_37_30, wl_51, ws_51, wl_52, ws_52, w_has3, w_isMan, w_areTwo, w_isHour3, w_in3, w_night, wtM_0, wtM_1, wtM_2, nI_add, nI_1, nI_mul, nI_and, nI_or, nI_sd, nI_sub, l_sub1, l_addm1, l_all, l_1shl, l_or0, l_add0, l_0add, l_m1, l_m1r, l_neg, l_nn, l_eq0, l_le0, l_0lt, l_eq1, l_m1lt, l_m1le, l_m1eq0, l_10, l_00, l_1le, nI_le_l, nI_lt_l, nI_eq_l, bc_nI, nt_nI, bit_nI, b2_ite, b2_ite1, nI_max, nI_min, isR_nI, n_2, n_30, n_8, hi_ne, hi_ni, hi_eq, y_iL, y_iR, y_lI, y_lR, hl_ne, hl_ni, hl_eq, y_rI, y_rL, if_true, if_false, if_pos, if_neg, true_and, and_true, not_true_eq_false, not_false_eq_true, x.n, x.h, x.b, x.mo, x.wi, x.ca]
    refine hag _ _ ⟨rfl, (f.putI rfl).putI rfl, by rw [hi_ne (by decide), hi_ne (by decide)]; exact j1, by rw [hi_ne (by decide), hi_ne (by decide)]; exact j2, fun r hr' => ?_⟩
    by_cases e : r = i
    · subst e
      exact ⟨by rw [hi_ne (by decide), hi_eq], by rw [hi_eq]⟩
    · obtain ⟨k1, k2⟩ := j3 r (by omega)
      exact ⟨by rw [hi_ne (by decide), hi_ni e]; exact k1, by rw [hi_ni e, hi_ne (by decide)]; exact k2⟩
  · obtain ⟨rfl, f, j1, j2, j3⟩ := hJ
    unfold f_X3_goNight_b12
    simp (disch := first | omega | exact x0.s | exact hi_eq | ((repeat (first | exact x0.s | apply sw_I | apply sw_L | apply sw_cp | apply sw_18 | apply sw_21 | apply sw_22 | apply sw_m12 | apply sw_m18)); done) | rfl) only [wp_ite, wp_some, y_jn, wp_r0, wp_r1, wp_b2, y_nn, w_bc, w_nt, wo_37, wg_37, wi_37, wr_37_29, wr_37_30, wl_51, ws_51, wl_52, ws_52, w_has3, w_isMan, w_areTwo, w_isHour3, w_in3, w_night, wtM_0, wtM_1, wtM_2, nI_add, nI_1, nI_mul, nI_and, nI_or, nI_sd, nI_sub, l_sub1, l_addm1, l_all, l_1shl, l_or0, l_add0, l_0add, l_m1, l_m1r, l_neg, l_nn, l_eq0, l_le0, l_0lt, l_eq1, l_m1lt, l_m1le, l_m1eq0, l_10, l_00, l_1le, nI_le_l, nI_lt_l, nI_eq_l, bc_nI, nt_nI, bit_nI, b2_ite, b2_ite1, nI_max, nI_min, isR_nI, n_2, n_30, n_8, hi_ne, hi_ni, hi_eq, y_iL, y_iR, y_lI, y_lR, hl_ne, hl_ni, hl_eq, y_rI, y_rL, if_true, if_false, if_pos, if_neg, true_and, and_true, not_true_eq_false, not_false_eq_true, x0.n, x0.h, x0.b, x0.mo, x0.wi, x0.ca]
    refine wp_up P.hrs (fun i y τ => y = ((rdS P a i).1, nI i) ∧ Fr [47, 51, 52] [] GG2 σ τ ∧ hi τ 37 27 = nI (rdS P a i).2.1 ∧ hi τ 37 28 = nI (rdS P a i).2.2.1 ∧ ∀ r, r < 8 → hi τ 51 r = nI ((rdS P a i).2.2.2.1 r) ∧ hi τ 52 r = (rdS P a i).2.2.2.2 r) (fun ag i y τ hi' hJ hag => ?_) (fun ag y τ hJ => ?_) (by omega) ⟨rfl, f.mono rfl, j1, j2, j3⟩
    · obtain ⟨rfl, f, j1, j2, j3⟩ := hJ
      replace x := x0.fr f rfl
      have hro := hok.2 i (by omega)
      obtain ⟨hla, hgl, hrl, hrode⟩ := rdS_ok hok i (by omega)
      have hri := ro f rfl i (by omega)
      have st : rdS P a (i + 1) = if isRd P a (rdS P a i).2.2.2.1 i then
      (a.rota i, (rdS P a i).2.1 ||| (if isWd P a (rdS P a i).1 i then 2 ^ i else 0), (rdS P a i).2.2.1 ||| 2 ^ i, up1 (rdS P a i).2.2.2.1 (ix (a.rota i)) ((rdS P a i).2.2.2.1 (ix (a.rota i)) + 1), up1 (rdS P a i).2.2.2.2 (ix (a.rota i)) ((rdS P a i).2.2.2.2 (ix (a.rota i)) + hardI P a (ix (a.rota i)) i))
    else (-1, (rdS P a i).2.1 ||| 2 ^ i, (rdS P a i).2.2.1, (rdS P a i).2.2.2.1, (rdS P a i).2.2.2.2) := rfl
      rw [st] at hag
      generalize rdS P a i = R at *
      obtain ⟨last, gp, rd, rode, sore⟩ := R
      dsimp only at *
      have no : isRd P a rode i = false → wp (ag (-1, nI (i + 1)) (wI τ 37 27 (nI (gp ||| 2 ^ i)))) Q := fun hno => by
        simp only [hno, Bool.false_eq_true, if_false] at hag
        exact hag _ _ ⟨rfl, f.putI rfl, hi_eq, by rw [hi_ni (by decide)]; exact j2, fun r hr' => by rw [hi_ne (by decide), hi_ne (by decide)]; exact j3 r hr'⟩
      unfold f_X3_goNight_b42
      simp (disch := first | omega | exact x.s | exact hi_eq | ((repeat (first | exact x.s | apply sw_I | apply sw_L | apply sw_cp | apply sw_18 | apply sw_21 | apply sw_22 | apply sw_m12 | apply sw_m18)); done) | rfl) only [wp_ite, wp_some, wp_r0, wp_r1, wp_b2, y_nn, w_bc, w_nt, wo_37, wg_37, wi_37, wr_37_4, wr_37_5, wr_37_6, wr_37_29, wr_37_30, wl_38, ws_38, wl_39, ws_39, wl_40, ws_40, wl_41, ws_41, wl_50, ws_50, wl_51, ws_51, wl_52, ws_52, w_has3, w_isMan, w_areTwo, w_isHour3, w_in3, w_night, wtM_0, wtM_1, wtM_2, nI_add, nI_1, nI_mul, nI_and, nI_or, nI_sd, nI_sub, l_sub1, l_addm1, l_all, l_1shl, l_or0, l_add0, l_0add, l_m1, l_m1r, l_neg, l_nn, l_eq0, l_le0, l_0lt, l_eq1, l_m1lt, l_m1le, l_m1eq0, l_10, l_00, l_1le, nI_le_l, nI_lt_l, nI_eq_l, bc_nI, nt_nI, bit_nI, b2_ite, b2_ite1, nI_max, nI_min, isR_nI, n_100, n_16, n_2, n_27, n_30, n_4, n_5, n_6, hi_ne, hi_ni, hi_eq, y_iL, y_iR, y_lI, y_lR, hl_ne, hl_ni, hl_eq, y_rI, y_rL, if_true, if_false, if_pos, if_neg, true_and, and_true, not_true_eq_false, not_false_eq_true, x.n, x.h, x.b, x.mo, x.wi, x.ca, hri]
      refine wp_jn (fun x σ' => x = b2 (isRd P a rode i = true) ∧ τ = σ') (fun j hj => ?_) (fun x7 σ' hx => ?_)
      · have hj' := fun x (hx : x = b2 (isRd P a rode i = true)) => hj x τ ⟨hx, rfl⟩
        rcases hro with e | ⟨r, hr', e⟩
        · rw [e, if_pos rfl]
          exact hj' _ (by rw [isRd_none e]; rfl)
        · have m4 := x.m4 r
          have c8 := x.c8 r
          have hir := il f rfl r (by omega)
          have hrr := j3 r (by omega)
          have rr8 := hrode r
          have hk1 : isRd P a rode i = ((P.can r).testBit i && !(a.ill.testBit r) && decide (rode r < P.most r)) := by
            unfold isRd
            rw [e, ix_nI (by omega), show decide (¬ nI r < 0) = true from decide_eq_true (nI_pos (by omega)), Bool.true_and]
          rw [hk1] at hj'
          rw [e]
          simp (disch := first | omega | exact x.s | exact hi_eq | ((repeat (first | exact x.s | apply sw_I | apply sw_L | apply sw_cp | apply sw_18 | apply sw_21 | apply sw_22 | apply sw_m12 | apply sw_m18)); done) | rfl) only [wp_ite, wp_some, y_jn, wp_r0, wp_r1, wp_b2, y_nn, w_bc, w_nt, wo_37, wg_37, wi_37, wr_37_4, wr_37_5, wr_37_6, wr_37_29, wr_37_30, wl_38, ws_38, wl_39, ws_39, wl_40, ws_40, wl_41, ws_41, wl_50, ws_50, wl_51, ws_51, wl_52, ws_52, w_has3, w_isMan, w_areTwo, w_isHour3, w_in3, w_night, wtM_0, wtM_1, wtM_2, nI_add, nI_1, nI_mul, nI_and, nI_or, nI_sd, nI_sub, l_sub1, l_addm1, l_all, l_1shl, l_or0, l_add0, l_0add, l_m1, l_m1r, l_neg, l_nn, l_eq0, l_le0, l_0lt, l_eq1, l_m1lt, l_m1le, l_m1eq0, l_10, l_00, l_1le, nI_le_l, nI_lt_l, nI_eq_l, bc_nI, nt_nI, bit_nI, b2_ite, b2_ite1, nI_max, nI_min, isR_nI, n_100, n_16, n_2, n_27, n_30, n_4, n_5, n_6, hi_ne, hi_ni, hi_eq, y_iL, y_iR, y_lI, y_lR, hl_ne, hl_ni, hl_eq, y_rI, y_rL, if_true, if_false, if_pos, if_neg, true_and, and_true, not_true_eq_false, not_false_eq_true, x.n, x.h, x.b, x.mo, x.wi, x.ca, hir, hrr.1]
          by_cases t1 : (P.can r).testBit i = true
          · rw [if_pos t1]
            by_cases t2 : a.ill.testBit r = true
            · simp only [t2, if_true, l_10, if_false]
              exact hj' _ (by rw [t1, t2]; rfl)
            · simp only [t2, if_false, Bool.false_eq_true, l_00, if_true]
              by_cases t3 : P.most r ≤ rode r
              · rw [if_pos t3]
                exact hj' _ (by rw [decide_eq_false (show ¬ rode r < P.most r by omega), Bool.and_false]; rfl)
              · rw [if_neg t3]
                exact hj' _ (by rw [t1, Bool.eq_false_iff.mpr t2, decide_eq_true (show rode r < P.most r by omega)]; rfl)
          · rw [if_neg t1]
            exact hj' _ (by rw [Bool.eq_false_iff.mpr t1]; rfl)
      · obtain ⟨rfl, rfl⟩ := hx
        by_cases yes : isRd P a rode i = true
        · rcases hro with e | ⟨r, hr', e⟩
          · exact absurd yes (by rw [isRd_none e]; decide)
          · have hrr := j3 r (by omega)
            have hbb : b2 (isRd P a rode i = true) = 1 := by unfold b2; rw [if_pos yes]
            rw [hbb, e]
            simp only [yes, if_true] at hag
            rw [e, ix_nI (by omega)] at hag
            simp (disch := first | omega | exact x.s | exact hi_eq | ((repeat (first | exact x.s | apply sw_I | apply sw_L | apply sw_cp | apply sw_18 | apply sw_21 | apply sw_22 | apply sw_m12 | apply sw_m18)); done) | rfl) only [wp_ite, wp_some, y_jn, wp_r0, wp_r1, wp_b2, y_nn, w_bc, w_nt, wo_37, wg_37, wi_37, wr_37_4, wr_37_5, wr_37_6, wr_37_29, wr_37_30, wl_38, ws_38, wl_39, ws_39, wl_40, ws_40, wl_41, ws_41, wl_50, ws_50, wl_51, ws_51, wl_52, ws_52, w_has3, w_isMan, w_areTwo, w_isHour3, w_in3, w_night, wtM_0, wtM_1, wtM_2, nI_add, nI_1, nI_mul, nI_and, nI_or, nI_sd, nI_sub, l_sub1, l_addm1, l_all, l_1shl, l_or0, l_add0, l_0add, l_m1, l_m1r, l_neg, l_nn, l_eq0, l_le0, l_0lt, l_eq1, l_m1lt, l_m1le, l_m1eq0, l_10, l_00, l_1le, nI_le_l, nI_lt_l, nI_eq_l, bc_nI, nt_nI, bit_nI, b2_ite, b2_ite1, nI_max, nI_min, isR_nI, n_100, n_16, n_2, n_27, n_30, n_4, n_5, n_6, hi_ne, hi_ni, hi_eq, y_iL, y_iR, y_lI, y_lR, hl_ne, hl_ni, hl_eq, y_rI, y_rL, if_true, if_false, if_pos, if_neg, true_and, and_true, not_true_eq_false, not_false_eq_true, x.n, x.h, x.b, x.mo, x.wi, x.ca, hrr.1, hrr.2]
            have F1 : Fr [47, 51, 52] [] GG2 σ (wI τ 51 r (nI (rode r + 1))) := f.putI rfl
            have x1 := x0.fr F1 rfl
            rw [wp_bnd]
            refine wp_mono (m_hardOf x1.s x1.2.1 x1.pk (so_38 x1.s) (sl_38 x1.s) ⟨by decide, by decide, by decide⟩ (ha.fr F1 (by decide) (by decide) rfl) hr' (by omega)) (fun y τ2 h => ?_)
            obtain ⟨rfl, f2⟩ := h
            have F2 := F1.then f2 rfl
            replace x := x0.fr F2 rfl
            have g1 : hi τ2 37 27 = nI gp := by rw [f2.i rfl, hi_ne (by decide)]; exact j1
            have g2 : hi τ2 37 28 = nI rd := by rw [f2.i rfl, hi_ne (by decide)]; exact j2
            have g3 : ∀ q, q < 8 → hi τ2 51 q = nI (up1 rode r (rode r + 1) q) ∧ hi τ2 52 q = sore q := fun q hq => by
              rw [f2.i rfl, f2.i rfl, hi_ne (a := 51) (b := 52) (by decide)]
              unfold up1
              by_cases eq : q = r
              · rw [eq, hi_eq, if_pos rfl]; exact ⟨rfl, hrr.2⟩
              · rw [hi_ni eq, if_neg eq]; exact j3 q hq
            have fin : ∀ g τ3, g = gp ||| (if isWd P a last i then 2 ^ i else 0) → Fr [47, 51, 52] [] GG2 σ τ3 → hi τ3 37 27 = nI g → hi τ3 37 28 = nI (rd ||| 2 ^ i) → hi τ3 51 = hi τ2 51 → hi τ3 52 = hi (wI τ2 52 r (sore r + hardI P a r i)) 52 → wp (ag (nI r, nI (i + 1)) τ3) Q := fun g τ3 hg F3 b1 b2 b3 b4 =>
              hag _ _ ⟨rfl, F3, by rw [b1, hg], b2, fun q hq => by
                rw [b3, b4]
                refine ⟨(g3 q hq).1, ?_⟩
                unfold up1
                by_cases eq : q = r
                · rw [eq, hi_eq, if_pos rfl]
                · rw [hi_ni eq, if_neg eq]; exact (g3 q hq).2⟩
            simp (disch := first | omega | exact x.s | exact hi_eq | ((repeat (first | exact x.s | apply sw_I | apply sw_L | apply sw_cp | apply sw_18 | apply sw_21 | apply sw_22 | apply sw_m12 | apply sw_m18)); done) | rfl) only [wp_ite, wp_some, y_jn, wp_r0, wp_r1, wp_b2, y_nn, w_bc, w_nt, wo_37, wg_37, wi_37, wr_37_4, wr_37_5, wr_37_6, wr_37_29, wr_37_30, wl_38, ws_38, wl_39, ws_39, wl_40, ws_40, wl_41, ws_41, wl_50, ws_50, wl_51, ws_51, wl_52, ws_52, w_has3, w_isMan, w_areTwo, w_isHour3, w_in3, w_night, wtM_0, wtM_1, wtM_2, nI_add, nI_1, nI_mul, nI_and, nI_or, nI_sd, nI_sub, l_sub1, l_addm1, l_all, l_1shl, l_or0, l_add0, l_0add, l_m1, l_m1r, l_neg, l_nn, l_eq0, l_le0, l_0lt, l_eq1, l_m1lt, l_m1le, l_m1eq0, l_10, l_00, l_1le, nI_le_l, nI_lt_l, nI_eq_l, bc_nI, nt_nI, bit_nI, b2_ite, b2_ite1, nI_max, nI_min, isR_nI, n_100, n_16, n_2, n_27, n_30, n_4, n_5, n_6, hi_ne, hi_ni, hi_eq, y_iL, y_iR, y_lI, y_lR, hl_ne, hl_ni, hl_eq, y_rI, y_rL, if_true, if_false, if_pos, if_neg, true_and, and_true, not_true_eq_false, not_false_eq_true, x.n, x.h, x.b, x.mo, x.wi, x.ca, g1, g2]
            rcases hla with el | ⟨q, hq', el⟩
            · have hw : isWd P a last i = false := isWd_none el
              rw [el]
              simp (disch := first | omega | exact x.s | exact hi_eq | ((repeat (first | exact x.s | apply sw_I | apply sw_L | apply sw_cp | apply sw_18 | apply sw_21 | apply sw_22 | apply sw_m12 | apply sw_m18)); done) | rfl) only [wp_ite, wp_some, y_jn, wp_r0, wp_r1, wp_b2, y_nn, w_bc, w_nt, wo_37, wg_37, wi_37, wr_37_4, wr_37_5, wr_37_6, wr_37_29, wr_37_30, wl_38, ws_38, wl_39, ws_39, wl_40, ws_40, wl_41, ws_41, wl_50, ws_50, wl_51, ws_51, wl_52, ws_52, w_has3, w_isMan, w_areTwo, w_isHour3, w_in3, w_night, wtM_0, wtM_1, wtM_2, nI_add, nI_1, nI_mul, nI_and, nI_or, nI_sd, nI_sub, l_sub1, l_addm1, l_all, l_1shl, l_or0, l_add0, l_0add, l_m1, l_m1r, l_neg, l_nn, l_eq0, l_le0, l_0lt, l_eq1, l_m1lt, l_m1le, l_m1eq0, l_10, l_00, l_1le, nI_le_l, nI_lt_l, nI_eq_l, bc_nI, nt_nI, bit_nI, b2_ite, b2_ite1, nI_max, nI_min, isR_nI, n_100, n_16, n_2, n_27, n_30, n_4, n_5, n_6, hi_ne, hi_ni, hi_eq, y_iL, y_iR, y_lI, y_lR, hl_ne, hl_ni, hl_eq, y_rI, y_rL, if_true, if_false, if_pos, if_neg, true_and, and_true, not_true_eq_false, not_false_eq_true, x.n, x.h, x.b, x.mo, x.wi, x.ca]
              exact fin gp _ (by rw [hw]; simp) ((F2.putI rfl).putI rfl) (by rw [hi_ni (by decide), hi_ne (by decide)]; exact g1) hi_eq (by rw [hi_ne (by decide), hi_ne (by decide)]) (by rw [hi_ne (by decide)])
            · have k2 := x.w9 q
              have k3 := x.w9 r
              have hb9 := x.b9
              have ha9 : absd (P.width q) (P.width r) ≤ 9 := by unfold absd; split <;> omega
              have hw1 : isWd P a last i = (decide (¬ q = r) && decide (P.beats < absd (P.width q) (P.width r))) := by
                unfold isWd
                rw [e, el, ix_nI (by omega), ix_nI (by omega), show decide (¬ nI q < 0) = true from decide_eq_true (nI_pos (by omega)), Bool.true_and]
                congr 1
                exact decide_eq_decide.mpr (not_congr (nI_eq (by omega) (by omega)))
              rw [el]
              simp (disch := first | omega | exact x.s | exact hi_eq | ((repeat (first | exact x.s | apply sw_I | apply sw_L | apply sw_cp | apply sw_18 | apply sw_21 | apply sw_22 | apply sw_m12 | apply sw_m18)); done) | rfl) only [wp_ite, wp_some, y_jn, wp_r0, wp_r1, wp_b2, y_nn, w_bc, w_nt, wo_37, wg_37, wi_37, wr_37_4, wr_37_5, wr_37_6, wr_37_29, wr_37_30, wl_38, ws_38, wl_39, ws_39, wl_40, ws_40, wl_41, ws_41, wl_50, ws_50, wl_51, ws_51, wl_52, ws_52, w_has3, w_isMan, w_areTwo, w_isHour3, w_in3, w_night, wtM_0, wtM_1, wtM_2, nI_add, nI_1, nI_mul, nI_and, nI_or, nI_sd, nI_sub, l_sub1, l_addm1, l_all, l_1shl, l_or0, l_add0, l_0add, l_m1, l_m1r, l_neg, l_nn, l_eq0, l_le0, l_0lt, l_eq1, l_m1lt, l_m1le, l_m1eq0, l_10, l_00, l_1le, nI_le_l, nI_lt_l, nI_eq_l, bc_nI, nt_nI, bit_nI, b2_ite, b2_ite1, nI_max, nI_min, isR_nI, n_100, n_16, n_2, n_27, n_30, n_4, n_5, n_6, hi_ne, hi_ni, hi_eq, y_iL, y_iR, y_lI, y_lR, hl_ne, hl_ni, hl_eq, y_rI, y_rL, if_true, if_false, if_pos, if_neg, true_and, and_true, not_true_eq_false, not_false_eq_true, x.n, x.h, x.b, x.mo, x.wi, x.ca, absd_nI]
              by_cases t4 : q = r
              · rw [if_pos t4]
                exact fin gp _ (by rw [hw1, decide_eq_false (fun z => z t4)]; simp) ((F2.putI rfl).putI rfl) (by rw [hi_ni (by decide), hi_ne (by decide)]; exact g1) hi_eq (by rw [hi_ne (by decide), hi_ne (by decide)]) (by rw [hi_ne (by decide)])
              · rw [if_neg t4]
                by_cases t5 : absd (P.width q) (P.width r) ≤ P.beats
                · rw [if_pos t5]
                  exact fin gp _ (by rw [hw1, decide_eq_false (show ¬ P.beats < absd (P.width q) (P.width r) by omega)]; simp) ((F2.putI rfl).putI rfl) (by rw [hi_ni (by decide), hi_ne (by decide)]; exact g1) hi_eq (by rw [hi_ne (by decide), hi_ne (by decide)]) (by rw [hi_ne (by decide)])
                · rw [if_neg t5]
                  simp (disch := first | omega | exact x.s | exact hi_eq | ((repeat (first | exact x.s | apply sw_I | apply sw_L | apply sw_cp | apply sw_18 | apply sw_21 | apply sw_22 | apply sw_m12 | apply sw_m18)); done) | rfl) only [wp_ite, wp_some, y_jn, wp_r0, wp_r1, wp_b2, y_nn, w_bc, w_nt, wo_37, wg_37, wi_37, wr_37_4, wr_37_5, wr_37_6, wr_37_29, wr_37_30, wl_38, ws_38, wl_39, ws_39, wl_40, ws_40, wl_41, ws_41, wl_50, ws_50, wl_51, ws_51, wl_52, ws_52, w_has3, w_isMan, w_areTwo, w_isHour3, w_in3, w_night, wtM_0, wtM_1, wtM_2, nI_add, nI_1, nI_mul, nI_and, nI_or, nI_sd, nI_sub, l_sub1, l_addm1, l_all, l_1shl, l_or0, l_add0, l_0add, l_m1, l_m1r, l_neg, l_nn, l_eq0, l_le0, l_0lt, l_eq1, l_m1lt, l_m1le, l_m1eq0, l_10, l_00, l_1le, nI_le_l, nI_lt_l, nI_eq_l, bc_nI, nt_nI, bit_nI, b2_ite, b2_ite1, nI_max, nI_min, isR_nI, n_100, n_16, n_2, n_27, n_30, n_4, n_5, n_6, hi_ne, hi_ni, hi_eq, y_iL, y_iR, y_lI, y_lR, hl_ne, hl_ni, hl_eq, y_rI, y_rL, if_true, if_false, if_pos, if_neg, true_and, and_true, not_true_eq_false, not_false_eq_true, x.n, x.h, x.b, x.mo, x.wi, x.ca, g1]
                  exact fin (gp ||| 2 ^ i) _ (by rw [hw1, decide_eq_true (show P.beats < absd (P.width q) (P.width r) by omega), decide_eq_true t4]; rfl) (((F2.putI rfl).putI rfl).putI rfl) hi_eq (by rw [hi_ni (by decide), hi_eq]) (by rw [hi_ne (by decide), hi_ne (by decide), hi_ne (by decide)]) (by rw [hi_ne (by decide), hi_ne (by decide)])
        · have hbb : b2 (isRd P a rode i = true) = 0 := by unfold b2; rw [if_neg yes]
          rw [hbb]
          simp (disch := first | omega | exact x.s | exact hi_eq | ((repeat (first | exact x.s | apply sw_I | apply sw_L | apply sw_cp | apply sw_18 | apply sw_21 | apply sw_22 | apply sw_m12 | apply sw_m18)); done) | rfl) only [wp_ite, wp_some, y_jn, wp_r0, wp_r1, wp_b2, y_nn, w_bc, w_nt, wo_37, wg_37, wi_37, wr_37_4, wr_37_5, wr_37_6, wr_37_29, wr_37_30, wl_38, ws_38, wl_39, ws_39, wl_40, ws_40, wl_41, ws_41, wl_50, ws_50, wl_51, ws_51, wl_52, ws_52, w_has3, w_isMan, w_areTwo, w_isHour3, w_in3, w_night, wtM_0, wtM_1, wtM_2, nI_add, nI_1, nI_mul, nI_and, nI_or, nI_sd, nI_sub, l_sub1, l_addm1, l_all, l_1shl, l_or0, l_add0, l_0add, l_m1, l_m1r, l_neg, l_nn, l_eq0, l_le0, l_0lt, l_eq1, l_m1lt, l_m1le, l_m1eq0, l_10, l_00, l_1le, nI_le_l, nI_lt_l, nI_eq_l, bc_nI, nt_nI, bit_nI, b2_ite, b2_ite1, nI_max, nI_min, isR_nI, n_100, n_16, n_2, n_27, n_30, n_4, n_5, n_6, hi_ne, hi_ni, hi_eq, y_iL, y_iR, y_lI, y_lR, hl_ne, hl_ni, hl_eq, y_rI, y_rL, if_true, if_false, if_pos, if_neg, true_and, and_true, not_true_eq_false, not_false_eq_true, x.n, x.h, x.b, x.mo, x.wi, x.ca, j1]
          exact no (Bool.eq_false_iff.mpr yes)
    · obtain ⟨rfl, f, j1, j2, j3⟩ := hJ
      replace x := x0.fr f rfl
      have g8 := gapN_lt x.pk hok
      have r8 := ridN_lt x.pk hok
      have rr := (rdS_ok hok P.hrs h8).2.2.2
      unfold f_X3_goNight_b42
      simp (disch := first | omega | exact x.s | exact hi_eq | ((repeat (first | exact x.s | apply sw_I | apply sw_L | apply sw_cp | apply sw_18 | apply sw_21 | apply sw_22 | apply sw_m12 | apply sw_m18)); done) | rfl) only [wp_ite, wp_some, y_jn, wp_r0, wp_r1, wp_b2, y_nn, w_bc, w_nt, wo_37, wg_37, wi_37, wr_37_4, wr_37_5, wr_37_6, wr_37_29, wr_37_30, wl_38, ws_38, wl_39, ws_39, wl_40, ws_40, wl_41, ws_41, wl_50, ws_50, wl_51, ws_51, wl_52, ws_52, w_has3, w_isMan, w_areTwo, w_isHour3, w_in3, w_night, wtM_0, wtM_1, wtM_2, nI_add, nI_1, nI_mul, nI_and, nI_or, nI_sd, nI_sub, l_sub1, l_addm1, l_all, l_1shl, l_or0, l_add0, l_0add, l_m1, l_m1r, l_neg, l_nn, l_eq0, l_le0, l_0lt, l_eq1, l_m1lt, l_m1le, l_m1eq0, l_10, l_00, l_1le, nI_le_l, nI_lt_l, nI_eq_l, bc_nI, nt_nI, bit_nI, b2_ite, b2_ite1, nI_max, nI_min, isR_nI, n_100, n_16, n_2, n_27, n_30, n_4, n_5, n_6, hi_ne, hi_ni, hi_eq, y_iL, y_iR, y_lI, y_lR, hl_ne, hl_ni, hl_eq, y_rI, y_rL, if_true, if_false, if_pos, if_neg, true_and, and_true, not_true_eq_false, not_false_eq_true, x.n, x.h, x.b, x.mo, x.wi, x.ca]
      refine wp_up P.n (fun i y τ2 => y = nI i ∧ Fr [38] [] [] τ τ2 ∧ (∀ r, r < i → hi τ2 38 (8 + r) = (goN P a).tired r) ∧ ∀ k, k < 8 ∨ 8 + i ≤ k → hi τ2 38 k = hi τ 38 k) (fun ag i y τ2 hi' hJ hag => ?_) (fun ag y τ2 hJ => ?_) (by omega) ⟨rfl, Fr.refl, fun r hr' => by omega, fun _ _ => rfl⟩
      · obtain ⟨rfl, f2, k1, k2⟩ := hJ
        have F2 : Fr [47, 51, 52, 38] [] GG2 σ τ2 := (f.mono rfl).then f2 rfl
        have x1 : MY τ2 P := ⟨F2.sh x0.s rfl, x.2.1.fr f2 rfl, x.pk⟩
        replace x := x1
        have v1 : hi τ2 51 i = nI ((rdS P a P.hrs).2.2.2.1 i) := (f2.i rfl).trans (j3 i (by omega)).1
        have v2 : hi τ2 52 i = (rdS P a P.hrs).2.2.2.2 i := (f2.i rfl).trans (j3 i (by omega)).2
        have v3 : hi τ2 38 (8 + i) = a.tired i := by rw [k2 (8 + i) (by omega)]; exact ti f rfl i (by omega)
        have v4 := rr i
        have gt : (goN P a).tired i = if (rdS P a P.hrs).2.2.2.1 i = 0 then imax 0 (a.tired i - 5) else imin 99 (a.tired i + (rdS P a P.hrs).2.2.2.2 i) := if_pos hi'
        have fin : ∀ w, w = (goN P a).tired i → wp (ag (nI (i + 1)) (wI τ2 38 (8 + i) w)) Q := fun w hw =>
          hag _ _ ⟨rfl, f2.putI rfl, fun r hr' => by
            by_cases e : r = i
            · rw [e, hi_eq, hw]
            · rw [hi_ni (by omega)]; exact k1 r (by omega), fun k hk' => by rw [hi_ni (by omega)]; exact k2 k (by omega)⟩
        generalize hz : (rdS P a P.hrs).2.2.2.1 i = z at *
        unfold f_X3_goNight_b237
        simp (disch := first | omega | exact x.s | exact hi_eq | ((repeat (first | exact x.s | apply sw_I | apply sw_L | apply sw_cp | apply sw_18 | apply sw_21 | apply sw_22 | apply sw_m12 | apply sw_m18)); done) | rfl) only [wp_ite, wp_some, y_jn, wp_r0, wp_r1, wp_b2, y_nn, w_bc, w_nt, wo_37, wg_37, wi_37, wr_37_29, wr_37_30, wl_38, ws_38, wl_50, ws_50, wl_51, ws_51, wl_52, ws_52, w_has3, w_isMan, w_areTwo, w_isHour3, w_in3, w_night, wtM_0, wtM_1, wtM_2, nI_add, nI_1, nI_mul, nI_and, nI_or, nI_sd, nI_sub, l_sub1, l_addm1, l_all, l_1shl, l_or0, l_add0, l_0add, l_m1, l_m1r, l_neg, l_nn, l_eq0, l_le0, l_0lt, l_eq1, l_m1lt, l_m1le, l_m1eq0, l_10, l_00, l_1le, nI_le_l, nI_lt_l, nI_eq_l, bc_nI, nt_nI, bit_nI, b2_ite, b2_ite1, nI_max, nI_min, isR_nI, n_100, n_2, n_3, n_30, n_5, n_8, n_99, hi_ne, hi_ni, hi_eq, y_iL, y_iR, y_lI, y_lR, hl_ne, hl_ni, hl_eq, y_rI, y_rL, if_true, if_false, if_pos, if_neg, true_and, and_true, not_true_eq_false, not_false_eq_true, x.n, x.h, x.b, x.mo, x.wi, x.ca, v1, v2, v3]
        split
        · rename_i e
          exact fin _ (by rw [gt, if_pos e]; rfl)
        · rename_i e
          exact fin _ (by rw [gt, if_neg e]; rfl)
      · obtain ⟨rfl, f2, k1, k2⟩ := hJ
        have F2 : Fr [47, 51, 52, 38] [] GG2 σ τ2 := (f.mono rfl).then f2 rfl
        have x1 : MY τ2 P := ⟨F2.sh x0.s rfl, x.2.1.fr f2 rfl, x.pk⟩
        replace x := x1
        have u1 : hi τ2 37 27 = nI (gapN P a) := (f2.i rfl).trans j1
        have u2 : hi τ2 37 28 = nI (ridN P a) := (f2.i rfl).trans j2
        have u3 : hi τ2 38 25 = a.gaps := by rw [k2 25 (by omega), f.i rfl]; exact ha.2.2.2.2.1
        have u4 : hi τ2 38 26 = a.rid := by rw [k2 26 (by omega), f.i rfl]; exact ha.2.2.2.2.2
        have u5 : hi τ2 38 24 = a.night := by rw [k2 24 (by omega), f.i rfl]; exact ha.2.2.2.1
        unfold f_X3_goNight_b237
        simp (disch := first | omega | exact x.s | exact hi_eq | ((repeat (first | exact x.s | apply sw_I | apply sw_L | apply sw_cp | apply sw_18 | apply sw_21 | apply sw_22 | apply sw_m12 | apply sw_m18)); done) | rfl) only [wp_ite, wp_some, y_jn, wp_r0, wp_r1, wp_b2, y_nn, w_bc, w_nt, wo_37, wg_37, wi_37, wr_37_29, wr_37_30, wl_38, ws_38, wl_50, ws_50, wl_51, ws_51, wl_52, ws_52, w_has3, w_isMan, w_areTwo, w_isHour3, w_in3, w_night, wtM_0, wtM_1, wtM_2, nI_add, nI_1, nI_mul, nI_and, nI_or, nI_sd, nI_sub, l_sub1, l_addm1, l_all, l_1shl, l_or0, l_add0, l_0add, l_m1, l_m1r, l_neg, l_nn, l_eq0, l_le0, l_0lt, l_eq1, l_m1lt, l_m1le, l_m1eq0, l_10, l_00, l_1le, nI_le_l, nI_lt_l, nI_eq_l, bc_nI, nt_nI, bit_nI, b2_ite, b2_ite1, nI_max, nI_min, isR_nI, n_100, n_2, n_24, n_25, n_26, n_27, n_3, n_30, n_5, n_8, n_99, hi_ne, hi_ni, hi_eq, y_iL, y_iR, y_lI, y_lR, hl_ne, hl_ni, hl_eq, y_rI, y_rL, if_true, if_false, if_pos, if_neg, true_and, and_true, not_true_eq_false, not_false_eq_true, x.n, x.h, x.b, x.mo, x.wi, x.ca, u1, u2, u3, u4, u5]
        rw [← hQ]
        have w1 : ∀ v1 v2 v3 k, k ≠ 24 → k ≠ 25 → k ≠ 26 → hi (wI (wI (wI τ2 38 25 v1) 38 26 v2) 38 24 v3) 38 k = hi τ2 38 k := fun v1 v2 v3 k h1 h2 h3 => by rw [hi_ni h1, hi_ni h3, hi_ni h2]
        refine ⟨((F2.putI rfl).putI rfl).putI rfl, ⟨fun h hh => ?_, fun r hr' => ?_, fun r hr' => ?_, ?_, ?_, ?_⟩, ?_, ?_⟩
        · rw [w1 _ _ _ _ (by omega) (by omega) (by omega), Nat.zero_add, k2 h (by omega)]; exact ro f rfl h hh
        · rw [w1 _ _ _ _ (by omega) (by omega) (by omega), Nat.zero_add]
          by_cases e : r < P.n
          · exact k1 r e
          · rw [k2 (8 + r) (by omega), ti f rfl r hr']
            exact (if_neg e).symm
        · rw [w1 _ _ _ _ (by omega) (by omega) (by omega), Nat.zero_add, k2 (16 + r) (by omega)]; exact il f rfl r hr'
        · show hi _ 38 24 = _; rw [hi_eq]; rfl
        · show hi _ 38 25 = _; rw [hi_ni (by decide), hi_ni (by decide), hi_eq]; rfl
        · show hi _ 38 26 = _; rw [hi_ni (by decide), hi_eq]; rfl
        · rw [hi_ne (by decide), hi_ne (by decide), hi_ne (by decide)]; exact u1
        · rw [hi_ne (by decide), hi_ne (by decide), hi_ne (by decide)]; exact u2
theorem m_goNight_50 (x : MY σ P) (ha : MH σ 50 0 a) (hok : HOK P.n a) : wp (f_X3_goNight (some 37) (some 50) σ) (fun _ τ => Fr [47, 51, 52, 50] [] GG2 σ τ ∧ MH τ 50 0 (goN P a) ∧ hi τ 37 27 = nI (gapN P a) ∧ hi τ 37 28 = nI (ridN P a)) := by
  have n8 := x.n8
  have h8 := x.h8
  have x0 := x
  have i8 := ill_lt n8 hok
  have ro : ∀ {τ : Hp} {D F G : List Nat}, Fr D F G σ τ → D.contains 50 = false → ∀ h, h < 8 → hi τ 50 h = a.rota h := fun f hd h hh => by
    have := ha.1 h hh
    rw [Nat.zero_add] at this
    exact (f.i (dn_out hd (by decide) (by decide))).trans this
  have ti : ∀ {τ : Hp} {D F G : List Nat}, Fr D F G σ τ → D.contains 50 = false → ∀ h, h < 8 → hi τ 50 (8 + h) = a.tired h := fun f hd h hh => by
    have := ha.2.1 h hh
    rw [Nat.zero_add] at this
    exact (f.i (dn_out hd (by decide) (by decide))).trans this
  have il : ∀ {τ : Hp} {D F G : List Nat}, Fr D F G σ τ → D.contains 50 = false → ∀ h, h < 8 → hi τ 50 (16 + h) = if a.ill.testBit h then 1 else 0 := fun f hd h hh => by
    have := ha.2.2.1 h hh
    rw [Nat.zero_add] at this
    exact (f.i (dn_out hd (by decide) (by decide))).trans this
  generalize hQ : (fun (_ : Unit) (τ : Hp) => Fr [47, 51, 52, 50] [] GG2 σ τ ∧ MH τ 50 0 (goN P a) ∧ hi τ 37 27 = nI (gapN P a) ∧ hi τ 37 28 = nI (ridN P a)) = Q
  unfold f_X3_goNight
  simp (disch := first | omega | exact x.s | exact hi_eq | ((repeat (first | exact x.s | apply sw_I | apply sw_L | apply sw_cp | apply sw_18 | apply sw_21 | apply sw_22 | apply sw_m12 | apply sw_m18)); done) | rfl) only [wp_ite, wp_some, y_jn, wp_r0, wp_r1, wp_b2, y_nn, w_bc, w_nt, wo_37, wg_37, wi_37, wl_38, ws_38, wl_50, ws_50, w_has3, w_isMan, w_areTwo, w_isHour3, w_in3, w_night, wtM_0, wtM_1, wtM_2, nI_add, nI_1, nI_mul, nI_and, nI_or, nI_sd, nI_sub, l_sub1, l_addm1, l_all, l_1shl, l_or0, l_add0, l_0add, l_m1, l_m1r, l_neg, l_nn, l_eq0, l_le0, l_0lt, l_eq1, l_m1lt, l_m1le, l_m1eq0, l_10, l_00, l_1le, nI_le_l, nI_lt_l, nI_eq_l, bc_nI, nt_nI, bit_nI, b2_ite, b2_ite1, nI_max, nI_min, isR_nI, n_100, n_2, n_24, n_25, n_26, n_27, hi_ne, hi_ni, hi_eq, y_iL, y_iR, y_lI, y_lR, hl_ne, hl_ni, hl_eq, y_rI, y_rL, if_true, if_false, if_pos, if_neg, true_and, and_true, not_true_eq_false, not_false_eq_true, x.n, x.h, x.b, x.mo, x.wi, x.ca]
  refine wp_up 8 (fun i y τ => y = nI i ∧ Fr [51, 52] [] [27, 28] σ τ ∧ hi τ 37 27 = 0 ∧ hi τ 37 28 = 0 ∧ ∀ r, r < i → hi τ 51 r = 0 ∧ hi τ 52 r = 0) (fun ag i y τ hi' hJ hag => ?_) (fun ag y τ hJ => ?_) (by decide) ⟨rfl, (Fr.refl.putI rfl).putI rfl, rfl, rfl, fun r hr' => by omega⟩
  · obtain ⟨rfl, f, j1, j2, j3⟩ := hJ
    replace x := x0.fr f rfl
    unfold f_X3_goNight_b12
    simp (disch := first | omega | exact x.s | exact hi_eq | ((repeat (first | exact x.s | apply sw_I | apply sw_L | apply sw_cp | apply sw_18 | apply sw_21 | apply sw_22 | apply sw_m12 | apply sw_m18)); done) | rfl) only [wp_ite, wp_some, y_jn, wp_r0, wp_r1, wp_b2, y_nn, w_bc, w_nt, wo_37, wg_37, wi_37, wr_37_29, wr_37_30, wl_51, ws_51, wl_52, ws_52, w_has3, w_isMan, w_areTwo, w_isHour3, w_in3, w_night, wtM_0, wtM_1, wtM_2, nI_add, nI_1, nI_mul, nI_and, nI_or, nI_sd, nI_sub, l_sub1, l_addm1, l_all, l_1shl, l_or0, l_add0, l_0add, l_m1, l_m1r, l_neg, l_nn, l_eq0, l_le0, l_0lt, l_eq1, l_m1lt, l_m1le, l_m1eq0, l_10, l_00, l_1le, nI_le_l, nI_lt_l, nI_eq_l, bc_nI, nt_nI, bit_nI, b2_ite, b2_ite1, nI_max, nI_min, isR_nI, n_2, n_30, n_8, hi_ne, hi_ni, hi_eq, y_iL, y_iR, y_lI, y_lR, hl_ne, hl_ni, hl_eq, y_rI, y_rL, if_true, if_false, if_pos, if_neg, true_and, and_true, not_true_eq_false, not_false_eq_true, x.n, x.h, x.b, x.mo, x.wi, x.ca]
    refine hag _ _ ⟨rfl, (f.putI rfl).putI rfl, by rw [hi_ne (by decide), hi_ne (by decide)]; exact j1, by rw [hi_ne (by decide), hi_ne (by decide)]; exact j2, fun r hr' => ?_⟩
    by_cases e : r = i
    · subst e
      exact ⟨by rw [hi_ne (by decide), hi_eq], by rw [hi_eq]⟩
    · obtain ⟨k1, k2⟩ := j3 r (by omega)
      exact ⟨by rw [hi_ne (by decide), hi_ni e]; exact k1, by rw [hi_ni e, hi_ne (by decide)]; exact k2⟩
  · obtain ⟨rfl, f, j1, j2, j3⟩ := hJ
    unfold f_X3_goNight_b12
    simp (disch := first | omega | exact x0.s | exact hi_eq | ((repeat (first | exact x0.s | apply sw_I | apply sw_L | apply sw_cp | apply sw_18 | apply sw_21 | apply sw_22 | apply sw_m12 | apply sw_m18)); done) | rfl) only [wp_ite, wp_some, y_jn, wp_r0, wp_r1, wp_b2, y_nn, w_bc, w_nt, wo_37, wg_37, wi_37, wr_37_29, wr_37_30, wl_51, ws_51, wl_52, ws_52, w_has3, w_isMan, w_areTwo, w_isHour3, w_in3, w_night, wtM_0, wtM_1, wtM_2, nI_add, nI_1, nI_mul, nI_and, nI_or, nI_sd, nI_sub, l_sub1, l_addm1, l_all, l_1shl, l_or0, l_add0, l_0add, l_m1, l_m1r, l_neg, l_nn, l_eq0, l_le0, l_0lt, l_eq1, l_m1lt, l_m1le, l_m1eq0, l_10, l_00, l_1le, nI_le_l, nI_lt_l, nI_eq_l, bc_nI, nt_nI, bit_nI, b2_ite, b2_ite1, nI_max, nI_min, isR_nI, n_2, n_30, n_8, hi_ne, hi_ni, hi_eq, y_iL, y_iR, y_lI, y_lR, hl_ne, hl_ni, hl_eq, y_rI, y_rL, if_true, if_false, if_pos, if_neg, true_and, and_true, not_true_eq_false, not_false_eq_true, x0.n, x0.h, x0.b, x0.mo, x0.wi, x0.ca]
    refine wp_up P.hrs (fun i y τ => y = ((rdS P a i).1, nI i) ∧ Fr [47, 51, 52] [] GG2 σ τ ∧ hi τ 37 27 = nI (rdS P a i).2.1 ∧ hi τ 37 28 = nI (rdS P a i).2.2.1 ∧ ∀ r, r < 8 → hi τ 51 r = nI ((rdS P a i).2.2.2.1 r) ∧ hi τ 52 r = (rdS P a i).2.2.2.2 r) (fun ag i y τ hi' hJ hag => ?_) (fun ag y τ hJ => ?_) (by omega) ⟨rfl, f.mono rfl, j1, j2, j3⟩
    · obtain ⟨rfl, f, j1, j2, j3⟩ := hJ
      replace x := x0.fr f rfl
      have hro := hok.2 i (by omega)
      obtain ⟨hla, hgl, hrl, hrode⟩ := rdS_ok hok i (by omega)
      have hri := ro f rfl i (by omega)
      have st : rdS P a (i + 1) = if isRd P a (rdS P a i).2.2.2.1 i then
      (a.rota i, (rdS P a i).2.1 ||| (if isWd P a (rdS P a i).1 i then 2 ^ i else 0), (rdS P a i).2.2.1 ||| 2 ^ i, up1 (rdS P a i).2.2.2.1 (ix (a.rota i)) ((rdS P a i).2.2.2.1 (ix (a.rota i)) + 1), up1 (rdS P a i).2.2.2.2 (ix (a.rota i)) ((rdS P a i).2.2.2.2 (ix (a.rota i)) + hardI P a (ix (a.rota i)) i))
    else (-1, (rdS P a i).2.1 ||| 2 ^ i, (rdS P a i).2.2.1, (rdS P a i).2.2.2.1, (rdS P a i).2.2.2.2) := rfl
      rw [st] at hag
      generalize rdS P a i = R at *
      obtain ⟨last, gp, rd, rode, sore⟩ := R
      dsimp only at *
      have no : isRd P a rode i = false → wp (ag (-1, nI (i + 1)) (wI τ 37 27 (nI (gp ||| 2 ^ i)))) Q := fun hno => by
        simp only [hno, Bool.false_eq_true, if_false] at hag
        exact hag _ _ ⟨rfl, f.putI rfl, hi_eq, by rw [hi_ni (by decide)]; exact j2, fun r hr' => by rw [hi_ne (by decide), hi_ne (by decide)]; exact j3 r hr'⟩
      unfold f_X3_goNight_b42
      simp (disch := first | omega | exact x.s | exact hi_eq | ((repeat (first | exact x.s | apply sw_I | apply sw_L | apply sw_cp | apply sw_18 | apply sw_21 | apply sw_22 | apply sw_m12 | apply sw_m18)); done) | rfl) only [wp_ite, wp_some, wp_r0, wp_r1, wp_b2, y_nn, w_bc, w_nt, wo_37, wg_37, wi_37, wr_37_4, wr_37_5, wr_37_6, wr_37_29, wr_37_30, wl_38, ws_38, wl_39, ws_39, wl_40, ws_40, wl_41, ws_41, wl_50, ws_50, wl_51, ws_51, wl_52, ws_52, w_has3, w_isMan, w_areTwo, w_isHour3, w_in3, w_night, wtM_0, wtM_1, wtM_2, nI_add, nI_1, nI_mul, nI_and, nI_or, nI_sd, nI_sub, l_sub1, l_addm1, l_all, l_1shl, l_or0, l_add0, l_0add, l_m1, l_m1r, l_neg, l_nn, l_eq0, l_le0, l_0lt, l_eq1, l_m1lt, l_m1le, l_m1eq0, l_10, l_00, l_1le, nI_le_l, nI_lt_l, nI_eq_l, bc_nI, nt_nI, bit_nI, b2_ite, b2_ite1, nI_max, nI_min, isR_nI, n_100, n_16, n_2, n_27, n_30, n_4, n_5, n_6, hi_ne, hi_ni, hi_eq, y_iL, y_iR, y_lI, y_lR, hl_ne, hl_ni, hl_eq, y_rI, y_rL, if_true, if_false, if_pos, if_neg, true_and, and_true, not_true_eq_false, not_false_eq_true, x.n, x.h, x.b, x.mo, x.wi, x.ca, hri]
      refine wp_jn (fun x σ' => x = b2 (isRd P a rode i = true) ∧ τ = σ') (fun j hj => ?_) (fun x7 σ' hx => ?_)
      · have hj' := fun x (hx : x = b2 (isRd P a rode i = true)) => hj x τ ⟨hx, rfl⟩
        rcases hro with e | ⟨r, hr', e⟩
        · rw [e, if_pos rfl]
          exact hj' _ (by rw [isRd_none e]; rfl)
        · have m4 := x.m4 r
          have c8 := x.c8 r
          have hir := il f rfl r (by omega)
          have hrr := j3 r (by omega)
          have rr8 := hrode r
          have hk1 : isRd P a rode i = ((P.can r).testBit i && !(a.ill.testBit r) && decide (rode r < P.most r)) := by
            unfold isRd
            rw [e, ix_nI (by omega), show decide (¬ nI r < 0) = true from decide_eq_true (nI_pos (by omega)), Bool.true_and]
          rw [hk1] at hj'
          rw [e]
          simp (disch := first | omega | exact x.s | exact hi_eq | ((repeat (first | exact x.s | apply sw_I | apply sw_L | apply sw_cp | apply sw_18 | apply sw_21 | apply sw_22 | apply sw_m12 | apply sw_m18)); done) | rfl) only [wp_ite, wp_some, y_jn, wp_r0, wp_r1, wp_b2, y_nn, w_bc, w_nt, wo_37, wg_37, wi_37, wr_37_4, wr_37_5, wr_37_6, wr_37_29, wr_37_30, wl_38, ws_38, wl_39, ws_39, wl_40, ws_40, wl_41, ws_41, wl_50, ws_50, wl_51, ws_51, wl_52, ws_52, w_has3, w_isMan, w_areTwo, w_isHour3, w_in3, w_night, wtM_0, wtM_1, wtM_2, nI_add, nI_1, nI_mul, nI_and, nI_or, nI_sd, nI_sub, l_sub1, l_addm1, l_all, l_1shl, l_or0, l_add0, l_0add, l_m1, l_m1r, l_neg, l_nn, l_eq0, l_le0, l_0lt, l_eq1, l_m1lt, l_m1le, l_m1eq0, l_10, l_00, l_1le, nI_le_l, nI_lt_l, nI_eq_l, bc_nI, nt_nI, bit_nI, b2_ite, b2_ite1, nI_max, nI_min, isR_nI, n_100, n_16, n_2, n_27, n_30, n_4, n_5, n_6, hi_ne, hi_ni, hi_eq, y_iL, y_iR, y_lI, y_lR, hl_ne, hl_ni, hl_eq, y_rI, y_rL, if_true, if_false, if_pos, if_neg, true_and, and_true, not_true_eq_false, not_false_eq_true, x.n, x.h, x.b, x.mo, x.wi, x.ca, hir, hrr.1]
          by_cases t1 : (P.can r).testBit i = true
          · rw [if_pos t1]
            by_cases t2 : a.ill.testBit r = true
            · simp only [t2, if_true, l_10, if_false]
              exact hj' _ (by rw [t1, t2]; rfl)
            · simp only [t2, if_false, Bool.false_eq_true, l_00, if_true]
              by_cases t3 : P.most r ≤ rode r
              · rw [if_pos t3]
                exact hj' _ (by rw [decide_eq_false (show ¬ rode r < P.most r by omega), Bool.and_false]; rfl)
              · rw [if_neg t3]
                exact hj' _ (by rw [t1, Bool.eq_false_iff.mpr t2, decide_eq_true (show rode r < P.most r by omega)]; rfl)
          · rw [if_neg t1]
            exact hj' _ (by rw [Bool.eq_false_iff.mpr t1]; rfl)
      · obtain ⟨rfl, rfl⟩ := hx
        by_cases yes : isRd P a rode i = true
        · rcases hro with e | ⟨r, hr', e⟩
          · exact absurd yes (by rw [isRd_none e]; decide)
          · have hrr := j3 r (by omega)
            have hbb : b2 (isRd P a rode i = true) = 1 := by unfold b2; rw [if_pos yes]
            rw [hbb, e]
            simp only [yes, if_true] at hag
            rw [e, ix_nI (by omega)] at hag
            simp (disch := first | omega | exact x.s | exact hi_eq | ((repeat (first | exact x.s | apply sw_I | apply sw_L | apply sw_cp | apply sw_18 | apply sw_21 | apply sw_22 | apply sw_m12 | apply sw_m18)); done) | rfl) only [wp_ite, wp_some, y_jn, wp_r0, wp_r1, wp_b2, y_nn, w_bc, w_nt, wo_37, wg_37, wi_37, wr_37_4, wr_37_5, wr_37_6, wr_37_29, wr_37_30, wl_38, ws_38, wl_39, ws_39, wl_40, ws_40, wl_41, ws_41, wl_50, ws_50, wl_51, ws_51, wl_52, ws_52, w_has3, w_isMan, w_areTwo, w_isHour3, w_in3, w_night, wtM_0, wtM_1, wtM_2, nI_add, nI_1, nI_mul, nI_and, nI_or, nI_sd, nI_sub, l_sub1, l_addm1, l_all, l_1shl, l_or0, l_add0, l_0add, l_m1, l_m1r, l_neg, l_nn, l_eq0, l_le0, l_0lt, l_eq1, l_m1lt, l_m1le, l_m1eq0, l_10, l_00, l_1le, nI_le_l, nI_lt_l, nI_eq_l, bc_nI, nt_nI, bit_nI, b2_ite, b2_ite1, nI_max, nI_min, isR_nI, n_100, n_16, n_2, n_27, n_30, n_4, n_5, n_6, hi_ne, hi_ni, hi_eq, y_iL, y_iR, y_lI, y_lR, hl_ne, hl_ni, hl_eq, y_rI, y_rL, if_true, if_false, if_pos, if_neg, true_and, and_true, not_true_eq_false, not_false_eq_true, x.n, x.h, x.b, x.mo, x.wi, x.ca, hrr.1, hrr.2]
            have F1 : Fr [47, 51, 52] [] GG2 σ (wI τ 51 r (nI (rode r + 1))) := f.putI rfl
            have x1 := x0.fr F1 rfl
            rw [wp_bnd]
            refine wp_mono (m_hardOf x1.s x1.2.1 x1.pk (so_50 x1.s) (sl_50 x1.s) ⟨by decide, by decide, by decide⟩ (ha.fr F1 (by decide) (by decide) rfl) hr' (by omega)) (fun y τ2 h => ?_)
            obtain ⟨rfl, f2⟩ := h
            have F2 := F1.then f2 rfl
            replace x := x0.fr F2 rfl
            have g1 : hi τ2 37 27 = nI gp := by rw [f2.i rfl, hi_ne (by decide)]; exact j1
            have g2 : hi τ2 37 28 = nI rd := by rw [f2.i rfl, hi_ne (by decide)]; exact j2
            have g3 : ∀ q, q < 8 → hi τ2 51 q = nI (up1 rode r (rode r + 1) q) ∧ hi τ2 52 q = sore q := fun q hq => by
              rw [f2.i rfl, f2.i rfl, hi_ne (a := 51) (b := 52) (by decide)]
              unfold up1
              by_cases eq : q = r
              · rw [eq, hi_eq, if_pos rfl]; exact ⟨rfl, hrr.2⟩
              · rw [hi_ni eq, if_neg eq]; exact j3 q hq
            have fin : ∀ g τ3, g = gp ||| (if isWd P a last i then 2 ^ i else 0) → Fr [47, 51, 52] [] GG2 σ τ3 → hi τ3 37 27 = nI g → hi τ3 37 28 = nI (rd ||| 2 ^ i) → hi τ3 51 = hi τ2 51 → hi τ3 52 = hi (wI τ2 52 r (sore r + hardI P a r i)) 52 → wp (ag (nI r, nI (i + 1)) τ3) Q := fun g τ3 hg F3 b1 b2 b3 b4 =>
              hag _ _ ⟨rfl, F3, by rw [b1, hg], b2, fun q hq => by
                rw [b3, b4]
                refine ⟨(g3 q hq).1, ?_⟩
                unfold up1
                by_cases eq : q = r
                · rw [eq, hi_eq, if_pos rfl]
                · rw [hi_ni eq, if_neg eq]; exact (g3 q hq).2⟩
            simp (disch := first | omega | exact x.s | exact hi_eq | ((repeat (first | exact x.s | apply sw_I | apply sw_L | apply sw_cp | apply sw_18 | apply sw_21 | apply sw_22 | apply sw_m12 | apply sw_m18)); done) | rfl) only [wp_ite, wp_some, y_jn, wp_r0, wp_r1, wp_b2, y_nn, w_bc, w_nt, wo_37, wg_37, wi_37, wr_37_4, wr_37_5, wr_37_6, wr_37_29, wr_37_30, wl_38, ws_38, wl_39, ws_39, wl_40, ws_40, wl_41, ws_41, wl_50, ws_50, wl_51, ws_51, wl_52, ws_52, w_has3, w_isMan, w_areTwo, w_isHour3, w_in3, w_night, wtM_0, wtM_1, wtM_2, nI_add, nI_1, nI_mul, nI_and, nI_or, nI_sd, nI_sub, l_sub1, l_addm1, l_all, l_1shl, l_or0, l_add0, l_0add, l_m1, l_m1r, l_neg, l_nn, l_eq0, l_le0, l_0lt, l_eq1, l_m1lt, l_m1le, l_m1eq0, l_10, l_00, l_1le, nI_le_l, nI_lt_l, nI_eq_l, bc_nI, nt_nI, bit_nI, b2_ite, b2_ite1, nI_max, nI_min, isR_nI, n_100, n_16, n_2, n_27, n_30, n_4, n_5, n_6, hi_ne, hi_ni, hi_eq, y_iL, y_iR, y_lI, y_lR, hl_ne, hl_ni, hl_eq, y_rI, y_rL, if_true, if_false, if_pos, if_neg, true_and, and_true, not_true_eq_false, not_false_eq_true, x.n, x.h, x.b, x.mo, x.wi, x.ca, g1, g2]
            rcases hla with el | ⟨q, hq', el⟩
            · have hw : isWd P a last i = false := isWd_none el
              rw [el]
              simp (disch := first | omega | exact x.s | exact hi_eq | ((repeat (first | exact x.s | apply sw_I | apply sw_L | apply sw_cp | apply sw_18 | apply sw_21 | apply sw_22 | apply sw_m12 | apply sw_m18)); done) | rfl) only [wp_ite, wp_some, y_jn, wp_r0, wp_r1, wp_b2, y_nn, w_bc, w_nt, wo_37, wg_37, wi_37, wr_37_4, wr_37_5, wr_37_6, wr_37_29, wr_37_30, wl_38, ws_38, wl_39, ws_39, wl_40, ws_40, wl_41, ws_41, wl_50, ws_50, wl_51, ws_51, wl_52, ws_52, w_has3, w_isMan, w_areTwo, w_isHour3, w_in3, w_night, wtM_0, wtM_1, wtM_2, nI_add, nI_1, nI_mul, nI_and, nI_or, nI_sd, nI_sub, l_sub1, l_addm1, l_all, l_1shl, l_or0, l_add0, l_0add, l_m1, l_m1r, l_neg, l_nn, l_eq0, l_le0, l_0lt, l_eq1, l_m1lt, l_m1le, l_m1eq0, l_10, l_00, l_1le, nI_le_l, nI_lt_l, nI_eq_l, bc_nI, nt_nI, bit_nI, b2_ite, b2_ite1, nI_max, nI_min, isR_nI, n_100, n_16, n_2, n_27, n_30, n_4, n_5, n_6, hi_ne, hi_ni, hi_eq, y_iL, y_iR, y_lI, y_lR, hl_ne, hl_ni, hl_eq, y_rI, y_rL, if_true, if_false, if_pos, if_neg, true_and, and_true, not_true_eq_false, not_false_eq_true, x.n, x.h, x.b, x.mo, x.wi, x.ca]
              exact fin gp _ (by rw [hw]; simp) ((F2.putI rfl).putI rfl) (by rw [hi_ni (by decide), hi_ne (by decide)]; exact g1) hi_eq (by rw [hi_ne (by decide), hi_ne (by decide)]) (by rw [hi_ne (by decide)])
            · have k2 := x.w9 q
              have k3 := x.w9 r
              have hb9 := x.b9
              have ha9 : absd (P.width q) (P.width r) ≤ 9 := by unfold absd; split <;> omega
              have hw1 : isWd P a last i = (decide (¬ q = r) && decide (P.beats < absd (P.width q) (P.width r))) := by
                unfold isWd
                rw [e, el, ix_nI (by omega), ix_nI (by omega), show decide (¬ nI q < 0) = true from decide_eq_true (nI_pos (by omega)), Bool.true_and]
                congr 1
                exact decide_eq_decide.mpr (not_congr (nI_eq (by omega) (by omega)))
              rw [el]
              simp (disch := first | omega | exact x.s | exact hi_eq | ((repeat (first | exact x.s | apply sw_I | apply sw_L | apply sw_cp | apply sw_18 | apply sw_21 | apply sw_22 | apply sw_m12 | apply sw_m18)); done) | rfl) only [wp_ite, wp_some, y_jn, wp_r0, wp_r1, wp_b2, y_nn, w_bc, w_nt, wo_37, wg_37, wi_37, wr_37_4, wr_37_5, wr_37_6, wr_37_29, wr_37_30, wl_38, ws_38, wl_39, ws_39, wl_40, ws_40, wl_41, ws_41, wl_50, ws_50, wl_51, ws_51, wl_52, ws_52, w_has3, w_isMan, w_areTwo, w_isHour3, w_in3, w_night, wtM_0, wtM_1, wtM_2, nI_add, nI_1, nI_mul, nI_and, nI_or, nI_sd, nI_sub, l_sub1, l_addm1, l_all, l_1shl, l_or0, l_add0, l_0add, l_m1, l_m1r, l_neg, l_nn, l_eq0, l_le0, l_0lt, l_eq1, l_m1lt, l_m1le, l_m1eq0, l_10, l_00, l_1le, nI_le_l, nI_lt_l, nI_eq_l, bc_nI, nt_nI, bit_nI, b2_ite, b2_ite1, nI_max, nI_min, isR_nI, n_100, n_16, n_2, n_27, n_30, n_4, n_5, n_6, hi_ne, hi_ni, hi_eq, y_iL, y_iR, y_lI, y_lR, hl_ne, hl_ni, hl_eq, y_rI, y_rL, if_true, if_false, if_pos, if_neg, true_and, and_true, not_true_eq_false, not_false_eq_true, x.n, x.h, x.b, x.mo, x.wi, x.ca, absd_nI]
              by_cases t4 : q = r
              · rw [if_pos t4]
                exact fin gp _ (by rw [hw1, decide_eq_false (fun z => z t4)]; simp) ((F2.putI rfl).putI rfl) (by rw [hi_ni (by decide), hi_ne (by decide)]; exact g1) hi_eq (by rw [hi_ne (by decide), hi_ne (by decide)]) (by rw [hi_ne (by decide)])
              · rw [if_neg t4]
                by_cases t5 : absd (P.width q) (P.width r) ≤ P.beats
                · rw [if_pos t5]
                  exact fin gp _ (by rw [hw1, decide_eq_false (show ¬ P.beats < absd (P.width q) (P.width r) by omega)]; simp) ((F2.putI rfl).putI rfl) (by rw [hi_ni (by decide), hi_ne (by decide)]; exact g1) hi_eq (by rw [hi_ne (by decide), hi_ne (by decide)]) (by rw [hi_ne (by decide)])
                · rw [if_neg t5]
                  simp (disch := first | omega | exact x.s | exact hi_eq | ((repeat (first | exact x.s | apply sw_I | apply sw_L | apply sw_cp | apply sw_18 | apply sw_21 | apply sw_22 | apply sw_m12 | apply sw_m18)); done) | rfl) only [wp_ite, wp_some, y_jn, wp_r0, wp_r1, wp_b2, y_nn, w_bc, w_nt, wo_37, wg_37, wi_37, wr_37_4, wr_37_5, wr_37_6, wr_37_29, wr_37_30, wl_38, ws_38, wl_39, ws_39, wl_40, ws_40, wl_41, ws_41, wl_50, ws_50, wl_51, ws_51, wl_52, ws_52, w_has3, w_isMan, w_areTwo, w_isHour3, w_in3, w_night, wtM_0, wtM_1, wtM_2, nI_add, nI_1, nI_mul, nI_and, nI_or, nI_sd, nI_sub, l_sub1, l_addm1, l_all, l_1shl, l_or0, l_add0, l_0add, l_m1, l_m1r, l_neg, l_nn, l_eq0, l_le0, l_0lt, l_eq1, l_m1lt, l_m1le, l_m1eq0, l_10, l_00, l_1le, nI_le_l, nI_lt_l, nI_eq_l, bc_nI, nt_nI, bit_nI, b2_ite, b2_ite1, nI_max, nI_min, isR_nI, n_100, n_16, n_2, n_27, n_30, n_4, n_5, n_6, hi_ne, hi_ni, hi_eq, y_iL, y_iR, y_lI, y_lR, hl_ne, hl_ni, hl_eq, y_rI, y_rL, if_true, if_false, if_pos, if_neg, true_and, and_true, not_true_eq_false, not_false_eq_true, x.n, x.h, x.b, x.mo, x.wi, x.ca, g1]
                  exact fin (gp ||| 2 ^ i) _ (by rw [hw1, decide_eq_true (show P.beats < absd (P.width q) (P.width r) by omega), decide_eq_true t4]; rfl) (((F2.putI rfl).putI rfl).putI rfl) hi_eq (by rw [hi_ni (by decide), hi_eq]) (by rw [hi_ne (by decide), hi_ne (by decide), hi_ne (by decide)]) (by rw [hi_ne (by decide), hi_ne (by decide)])
        · have hbb : b2 (isRd P a rode i = true) = 0 := by unfold b2; rw [if_neg yes]
          rw [hbb]
          simp (disch := first | omega | exact x.s | exact hi_eq | ((repeat (first | exact x.s | apply sw_I | apply sw_L | apply sw_cp | apply sw_18 | apply sw_21 | apply sw_22 | apply sw_m12 | apply sw_m18)); done) | rfl) only [wp_ite, wp_some, y_jn, wp_r0, wp_r1, wp_b2, y_nn, w_bc, w_nt, wo_37, wg_37, wi_37, wr_37_4, wr_37_5, wr_37_6, wr_37_29, wr_37_30, wl_38, ws_38, wl_39, ws_39, wl_40, ws_40, wl_41, ws_41, wl_50, ws_50, wl_51, ws_51, wl_52, ws_52, w_has3, w_isMan, w_areTwo, w_isHour3, w_in3, w_night, wtM_0, wtM_1, wtM_2, nI_add, nI_1, nI_mul, nI_and, nI_or, nI_sd, nI_sub, l_sub1, l_addm1, l_all, l_1shl, l_or0, l_add0, l_0add, l_m1, l_m1r, l_neg, l_nn, l_eq0, l_le0, l_0lt, l_eq1, l_m1lt, l_m1le, l_m1eq0, l_10, l_00, l_1le, nI_le_l, nI_lt_l, nI_eq_l, bc_nI, nt_nI, bit_nI, b2_ite, b2_ite1, nI_max, nI_min, isR_nI, n_100, n_16, n_2, n_27, n_30, n_4, n_5, n_6, hi_ne, hi_ni, hi_eq, y_iL, y_iR, y_lI, y_lR, hl_ne, hl_ni, hl_eq, y_rI, y_rL, if_true, if_false, if_pos, if_neg, true_and, and_true, not_true_eq_false, not_false_eq_true, x.n, x.h, x.b, x.mo, x.wi, x.ca, j1]
          exact no (Bool.eq_false_iff.mpr yes)
    · obtain ⟨rfl, f, j1, j2, j3⟩ := hJ
      replace x := x0.fr f rfl
      have g8 := gapN_lt x.pk hok
      have r8 := ridN_lt x.pk hok
      have rr := (rdS_ok hok P.hrs h8).2.2.2
      unfold f_X3_goNight_b42
      simp (disch := first | omega | exact x.s | exact hi_eq | ((repeat (first | exact x.s | apply sw_I | apply sw_L | apply sw_cp | apply sw_18 | apply sw_21 | apply sw_22 | apply sw_m12 | apply sw_m18)); done) | rfl) only [wp_ite, wp_some, y_jn, wp_r0, wp_r1, wp_b2, y_nn, w_bc, w_nt, wo_37, wg_37, wi_37, wr_37_4, wr_37_5, wr_37_6, wr_37_29, wr_37_30, wl_38, ws_38, wl_39, ws_39, wl_40, ws_40, wl_41, ws_41, wl_50, ws_50, wl_51, ws_51, wl_52, ws_52, w_has3, w_isMan, w_areTwo, w_isHour3, w_in3, w_night, wtM_0, wtM_1, wtM_2, nI_add, nI_1, nI_mul, nI_and, nI_or, nI_sd, nI_sub, l_sub1, l_addm1, l_all, l_1shl, l_or0, l_add0, l_0add, l_m1, l_m1r, l_neg, l_nn, l_eq0, l_le0, l_0lt, l_eq1, l_m1lt, l_m1le, l_m1eq0, l_10, l_00, l_1le, nI_le_l, nI_lt_l, nI_eq_l, bc_nI, nt_nI, bit_nI, b2_ite, b2_ite1, nI_max, nI_min, isR_nI, n_100, n_16, n_2, n_27, n_30, n_4, n_5, n_6, hi_ne, hi_ni, hi_eq, y_iL, y_iR, y_lI, y_lR, hl_ne, hl_ni, hl_eq, y_rI, y_rL, if_true, if_false, if_pos, if_neg, true_and, and_true, not_true_eq_false, not_false_eq_true, x.n, x.h, x.b, x.mo, x.wi, x.ca]
      refine wp_up P.n (fun i y τ2 => y = nI i ∧ Fr [50] [] [] τ τ2 ∧ (∀ r, r < i → hi τ2 50 (8 + r) = (goN P a).tired r) ∧ ∀ k, k < 8 ∨ 8 + i ≤ k → hi τ2 50 k = hi τ 50 k) (fun ag i y τ2 hi' hJ hag => ?_) (fun ag y τ2 hJ => ?_) (by omega) ⟨rfl, Fr.refl, fun r hr' => by omega, fun _ _ => rfl⟩
      · obtain ⟨rfl, f2, k1, k2⟩ := hJ
        have F2 : Fr [47, 51, 52, 50] [] GG2 σ τ2 := (f.mono rfl).then f2 rfl
        have x1 : MY τ2 P := ⟨F2.sh x0.s rfl, x.2.1.fr f2 rfl, x.pk⟩
        replace x := x1
        have v1 : hi τ2 51 i = nI ((rdS P a P.hrs).2.2.2.1 i) := (f2.i rfl).trans (j3 i (by omega)).1
        have v2 : hi τ2 52 i = (rdS P a P.hrs).2.2.2.2 i := (f2.i rfl).trans (j3 i (by omega)).2
        have v3 : hi τ2 50 (8 + i) = a.tired i := by rw [k2 (8 + i) (by omega)]; exact ti f rfl i (by omega)
        have v4 := rr i
        have gt : (goN P a).tired i = if (rdS P a P.hrs).2.2.2.1 i = 0 then imax 0 (a.tired i - 5) else imin 99 (a.tired i + (rdS P a P.hrs).2.2.2.2 i) := if_pos hi'
        have fin : ∀ w, w = (goN P a).tired i → wp (ag (nI (i + 1)) (wI τ2 50 (8 + i) w)) Q := fun w hw =>
          hag _ _ ⟨rfl, f2.putI rfl, fun r hr' => by
            by_cases e : r = i
            · rw [e, hi_eq, hw]
            · rw [hi_ni (by omega)]; exact k1 r (by omega), fun k hk' => by rw [hi_ni (by omega)]; exact k2 k (by omega)⟩
        generalize hz : (rdS P a P.hrs).2.2.2.1 i = z at *
        unfold f_X3_goNight_b237
        simp (disch := first | omega | exact x.s | exact hi_eq | ((repeat (first | exact x.s | apply sw_I | apply sw_L | apply sw_cp | apply sw_18 | apply sw_21 | apply sw_22 | apply sw_m12 | apply sw_m18)); done) | rfl) only [wp_ite, wp_some, y_jn, wp_r0, wp_r1, wp_b2, y_nn, w_bc, w_nt, wo_37, wg_37, wi_37, wr_37_29, wr_37_30, wl_38, ws_38, wl_50, ws_50, wl_51, ws_51, wl_52, ws_52, w_has3, w_isMan, w_areTwo, w_isHour3, w_in3, w_night, wtM_0, wtM_1, wtM_2, nI_add, nI_1, nI_mul, nI_and, nI_or, nI_sd, nI_sub, l_sub1, l_addm1, l_all, l_1shl, l_or0, l_add0, l_0add, l_m1, l_m1r, l_neg, l_nn, l_eq0, l_le0, l_0lt, l_eq1, l_m1lt, l_m1le, l_m1eq0, l_10, l_00, l_1le, nI_le_l, nI_lt_l, nI_eq_l, bc_nI, nt_nI, bit_nI, b2_ite, b2_ite1, nI_max, nI_min, isR_nI, n_100, n_2, n_3, n_30, n_5, n_8, n_99, hi_ne, hi_ni, hi_eq, y_iL, y_iR, y_lI, y_lR, hl_ne, hl_ni, hl_eq, y_rI, y_rL, if_true, if_false, if_pos, if_neg, true_and, and_true, not_true_eq_false, not_false_eq_true, x.n, x.h, x.b, x.mo, x.wi, x.ca, v1, v2, v3]
        split
        · rename_i e
          exact fin _ (by rw [gt, if_pos e]; rfl)
        · rename_i e
          exact fin _ (by rw [gt, if_neg e]; rfl)
      · obtain ⟨rfl, f2, k1, k2⟩ := hJ
        have F2 : Fr [47, 51, 52, 50] [] GG2 σ τ2 := (f.mono rfl).then f2 rfl
        have x1 : MY τ2 P := ⟨F2.sh x0.s rfl, x.2.1.fr f2 rfl, x.pk⟩
        replace x := x1
        have u1 : hi τ2 37 27 = nI (gapN P a) := (f2.i rfl).trans j1
        have u2 : hi τ2 37 28 = nI (ridN P a) := (f2.i rfl).trans j2
        have u3 : hi τ2 50 25 = a.gaps := by rw [k2 25 (by omega), f.i rfl]; exact ha.2.2.2.2.1
        have u4 : hi τ2 50 26 = a.rid := by rw [k2 26 (by omega), f.i rfl]; exact ha.2.2.2.2.2
        have u5 : hi τ2 50 24 = a.night := by rw [k2 24 (by omega), f.i rfl]; exact ha.2.2.2.1
        unfold f_X3_goNight_b237
        simp (disch := first | omega | exact x.s | exact hi_eq | ((repeat (first | exact x.s | apply sw_I | apply sw_L | apply sw_cp | apply sw_18 | apply sw_21 | apply sw_22 | apply sw_m12 | apply sw_m18)); done) | rfl) only [wp_ite, wp_some, y_jn, wp_r0, wp_r1, wp_b2, y_nn, w_bc, w_nt, wo_37, wg_37, wi_37, wr_37_29, wr_37_30, wl_38, ws_38, wl_50, ws_50, wl_51, ws_51, wl_52, ws_52, w_has3, w_isMan, w_areTwo, w_isHour3, w_in3, w_night, wtM_0, wtM_1, wtM_2, nI_add, nI_1, nI_mul, nI_and, nI_or, nI_sd, nI_sub, l_sub1, l_addm1, l_all, l_1shl, l_or0, l_add0, l_0add, l_m1, l_m1r, l_neg, l_nn, l_eq0, l_le0, l_0lt, l_eq1, l_m1lt, l_m1le, l_m1eq0, l_10, l_00, l_1le, nI_le_l, nI_lt_l, nI_eq_l, bc_nI, nt_nI, bit_nI, b2_ite, b2_ite1, nI_max, nI_min, isR_nI, n_100, n_2, n_24, n_25, n_26, n_27, n_3, n_30, n_5, n_8, n_99, hi_ne, hi_ni, hi_eq, y_iL, y_iR, y_lI, y_lR, hl_ne, hl_ni, hl_eq, y_rI, y_rL, if_true, if_false, if_pos, if_neg, true_and, and_true, not_true_eq_false, not_false_eq_true, x.n, x.h, x.b, x.mo, x.wi, x.ca, u1, u2, u3, u4, u5]
        rw [← hQ]
        have w1 : ∀ v1 v2 v3 k, k ≠ 24 → k ≠ 25 → k ≠ 26 → hi (wI (wI (wI τ2 50 25 v1) 50 26 v2) 50 24 v3) 50 k = hi τ2 50 k := fun v1 v2 v3 k h1 h2 h3 => by rw [hi_ni h1, hi_ni h3, hi_ni h2]
        refine ⟨((F2.putI rfl).putI rfl).putI rfl, ⟨fun h hh => ?_, fun r hr' => ?_, fun r hr' => ?_, ?_, ?_, ?_⟩, ?_, ?_⟩
        · rw [w1 _ _ _ _ (by omega) (by omega) (by omega), Nat.zero_add, k2 h (by omega)]; exact ro f rfl h hh
        · rw [w1 _ _ _ _ (by omega) (by omega) (by omega), Nat.zero_add]
          by_cases e : r < P.n
          · exact k1 r e
          · rw [k2 (8 + r) (by omega), ti f rfl r hr']
            exact (if_neg e).symm
        · rw [w1 _ _ _ _ (by omega) (by omega) (by omega), Nat.zero_add, k2 (16 + r) (by omega)]; exact il f rfl r hr'
        · show hi _ 50 24 = _; rw [hi_eq]; rfl
        · show hi _ 50 25 = _; rw [hi_ni (by decide), hi_ni (by decide), hi_eq]; rfl
        · show hi _ 50 26 = _; rw [hi_ni (by decide), hi_eq]; rfl
        · rw [hi_ne (by decide), hi_ne (by decide), hi_ne (by decide)]; exact u1
        · rw [hi_ne (by decide), hi_ne (by decide), hi_ne (by decide)]; exact u2
end mgo
