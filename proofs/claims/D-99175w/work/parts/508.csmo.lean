/-! PURE 73: the smoothest row (the class) -/
def SmC (τ : Hp) (P : Pk) (s : Nat × List Nat) : Prop := hi τ 0 43 = nI s.1 ∧ s.1 ≤ 1000000 ∧ (s.1 = 1000000 ∨ ∀ j, j < P.hrs → hi τ 29 j = nI (s.2.getD j 0))
def smF (P : Pk) (may : Nat → Nat) (k h : Nat) (rode : Nat → Nat) (last r : Nat) : SO := if (may r).testBit h = true ∧ rode r ≠ P.most r then addS (apt P h r last) r (smo P may k (h + 1) (up1 rode r (rode r + 1)) r) else none
theorem smo_succ (P : Pk) (may : Nat → Nat) (k h : Nat) (rode : Nat → Nat) (last : Nat) : smo P may (k + 1) h rode last = bestR (smF P may k h rode last) P.n := rfl
theorem getD_snoc {l : List Nat} {v j : Nat} : (l ++ [v]).getD j 0 = if j = l.length then v else l.getD j 0 := by
  rw [List.getD_eq_getElem?_getD, List.getD_eq_getElem?_getD]
  by_cases h1 : j < l.length
  · rw [List.getElem?_append_left h1, if_neg (by omega)]
  · rw [List.getElem?_append_right (by omega)]
    by_cases h2 : j = l.length
    · rw [if_pos h2, h2, Nat.sub_self]; rfl
    · rw [if_neg h2, List.getElem?_eq_none (by show 1 ≤ _; omega), List.getElem?_eq_none (by omega)]
theorem apt_le {P : Pk} (hw : ∀ r, P.width r ≤ 9) (h r last : Nat) : apt P h r last ≤ 9 := by
  have := hw r
  have := hw last
  unfold apt absd
  split
  · omega
  · split <;> omega
section csmo
variable {σ τ : Hp} {P : Pk} {a : HS} {may : Nat → Nat} {s : Nat × List Nat}
theorem SmC.ne {b i : Nat} {v : Int32} (h : SmC τ P s) (h0 : b ≠ 0) (h29 : b ≠ 29) : SmC (wI τ b i v) P s := by
  obtain ⟨h1, h2, h3⟩ := h
  refine ⟨by rw [hi_ne (Ne.symm h0)]; exact h1, h2, h3.imp id (fun g j hj => by rw [hi_ne (Ne.symm h29)]; exact g j hj)⟩
theorem c_smooths (mk : MayOK P may) : ∀ k n (σ : Hp) h sum (rode : Nat → Nat) (pre : List Nat) (s : Nat × List Nat), k < n → h + k = P.hrs → CX σ P a → AI σ 24 8 may → AI σ 18 P.n rode → (∀ r, r < P.n → rode r ≤ P.most r) → pre.length = h → (∀ j, j < h → hi σ 20 j = nI (pre.getD j 0)) → (∀ j, j < h → pre.getD j 0 < P.n) → sum ≤ 9 * h → SmC σ P s →
    wp (g_smooths n (some 0) (nI h) (nI sum) σ) (fun _ τ => Fr [18, 20, 29] [43] [] σ τ ∧ AI τ 18 P.n rode ∧ (∀ j, j < h → hi τ 20 j = hi σ 20 j) ∧ SmC τ P (keepS s sum pre (smo P may k h rode (pre.getD (h - 1) 0)))) := by
  intro k
  induction k with
  | zero =>
    intro n σ h sum rode pre s hkn hk' x hm hro hrm hpl hpre hprn hsum hs
    obtain ⟨n, rfl⟩ : ∃ m, n = m + 1 := ⟨n - 1, by omega⟩
    have h8 := x.h8
    have h43 := hs.1
    have hs1 := hs.2.1
    show wp (fb_X1_smoothsFrom (g_smooths n) (some 0) (nI h) (nI sum) σ) _
    have hh : h = P.hrs := by omega
    by_cases c : sum < s.1
    · have e1 : keepS s sum pre (smo P may 0 h rode (pre.getD (h - 1) 0)) = (sum, pre) := by
        show keepS s sum pre (some (0, [])) = _
        rw [keepS_lt (by dsimp only; omega), List.append_nil]; rfl
      rw [e1]
      unfold fb_X1_smoothsFrom
      simp (disch := first | omega | exact x.s | exact hi_eq | ((repeat (first | exact x.s | apply sw_I | apply sw_L | apply sw_cp | apply sw_18 | apply sw_21 | apply sw_22 | apply sw_m12 | apply sw_m18)); done) | rfl) only [wp_ite, wp_some, wp_r0, wp_r1, wp_b2, y_nn, w_bc, w_nt, wo_0, wg_0, wi_0, wr_0_40, wr_0_30, wl_20, ws_20, wl_29, ws_29, w_has, w_isRider, w_isPair, w_isHour, w_in, w_in0, w_in_0_1, w_in_0_10, w_in_0_3, w_in_0_30, w_in_0_60, w_in_0_7, w_in_0_9, w_in_0_999, w_in_1_60, w_in_20_27, w_in_2_40, w_in_48_57, w_whole, w_all, wt_0, wt_1, wt_2, nI_add, nI_1, nI_mul, nI_and, nI_or, nI_sd, nI_sub, l_sub1, l_addm1, l_all, l_1shl, l_or0, l_add0, l_0add, l_m1, l_m1r, l_neg, l_nn, l_eq0, l_le0, l_0lt, l_eq1, l_m1lt, l_m1le, l_m1eq0, l_10, l_00, l_1le, nI_le_l, nI_lt_l, nI_eq_l, bc_nI, nt_nI, bit_nI, b2_ite, b2_ite1, nI_max, nI_min, isR_nI, n_30, n_40, n_6, n_8, hi_ne, hi_ni, hi_eq, y_iL, y_iR, y_lI, y_lR, hl_ne, hl_ni, hl_eq, y_rI, y_rL, if_true, if_false, if_pos, if_neg, true_and, and_true, not_true_eq_false, not_false_eq_true, x.n, x.h, x.b, x.mo, x.wi, x.ca, x.ro, x.ti, x.il, x.ni, x.ga, x.ri, h43, c, hh]
      rw [wc_20_29 (sw_I x.s), wp_some]
      refine ⟨Fr.cp (Fr.refl.putI rfl) rfl, fun j hj => ?_, fun j hj => ?_, ?_, by dsimp only; omega, Or.inr (fun j hj => ?_)⟩
      · rw [cp_ne (by decide), hi_ne (by decide)]; exact hro j hj
      · rw [cp_ne (by decide), hi_ne (by decide)]
      · rw [cp_ne (by decide), hi_eq]
      · rw [cp_eq (by omega), hi_ne (by decide)]; exact hpre j (by omega)
    · rw [keepS_over _ _ _ _ (by omega)]
      unfold fb_X1_smoothsFrom
      simp (disch := first | omega | exact x.s | exact hi_eq | ((repeat (first | exact x.s | apply sw_I | apply sw_L | apply sw_cp | apply sw_18 | apply sw_21 | apply sw_22 | apply sw_m12 | apply sw_m18)); done) | rfl) only [wp_ite, wp_some, wp_r0, wp_r1, wp_b2, y_nn, w_bc, w_nt, wo_0, wg_0, wi_0, wr_0_40, wr_0_30, wl_20, ws_20, wl_29, ws_29, w_has, w_isRider, w_isPair, w_isHour, w_in, w_in0, w_in_0_1, w_in_0_10, w_in_0_3, w_in_0_30, w_in_0_60, w_in_0_7, w_in_0_9, w_in_0_999, w_in_1_60, w_in_20_27, w_in_2_40, w_in_48_57, w_whole, w_all, wt_0, wt_1, wt_2, nI_add, nI_1, nI_mul, nI_and, nI_or, nI_sd, nI_sub, l_sub1, l_addm1, l_all, l_1shl, l_or0, l_add0, l_0add, l_m1, l_m1r, l_neg, l_nn, l_eq0, l_le0, l_0lt, l_eq1, l_m1lt, l_m1le, l_m1eq0, l_10, l_00, l_1le, nI_le_l, nI_lt_l, nI_eq_l, bc_nI, nt_nI, bit_nI, b2_ite, b2_ite1, nI_max, nI_min, isR_nI, n_30, n_40, n_6, n_8, hi_ne, hi_ni, hi_eq, y_iL, y_iR, y_lI, y_lR, hl_ne, hl_ni, hl_eq, y_rI, y_rL, if_true, if_false, if_pos, if_neg, true_and, and_true, not_true_eq_false, not_false_eq_true, x.n, x.h, x.b, x.mo, x.wi, x.ca, x.ro, x.ti, x.il, x.ni, x.ga, x.ri, h43, c]
      exact ⟨Fr.refl, hro, fun _ _ => (by first | rfl | trivial), hs⟩
  | succ k ih =>
    intro n σ h sum rode pre s hkn hk' x hm hro hrm hpl hpre hprn hsum hs
    obtain ⟨n, rfl⟩ : ∃ m, n = m + 1 := ⟨n - 1, by omega⟩
    have x0 := x
    have n8 := x.n8
    have h8 := x.h8
    have h43 := hs.1
    have hs1 := hs.2.1
    show wp (fb_X1_smoothsFrom (g_smooths n) (some 0) (nI h) (nI sum) σ) _
    have hh : ¬ h = P.hrs := by omega
    by_cases c : sum < s.1
    · rw [smo_succ]
      generalize hlast : pre.getD (h - 1) 0 = last
      generalize hQ : (fun (_ : Unit) τ => Fr [18, 20, 29] [43] [] σ τ ∧ AI τ 18 P.n rode ∧ (∀ j, j < h → hi τ 20 j = hi σ 20 j) ∧ SmC τ P (keepS s sum pre (bestR (smF P may k h rode last) P.n))) = Q
      unfold fb_X1_smoothsFrom
      simp (disch := first | omega | exact x.s | exact hi_eq | ((repeat (first | exact x.s | apply sw_I | apply sw_L | apply sw_cp | apply sw_18 | apply sw_21 | apply sw_22 | apply sw_m12 | apply sw_m18)); done) | rfl) only [wp_ite, wp_some, wp_r0, wp_r1, wp_b2, y_nn, w_bc, w_nt, wo_0, wg_0, wi_0, wr_0_40, wr_0_30, wl_20, ws_20, wl_29, ws_29, w_has, w_isRider, w_isPair, w_isHour, w_in, w_in0, w_in_0_1, w_in_0_10, w_in_0_3, w_in_0_30, w_in_0_60, w_in_0_7, w_in_0_9, w_in_0_999, w_in_1_60, w_in_20_27, w_in_2_40, w_in_48_57, w_whole, w_all, wt_0, wt_1, wt_2, nI_add, nI_1, nI_mul, nI_and, nI_or, nI_sd, nI_sub, l_sub1, l_addm1, l_all, l_1shl, l_or0, l_add0, l_0add, l_m1, l_m1r, l_neg, l_nn, l_eq0, l_le0, l_0lt, l_eq1, l_m1lt, l_m1le, l_m1eq0, l_10, l_00, l_1le, nI_le_l, nI_lt_l, nI_eq_l, bc_nI, nt_nI, bit_nI, b2_ite, b2_ite1, nI_max, nI_min, isR_nI, n_30, n_40, n_6, n_8, hi_ne, hi_ni, hi_eq, y_iL, y_iR, y_lI, y_lR, hl_ne, hl_ni, hl_eq, y_rI, y_rL, if_true, if_false, if_pos, if_neg, true_and, and_true, not_true_eq_false, not_false_eq_true, x.n, x.h, x.b, x.mo, x.wi, x.ca, x.ro, x.ti, x.il, x.ni, x.ga, x.ri, h43, c, hh]
      refine wp_up P.n (fun r y τ => y = nI r ∧ Fr [18, 20, 29] [43] [] σ τ ∧ AI τ 18 P.n rode ∧ (∀ j, j < h → hi τ 20 j = hi σ 20 j) ∧ SmC τ P (keepS s sum pre (bestR (smF P may k h rode last) r))) (fun ag r y τ hr' hJ hag => ?_) (fun ag y τ hJ => ?_) (by omega) ⟨rfl, Fr.refl, hro, fun _ _ => rfl, hs⟩
      · obtain ⟨rfl, f, g1, g2, g3⟩ := hJ
        replace x := x0.fr f rfl
        have m8 := mk.lt h8 r
        have m4 := x.m4 r
        have w9 := x.w9
        have e24 : hi τ 24 r = nI (may r) := (f.i rfl).trans (hm r (by omega))
        have e18 := g1 r hr'
        have rm := hrm r hr'
        have st : keepS s sum pre (bestR (smF P may k h rode last) (r + 1)) = keepS (keepS s sum pre (bestR (smF P may k h rode last) r)) sum pre (smF P may k h rode last r) := keepS_bet _ _ _ _ _
        rw [st] at hag
        generalize keepS s sum pre (bestR (smF P may k h rode last) r) = sr at *
        have skip : ¬ ((may r).testBit h = true ∧ rode r ≠ P.most r) → wp (ag (nI (r + 1)) τ) Q := fun e => hag _ _ ⟨rfl, f, g1, g2, by unfold smF; rw [if_neg e]; exact g3⟩
        unfold f_X1_smoothsFrom_b40
        simp (disch := first | omega | exact x.s | exact hi_eq | ((repeat (first | exact x.s | apply sw_I | apply sw_L | apply sw_cp | apply sw_18 | apply sw_21 | apply sw_22 | apply sw_m12 | apply sw_m18)); done) | rfl) only [wp_ite, wp_some, wp_r0, wp_r1, wp_b2, y_nn, w_bc, w_nt, wo_0, wg_0, wi_0, wr_0_2, wr_0_3, wr_0_35, wr_0_26, wr_0_30, wl_7, ws_7, wl_8, ws_8, wl_18, ws_18, wl_20, ws_20, wl_24, ws_24, w_has, w_isRider, w_isPair, w_isHour, w_in, w_in0, w_in_0_1, w_in_0_10, w_in_0_3, w_in_0_30, w_in_0_60, w_in_0_7, w_in_0_9, w_in_0_999, w_in_1_60, w_in_20_27, w_in_2_40, w_in_48_57, w_whole, w_all, wt_0, wt_1, wt_2, nI_add, nI_1, nI_mul, nI_and, nI_or, nI_sd, nI_sub, l_sub1, l_addm1, l_all, l_1shl, l_or0, l_add0, l_0add, l_m1, l_m1r, l_neg, l_nn, l_eq0, l_le0, l_0lt, l_eq1, l_m1lt, l_m1le, l_m1eq0, l_10, l_00, l_1le, nI_le_l, nI_lt_l, nI_eq_l, bc_nI, nt_nI, bit_nI, b2_ite, b2_ite1, nI_max, nI_min, isR_nI, n_100, n_2, n_26, n_3, n_30, n_5, hi_ne, hi_ni, hi_eq, y_iL, y_iR, y_lI, y_lR, hl_ne, hl_ni, hl_eq, y_rI, y_rL, if_true, if_false, if_pos, if_neg, true_and, and_true, not_true_eq_false, not_false_eq_true, x.n, x.h, x.b, x.mo, x.wi, x.ca, x.ro, x.ti, x.il, x.ni, x.ga, x.ri, e24]
        rw [y_jn]
        by_cases c1 : (may r).testBit h = true
        · rw [if_pos c1]
          simp (disch := first | omega | exact x.s | exact hi_eq | ((repeat (first | exact x.s | apply sw_I | apply sw_L | apply sw_cp | apply sw_18 | apply sw_21 | apply sw_22 | apply sw_m12 | apply sw_m18)); done) | rfl) only [wp_ite, wp_some, wp_r0, wp_r1, wp_b2, y_nn, w_bc, w_nt, wo_0, wg_0, wi_0, wr_0_2, wr_0_3, wr_0_35, wr_0_26, wr_0_30, wl_7, ws_7, wl_8, ws_8, wl_18, ws_18, wl_20, ws_20, wl_24, ws_24, w_has, w_isRider, w_isPair, w_isHour, w_in, w_in0, w_in_0_1, w_in_0_10, w_in_0_3, w_in_0_30, w_in_0_60, w_in_0_7, w_in_0_9, w_in_0_999, w_in_1_60, w_in_20_27, w_in_2_40, w_in_48_57, w_whole, w_all, wt_0, wt_1, wt_2, nI_add, nI_1, nI_mul, nI_and, nI_or, nI_sd, nI_sub, l_sub1, l_addm1, l_all, l_1shl, l_or0, l_add0, l_0add, l_m1, l_m1r, l_neg, l_nn, l_eq0, l_le0, l_0lt, l_eq1, l_m1lt, l_m1le, l_m1eq0, l_10, l_00, l_1le, nI_le_l, nI_lt_l, nI_eq_l, bc_nI, nt_nI, bit_nI, b2_ite, b2_ite1, nI_max, nI_min, isR_nI, n_100, n_2, n_26, n_3, n_30, n_5, hi_ne, hi_ni, hi_eq, y_iL, y_iR, y_lI, y_lR, hl_ne, hl_ni, hl_eq, y_rI, y_rL, if_true, if_false, if_pos, if_neg, true_and, and_true, not_true_eq_false, not_false_eq_true, x.n, x.h, x.b, x.mo, x.wi, x.ca, x.ro, x.ti, x.il, x.ni, x.ga, x.ri, e24, e18]
          by_cases c2 : rode r = P.most r
          · rw [if_pos c2]
            exact skip (fun z => z.2 c2)
          · rw [if_neg c2]
            have f1 : Fr [18, 20, 29] [43] [] σ (wI (wI τ 18 r (nI (rode r + 1))) 20 h (nI r)) := (f.putI rfl).putI rfl
            have x1 := x0.fr f1 rfl
            have h18 : AI (wI (wI τ 18 r (nI (rode r + 1))) 20 h (nI r)) 18 P.n (up1 rode r (rode r + 1)) := (g1.put r (rode r + 1)).ne (by decide)
            have h20 : ∀ j, j < h + 1 → hi (wI (wI τ 18 r (nI (rode r + 1))) 20 h (nI r)) 20 j = nI ((pre ++ [r]).getD j 0) := fun j hj => by
              rw [getD_snoc, hpl]
              by_cases e : j = h
              · rw [if_pos e, e, hi_eq]
              · rw [if_neg e, hi_ni e, hi_ne (by decide), g2 j (by omega)]; exact hpre j (by omega)
            have hsr : SmC (wI (wI τ 18 r (nI (rode r + 1))) 20 h (nI r)) P sr := (g3.ne (by decide) (by decide)).ne (by decide) (by decide)
            have ha9 := apt_le w9 h r last
            refine wp_jn (fun v υ => v = nI (apt P h r last) ∧ υ = wI (wI τ 18 r (nI (rode r + 1))) 20 h (nI r)) (fun j hj => ?_) (fun v υ hv => ?_)
            · by_cases c3 : h = 0
              · have e0 : nI h = 0 := by rw [c3]; rfl
                rw [if_pos c3]
                exact hj _ _ ⟨by unfold apt; rw [if_pos c3]; rfl, rfl⟩
              · have e0 : ¬ nI h = 0 := by rw [n_0, nI_eq_l (by omega) (by decide)]; exact c3
                have e1 : hi τ 20 (h - 1) = nI last := by rw [g2 _ (by omega), hpre _ (by omega), hlast]
                have l1 : last < P.n := by rw [← hlast]; exact hprn _ (by omega)
                have wr := w9 r
                have wl := w9 last
                rw [if_neg c3]
                simp (disch := first | omega | exact x.s | exact hi_eq | ((repeat (first | exact x.s | apply sw_I | apply sw_L | apply sw_cp | apply sw_18 | apply sw_21 | apply sw_22 | apply sw_m12 | apply sw_m18)); done) | rfl) only [wp_ite, wp_some, wp_r0, wp_r1, wp_b2, y_nn, w_bc, w_nt, wo_0, wg_0, wi_0, wr_0_2, wr_0_3, wr_0_35, wr_0_26, wr_0_30, wl_7, ws_7, wl_8, ws_8, wl_18, ws_18, wl_20, ws_20, wl_24, ws_24, w_has, w_isRider, w_isPair, w_isHour, w_in, w_in0, w_in_0_1, w_in_0_10, w_in_0_3, w_in_0_30, w_in_0_60, w_in_0_7, w_in_0_9, w_in_0_999, w_in_1_60, w_in_20_27, w_in_2_40, w_in_48_57, w_whole, w_all, wt_0, wt_1, wt_2, nI_add, nI_1, nI_mul, nI_and, nI_or, nI_sd, nI_sub, l_sub1, l_addm1, l_all, l_1shl, l_or0, l_add0, l_0add, l_m1, l_m1r, l_neg, l_nn, l_eq0, l_le0, l_0lt, l_eq1, l_m1lt, l_m1le, l_m1eq0, l_10, l_00, l_1le, nI_le_l, nI_lt_l, nI_eq_l, bc_nI, nt_nI, bit_nI, b2_ite, b2_ite1, nI_max, nI_min, isR_nI, n_100, n_2, n_26, n_3, n_30, n_5, hi_ne, hi_ni, hi_eq, y_iL, y_iR, y_lI, y_lR, hl_ne, hl_ni, hl_eq, y_rI, y_rL, if_true, if_false, if_pos, if_neg, true_and, and_true, not_true_eq_false, not_false_eq_true, x.n, x.h, x.b, x.mo, x.wi, x.ca, x.ro, x.ti, x.il, x.ni, x.ga, x.ri, e1, absd_nI]
                exact hj _ _ ⟨by unfold apt; rw [if_neg c3], rfl⟩
            · obtain ⟨rfl, rfl⟩ := hv
              generalize (wI (wI τ 18 r (nI (rode r + 1))) 20 h (nI r)) = υ at *
              simp (disch := first | omega | exact x1.s | exact hi_eq | ((repeat (first | exact x1.s | apply sw_I | apply sw_L | apply sw_cp | apply sw_18 | apply sw_21 | apply sw_22 | apply sw_m12 | apply sw_m18)); done) | rfl) only [wp_ite, wp_some, wp_r0, wp_r1, wp_b2, y_nn, w_bc, w_nt, wo_0, wg_0, wi_0, wr_0_2, wr_0_3, wr_0_35, wr_0_26, wr_0_30, wl_7, ws_7, wl_8, ws_8, wl_18, ws_18, wl_20, ws_20, wl_24, ws_24, w_has, w_isRider, w_isPair, w_isHour, w_in, w_in0, w_in_0_1, w_in_0_10, w_in_0_3, w_in_0_30, w_in_0_60, w_in_0_7, w_in_0_9, w_in_0_999, w_in_1_60, w_in_20_27, w_in_2_40, w_in_48_57, w_whole, w_all, wt_0, wt_1, wt_2, nI_add, nI_1, nI_mul, nI_and, nI_or, nI_sd, nI_sub, l_sub1, l_addm1, l_all, l_1shl, l_or0, l_add0, l_0add, l_m1, l_m1r, l_neg, l_nn, l_eq0, l_le0, l_0lt, l_eq1, l_m1lt, l_m1le, l_m1eq0, l_10, l_00, l_1le, nI_le_l, nI_lt_l, nI_eq_l, bc_nI, nt_nI, bit_nI, b2_ite, b2_ite1, nI_max, nI_min, isR_nI, n_100, n_2, n_26, n_3, n_30, n_5, hi_ne, hi_ni, hi_eq, y_iL, y_iR, y_lI, y_lR, hl_ne, hl_ni, hl_eq, y_rI, y_rL, if_true, if_false, if_pos, if_neg, true_and, and_true, not_true_eq_false, not_false_eq_true, x1.n, x1.h, x1.b, x1.mo, x1.wi, x1.ca, x1.ro, x1.ti, x1.il, x1.ni, x1.ga, x1.ri]
              rw [wp_bnd]
              refine wp_mono (ih n υ (h + 1) (sum + apt P h r last) (up1 rode r (rode r + 1)) (pre ++ [r]) sr (by omega) (by omega) x1 (hm.fr f1 rfl (by decide) (by decide)) h18 ?_ (by rw [List.length_append, hpl]; rfl) h20 ?_ (by omega) hsr) (fun _ τ2 hx => ?_)
              · intro o ho
                unfold up1
                by_cases e : o = r
                · rw [if_pos e, e]; omega
                · rw [if_neg e]; exact hrm o ho
              · intro j hj
                rw [getD_snoc, hpl]
                by_cases e : j = h
                · rw [if_pos e]; exact hr'
                · rw [if_neg e]; exact hprn j (by omega)
              · obtain ⟨f2, q1, q2, q3⟩ := hx
                have ff := f1.trans f2
                have x2 := x0.fr ff rfl
                have e2 : hi τ2 18 r = nI (rode r + 1) := by rw [q1 r hr']; unfold up1; rw [if_pos rfl]
                simp (disch := first | omega | exact x2.s | exact hi_eq | ((repeat (first | exact x2.s | apply sw_I | apply sw_L | apply sw_cp | apply sw_18 | apply sw_21 | apply sw_22 | apply sw_m12 | apply sw_m18)); done) | rfl) only [wp_ite, wp_some, wp_r0, wp_r1, wp_b2, y_nn, w_bc, w_nt, wo_0, wg_0, wi_0, wr_0_2, wr_0_3, wr_0_35, wr_0_26, wr_0_30, wl_7, ws_7, wl_8, ws_8, wl_18, ws_18, wl_20, ws_20, wl_24, ws_24, w_has, w_isRider, w_isPair, w_isHour, w_in, w_in0, w_in_0_1, w_in_0_10, w_in_0_3, w_in_0_30, w_in_0_60, w_in_0_7, w_in_0_9, w_in_0_999, w_in_1_60, w_in_20_27, w_in_2_40, w_in_48_57, w_whole, w_all, wt_0, wt_1, wt_2, nI_add, nI_1, nI_mul, nI_and, nI_or, nI_sd, nI_sub, l_sub1, l_addm1, l_all, l_1shl, l_or0, l_add0, l_0add, l_m1, l_m1r, l_neg, l_nn, l_eq0, l_le0, l_0lt, l_eq1, l_m1lt, l_m1le, l_m1eq0, l_10, l_00, l_1le, nI_le_l, nI_lt_l, nI_eq_l, bc_nI, nt_nI, bit_nI, b2_ite, b2_ite1, nI_max, nI_min, isR_nI, n_100, n_2, n_26, n_3, n_30, n_5, hi_ne, hi_ni, hi_eq, y_iL, y_iR, y_lI, y_lR, hl_ne, hl_ni, hl_eq, y_rI, y_rL, if_true, if_false, if_pos, if_neg, true_and, and_true, not_true_eq_false, not_false_eq_true, x2.n, x2.h, x2.b, x2.mo, x2.wi, x2.ca, x2.ro, x2.ti, x2.il, x2.ni, x2.ga, x2.ri, e2, Nat.add_sub_cancel]
                refine hag _ _ ⟨rfl, ff.putI rfl, fun o ho => ?_, fun j hj => ?_, ?_⟩
                · by_cases e : o = r
                  · rw [e, hi_eq]
                  · rw [hi_ni e, q1 o ho]; unfold up1; rw [if_neg e]
                · rw [hi_ne (by decide), q2 j (by omega), h20 j (by omega), getD_snoc, hpl, if_neg (by omega), hpre j hj]
                · have e3 : smF P may k h rode last r = addS (apt P h r last) r (smo P may k (h + 1) (up1 rode r (rode r + 1)) r) := by unfold smF; rw [if_pos ⟨c1, c2⟩]
                  rw [e3, keepS_add]
                  have e4 : (pre ++ [r]).getD (h + 1 - 1) 0 = r := by rw [Nat.add_sub_cancel, getD_snoc, hpl, if_pos rfl]
                  rw [e4] at q3
                  exact q3.ne (by decide) (by decide)
        · rw [if_neg c1]
          exact skip (fun z => c1 z.1)
      · obtain ⟨rfl, f, g1, g2, g3⟩ := hJ
        replace x := x0.fr f rfl
        unfold f_X1_smoothsFrom_b40
        simp (disch := first | omega | exact x.s | exact hi_eq | ((repeat (first | exact x.s | apply sw_I | apply sw_L | apply sw_cp | apply sw_18 | apply sw_21 | apply sw_22 | apply sw_m12 | apply sw_m18)); done) | rfl) only [wp_ite, wp_some, wp_r0, wp_r1, wp_b2, y_nn, w_bc, w_nt, wo_0, wg_0, wi_0, wr_0_2, wr_0_3, wr_0_35, wr_0_26, wr_0_30, wl_7, ws_7, wl_8, ws_8, wl_18, ws_18, wl_20, ws_20, wl_24, ws_24, w_has, w_isRider, w_isPair, w_isHour, w_in, w_in0, w_in_0_1, w_in_0_10, w_in_0_3, w_in_0_30, w_in_0_60, w_in_0_7, w_in_0_9, w_in_0_999, w_in_1_60, w_in_20_27, w_in_2_40, w_in_48_57, w_whole, w_all, wt_0, wt_1, wt_2, nI_add, nI_1, nI_mul, nI_and, nI_or, nI_sd, nI_sub, l_sub1, l_addm1, l_all, l_1shl, l_or0, l_add0, l_0add, l_m1, l_m1r, l_neg, l_nn, l_eq0, l_le0, l_0lt, l_eq1, l_m1lt, l_m1le, l_m1eq0, l_10, l_00, l_1le, nI_le_l, nI_lt_l, nI_eq_l, bc_nI, nt_nI, bit_nI, b2_ite, b2_ite1, nI_max, nI_min, isR_nI, n_100, n_2, n_26, n_3, n_30, n_5, hi_ne, hi_ni, hi_eq, y_iL, y_iR, y_lI, y_lR, hl_ne, hl_ni, hl_eq, y_rI, y_rL, if_true, if_false, if_pos, if_neg, true_and, and_true, not_true_eq_false, not_false_eq_true, x.n, x.h, x.b, x.mo, x.wi, x.ca, x.ro, x.ti, x.il, x.ni, x.ga, x.ri]
        rw [← hQ]
        exact ⟨f, g1, g2, g3⟩
    · rw [keepS_over _ _ _ _ (by omega)]
      unfold fb_X1_smoothsFrom
      simp (disch := first | omega | exact x.s | exact hi_eq | ((repeat (first | exact x.s | apply sw_I | apply sw_L | apply sw_cp | apply sw_18 | apply sw_21 | apply sw_22 | apply sw_m12 | apply sw_m18)); done) | rfl) only [wp_ite, wp_some, wp_r0, wp_r1, wp_b2, y_nn, w_bc, w_nt, wo_0, wg_0, wi_0, wr_0_40, wr_0_30, wl_20, ws_20, wl_29, ws_29, w_has, w_isRider, w_isPair, w_isHour, w_in, w_in0, w_in_0_1, w_in_0_10, w_in_0_3, w_in_0_30, w_in_0_60, w_in_0_7, w_in_0_9, w_in_0_999, w_in_1_60, w_in_20_27, w_in_2_40, w_in_48_57, w_whole, w_all, wt_0, wt_1, wt_2, nI_add, nI_1, nI_mul, nI_and, nI_or, nI_sd, nI_sub, l_sub1, l_addm1, l_all, l_1shl, l_or0, l_add0, l_0add, l_m1, l_m1r, l_neg, l_nn, l_eq0, l_le0, l_0lt, l_eq1, l_m1lt, l_m1le, l_m1eq0, l_10, l_00, l_1le, nI_le_l, nI_lt_l, nI_eq_l, bc_nI, nt_nI, bit_nI, b2_ite, b2_ite1, nI_max, nI_min, isR_nI, n_30, n_40, n_6, n_8, hi_ne, hi_ni, hi_eq, y_iL, y_iR, y_lI, y_lR, hl_ne, hl_ni, hl_eq, y_rI, y_rL, if_true, if_false, if_pos, if_neg, true_and, and_true, not_true_eq_false, not_false_eq_true, x.n, x.h, x.b, x.mo, x.wi, x.ca, x.ro, x.ti, x.il, x.ni, x.ga, x.ri, h43, c]
      exact ⟨Fr.refl, hro, fun _ _ => (by first | rfl | trivial), hs⟩
def smoR (P : Pk) (may : Nat → Nat) : Int32 × Option (List Int64) := match smoO P may with
  | none => (-2, none)
  | some y => (nI y.1, some (rowL (fun k => y.2.getD k 0) P.hrs))
theorem c_smoothest (x : CX σ P a) (s : SC σ) : wp (f_X1_smoothest (some 0) σ) (QuC σ (smoR P (mayOf P a 0)).1 (smoR P (mayOf P a 0)).2) := by
  have x0 := x
  have n8 := x.n8
  have h8 := x.h8
  generalize hQ : QuC σ (smoR P (mayOf P a 0)).1 (smoR P (mayOf P a 0)).2 = Q
  unfold f_X1_smoothest
  simp (disch := first | omega | exact x.s | exact hi_eq | ((repeat (first | exact x.s | apply sw_I | apply sw_L | apply sw_cp | apply sw_18 | apply sw_21 | apply sw_22 | apply sw_m12 | apply sw_m18)); done) | rfl) only [wp_ite, wp_some, y_jn, wp_r0, wp_r1, wp_b2, y_nn, w_bc, w_nt, wo_0, wg_0, wi_0, w_has, w_isRider, w_isPair, w_isHour, w_in, w_in0, w_in_0_1, w_in_0_10, w_in_0_3, w_in_0_30, w_in_0_60, w_in_0_7, w_in_0_9, w_in_0_999, w_in_1_60, w_in_20_27, w_in_2_40, w_in_48_57, w_whole, w_all, wt_0, wt_1, wt_2, nI_add, nI_1, nI_mul, nI_and, nI_or, nI_sd, nI_sub, l_sub1, l_addm1, l_all, l_1shl, l_or0, l_add0, l_0add, l_m1, l_m1r, l_neg, l_nn, l_eq0, l_le0, l_0lt, l_eq1, l_m1lt, l_m1le, l_m1eq0, l_10, l_00, l_1le, nI_le_l, nI_lt_l, nI_eq_l, bc_nI, nt_nI, bit_nI, b2_ite, b2_ite1, nI_max, nI_min, isR_nI, n_1000000, n_2, n_20, hi_ne, hi_ni, hi_eq, y_iL, y_iR, y_lI, y_lR, hl_ne, hl_ni, hl_eq, y_rI, y_rL, if_true, if_false, if_pos, if_neg, true_and, and_true, not_true_eq_false, not_false_eq_true, x.n, x.h, x.b, x.mo, x.wi, x.ca, x.ro, x.ti, x.il, x.ni, x.ga, x.ri]
  rw [wp_bnd]
  refine wp_mono (c_opens (w := 0) x (by decide)) (fun _ τ h => ?_)
  obtain ⟨f, h1, h2⟩ := h
  refine wp_up 8 (fun i y τ' => y = nI i ∧ Fr [18, 24, 26] [] [] σ τ' ∧ AI τ' 24 8 (mayOf P a 0) ∧ AI τ' 18 i (fun _ => 0)) (fun ag i y τ' hi' hJ hag => ?_) (fun ag y τ' hJ => ?_) (by decide) ⟨rfl, f.mono rfl, h1, AI.nil⟩
  · obtain ⟨rfl, f1, k1, k2⟩ := hJ
    replace x := x0.fr f1 rfl
    unfold f_X1_smoothest_b7
    simp (disch := first | omega | exact x.s | exact hi_eq | ((repeat (first | exact x.s | apply sw_I | apply sw_L | apply sw_cp | apply sw_18 | apply sw_21 | apply sw_22 | apply sw_m12 | apply sw_m18)); done) | rfl) only [wp_ite, wp_some, y_jn, wp_r0, wp_r1, wp_b2, y_nn, w_bc, w_nt, wo_0, wg_0, wi_0, wr_0_26, wl_18, ws_18, w_has, w_isRider, w_isPair, w_isHour, w_in, w_in0, w_in_0_1, w_in_0_10, w_in_0_3, w_in_0_30, w_in_0_60, w_in_0_7, w_in_0_9, w_in_0_999, w_in_1_60, w_in_20_27, w_in_2_40, w_in_48_57, w_whole, w_all, wt_0, wt_1, wt_2, nI_add, nI_1, nI_mul, nI_and, nI_or, nI_sd, nI_sub, l_sub1, l_addm1, l_all, l_1shl, l_or0, l_add0, l_0add, l_m1, l_m1r, l_neg, l_nn, l_eq0, l_le0, l_0lt, l_eq1, l_m1lt, l_m1le, l_m1eq0, l_10, l_00, l_1le, nI_le_l, nI_lt_l, nI_eq_l, bc_nI, nt_nI, bit_nI, b2_ite, b2_ite1, nI_max, nI_min, isR_nI, n_26, n_8, hi_ne, hi_ni, hi_eq, y_iL, y_iR, y_lI, y_lR, hl_ne, hl_ni, hl_eq, y_rI, y_rL, if_true, if_false, if_pos, if_neg, true_and, and_true, not_true_eq_false, not_false_eq_true, x.n, x.h, x.b, x.mo, x.wi, x.ca, x.ro, x.ti, x.il, x.ni, x.ga, x.ri]
    exact hag _ _ ⟨rfl, f1.putI rfl, k1.ne (by decide), k2.snoc rfl⟩
  · obtain ⟨rfl, f1, k1, k2⟩ := hJ
    replace x := x0.fr f1 rfl
    have f2 : Fr [18, 24, 26] [43] [] σ (wI τ' 0 43 (nI 1000000)) := (f1.mono rfl).putI rfl
    have x2 := x0.fr f2 rfl
    unfold f_X1_smoothest_b7
    simp (disch := first | omega | exact x.s | exact hi_eq | ((repeat (first | exact x.s | apply sw_I | apply sw_L | apply sw_cp | apply sw_18 | apply sw_21 | apply sw_22 | apply sw_m12 | apply sw_m18)); done) | rfl) only [wp_ite, wp_some, y_jn, wp_r0, wp_r1, wp_b2, y_nn, w_bc, w_nt, wo_0, wg_0, wi_0, wr_0_26, wl_18, ws_18, w_has, w_isRider, w_isPair, w_isHour, w_in, w_in0, w_in_0_1, w_in_0_10, w_in_0_3, w_in_0_30, w_in_0_60, w_in_0_7, w_in_0_9, w_in_0_999, w_in_1_60, w_in_20_27, w_in_2_40, w_in_48_57, w_whole, w_all, wt_0, wt_1, wt_2, nI_add, nI_1, nI_mul, nI_and, nI_or, nI_sd, nI_sub, l_sub1, l_addm1, l_all, l_1shl, l_or0, l_add0, l_0add, l_m1, l_m1r, l_neg, l_nn, l_eq0, l_le0, l_0lt, l_eq1, l_m1lt, l_m1le, l_m1eq0, l_10, l_00, l_1le, nI_le_l, nI_lt_l, nI_eq_l, bc_nI, nt_nI, bit_nI, b2_ite, b2_ite1, nI_max, nI_min, isR_nI, n_1000000, n_2, n_20, n_26, n_8, hi_ne, hi_ni, hi_eq, y_iL, y_iR, y_lI, y_lR, hl_ne, hl_ni, hl_eq, y_rI, y_rL, if_true, if_false, if_pos, if_neg, true_and, and_true, not_true_eq_false, not_false_eq_true, x.n, x.h, x.b, x.mo, x.wi, x.ca, x.ro, x.ti, x.il, x.ni, x.ga, x.ri]
    rw [wp_bnd]
    show wp (g_smooths 20 (some 0) (nI 0) (nI 0) _) _
    refine wp_mono (c_smooths (a := a) (may := mayOf P a 0) mayOf_ok P.hrs 20 _ 0 0 (fun _ => 0) [] (1000000, []) (by omega) (by omega) x2 (k1.ne (by decide)) (fun r hr' => by rw [hi_ne (by decide)]; exact k2 r (by omega)) (fun r _ => Nat.zero_le _) rfl (fun j hj => absurd hj (Nat.not_lt_zero _)) (fun j hj => absurd hj (Nat.not_lt_zero _)) (Nat.le_refl _) ⟨hi_eq, Nat.le_refl _, Or.inl rfl⟩) (fun _ τ2 hx => ?_)
    obtain ⟨f3, -, -, q1, q2, q3⟩ := hx
    have ff : Fr [18, 20, 24, 26, 29] [43] [] σ τ2 := (f2.mono rfl).then f3 rfl
    have x3 := x0.fr ff rfl
    have s3 : SC τ2 := s.fr ff rfl
    have e0 : smo P (mayOf P a 0) P.hrs 0 (fun _ => 0) (([] : List Nat).getD (0 - 1) 0) = smoO P (mayOf P a 0) := rfl
    rw [e0] at q1 q2 q3
    unfold smoR at hQ
    cases ho : smoO P (mayOf P a 0) with
    | none =>
      rw [ho] at q1 hQ
      have q1' : hi τ2 0 43 = nI 1000000 := q1
      simp (disch := first | omega | exact x3.s | exact hi_eq | ((repeat (first | exact x3.s | apply sw_I | apply sw_L | apply sw_cp | apply sw_18 | apply sw_21 | apply sw_22 | apply sw_m12 | apply sw_m18)); done) | rfl) only [wp_ite, wp_some, y_jn, wp_r0, wp_r1, wp_b2, y_nn, w_bc, w_nt, wo_0, wg_0, wi_0, wr_0_26, wl_18, ws_18, w_has, w_isRider, w_isPair, w_isHour, w_in, w_in0, w_in_0_1, w_in_0_10, w_in_0_3, w_in_0_30, w_in_0_60, w_in_0_7, w_in_0_9, w_in_0_999, w_in_1_60, w_in_20_27, w_in_2_40, w_in_48_57, w_whole, w_all, wt_0, wt_1, wt_2, nI_add, nI_1, nI_mul, nI_and, nI_or, nI_sd, nI_sub, l_sub1, l_addm1, l_all, l_1shl, l_or0, l_add0, l_0add, l_m1, l_m1r, l_neg, l_nn, l_eq0, l_le0, l_0lt, l_eq1, l_m1lt, l_m1le, l_m1eq0, l_10, l_00, l_1le, nI_le_l, nI_lt_l, nI_eq_l, bc_nI, nt_nI, bit_nI, b2_ite, b2_ite1, nI_max, nI_min, isR_nI, n_1000000, n_2, n_20, n_26, n_8, hi_ne, hi_ni, hi_eq, y_iL, y_iR, y_lI, y_lR, hl_ne, hl_ni, hl_eq, y_rI, y_rL, if_true, if_false, if_pos, if_neg, true_and, and_true, not_true_eq_false, not_false_eq_true, x3.n, x3.h, x3.b, x3.mo, x3.wi, x3.ca, x3.ro, x3.ti, x3.il, x3.ni, x3.ga, x3.ri, q1']
      rw [← hQ]
      exact ⟨rfl, ff.mono rfl, s3, RwC.fr ff rfl⟩
    | some y =>
      rw [ho] at q1 q2 q3 hQ
      have hy : y.2.length = P.hrs ∧ y.1 ≤ 9 * P.hrs := by
        rcases smo_len _ _ _ _ _ ho with h | ⟨r, hr'⟩
        · exact h
        · have := x.w9 r; omega
      have e1 : keepS (1000000, []) 0 [] (some y) = (y.1, y.2) := by
        rw [keepS_lt (by dsimp only; omega), Nat.zero_add, List.nil_append]
      rw [e1] at q1 q2 q3
      dsimp only at q1 q2 q3 hQ
      have q3' : ∀ j, j < P.hrs → hi τ2 29 j = nI (y.2.getD j 0) := by
        rcases q3 with q3 | q3
        · omega
        · exact q3
      have hne : ¬ y.1 = 1000000 := by omega
      simp (disch := first | omega | exact x3.s | exact hi_eq | ((repeat (first | exact x3.s | apply sw_I | apply sw_L | apply sw_cp | apply sw_18 | apply sw_21 | apply sw_22 | apply sw_m12 | apply sw_m18)); done) | rfl) only [wp_ite, wp_some, y_jn, wp_r0, wp_r1, wp_b2, y_nn, w_bc, w_nt, wo_0, wg_0, wi_0, wr_0_26, wl_18, ws_18, w_has, w_isRider, w_isPair, w_isHour, w_in, w_in0, w_in_0_1, w_in_0_10, w_in_0_3, w_in_0_30, w_in_0_60, w_in_0_7, w_in_0_9, w_in_0_999, w_in_1_60, w_in_20_27, w_in_2_40, w_in_48_57, w_whole, w_all, wt_0, wt_1, wt_2, nI_add, nI_1, nI_mul, nI_and, nI_or, nI_sd, nI_sub, l_sub1, l_addm1, l_all, l_1shl, l_or0, l_add0, l_0add, l_m1, l_m1r, l_neg, l_nn, l_eq0, l_le0, l_0lt, l_eq1, l_m1lt, l_m1le, l_m1eq0, l_10, l_00, l_1le, nI_le_l, nI_lt_l, nI_eq_l, bc_nI, nt_nI, bit_nI, b2_ite, b2_ite1, nI_max, nI_min, isR_nI, n_1000000, n_2, n_20, n_26, n_8, hi_ne, hi_ni, hi_eq, y_iL, y_iR, y_lI, y_lR, hl_ne, hl_ni, hl_eq, y_rI, y_rL, if_true, if_false, if_pos, if_neg, true_and, and_true, not_true_eq_false, not_false_eq_true, x3.n, x3.h, x3.b, x3.mo, x3.wi, x3.ca, x3.ro, x3.ti, x3.il, x3.ni, x3.ga, x3.ri, q1, hne]
      rw [wp_bnd]
      refine wp_mono (c_tellsTurn (t := fun k => y.2.getD k 0) x3 q3') (fun _ τ3 h => ?_)
      have f4 : Fr [18, 20, 24, 26, 29, 36] [43, 52] [] σ τ3 := (ff.mono rfl).then h.1 rfl
      have x4 := x0.fr f4 rfl
      have q4 : hi τ3 0 43 = nI y.1 := (h.1.i rfl).trans q1
      simp (disch := first | omega | exact x4.s | exact hi_eq | ((repeat (first | exact x4.s | apply sw_I | apply sw_L | apply sw_cp | apply sw_18 | apply sw_21 | apply sw_22 | apply sw_m12 | apply sw_m18)); done) | rfl) only [wp_ite, wp_some, y_jn, wp_r0, wp_r1, wp_b2, y_nn, w_bc, w_nt, wo_0, wg_0, wi_0, wr_0_26, wl_18, ws_18, w_has, w_isRider, w_isPair, w_isHour, w_in, w_in0, w_in_0_1, w_in_0_10, w_in_0_3, w_in_0_30, w_in_0_60, w_in_0_7, w_in_0_9, w_in_0_999, w_in_1_60, w_in_20_27, w_in_2_40, w_in_48_57, w_whole, w_all, wt_0, wt_1, wt_2, nI_add, nI_1, nI_mul, nI_and, nI_or, nI_sd, nI_sub, l_sub1, l_addm1, l_all, l_1shl, l_or0, l_add0, l_0add, l_m1, l_m1r, l_neg, l_nn, l_eq0, l_le0, l_0lt, l_eq1, l_m1lt, l_m1le, l_m1eq0, l_10, l_00, l_1le, nI_le_l, nI_lt_l, nI_eq_l, bc_nI, nt_nI, bit_nI, b2_ite, b2_ite1, nI_max, nI_min, isR_nI, n_1000000, n_2, n_20, n_26, n_8, hi_ne, hi_ni, hi_eq, y_iL, y_iR, y_lI, y_lR, hl_ne, hl_ni, hl_eq, y_rI, y_rL, if_true, if_false, if_pos, if_neg, true_and, and_true, not_true_eq_false, not_false_eq_true, x4.n, x4.h, x4.b, x4.mo, x4.wi, x4.ca, x4.ro, x4.ti, x4.il, x4.ni, x4.ga, x4.ri, q4]
      rw [← hQ]
      exact ⟨rfl, f4.mono rfl, s.fr f4 rfl, h.2⟩
end csmo
