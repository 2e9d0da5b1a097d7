/-! PURE 74: the smoothest row (the reference) -/
section msmo
variable {σ τ : Hp} {P : Pk} {a : HS} {may : Nat → Nat}
theorem m_gosm (mk : MayOK P may) : ∀ k n (σ : Hp) h left (rode : Nat → Nat) last, k < n → h + k = P.hrs → MX σ P a → AI σ 54 P.n may → AI σ 51 P.n rode → (∀ r, r < P.n → rode r ≤ P.most r) → (h = 0 ∨ (hi σ 61 (h - 1) = nI last ∧ last < P.n)) → left ≤ 1000 → (∀ y, smo P may k h rode last = some y → left ≤ y.1) →
    wp (g_gosm n (some 37) (nI h) (nI left) σ) (fun x τ => Fr [51, 61] [] [] σ τ ∧ AI τ 51 P.n rode ∧ (∀ j, j < h → hi τ 61 j = hi σ 61 j) ∧ ((x = 0 ∧ ∀ y, smo P may k h rode last = some y → left < y.1) ∨ (x = 1 ∧ ∃ y, smo P may k h rode last = some y ∧ y.1 = left ∧ ∀ j, j < k → hi τ 61 (h + j) = nI (y.2.getD j 0)))) := by
  intro k
  induction k with
  | zero =>
    intro n σ h left rode last hkn hk' x hm hro hrm hl' hle hc
    obtain ⟨n, rfl⟩ : ∃ m, n = m + 1 := ⟨n - 1, by omega⟩
    have h8 := x.h8
    show wp (fb_X3_goSmooth (g_gosm n) (some 37) (nI h) (nI left) σ) _
    have hh : h = P.hrs := by omega
    have h0 := hc (0, []) rfl
    unfold fb_X3_goSmooth
    simp (disch := first | omega | exact x.s | exact hi_eq | ((repeat (first | exact x.s | apply sw_I | apply sw_L | apply sw_cp | apply sw_18 | apply sw_21 | apply sw_22 | apply sw_m12 | apply sw_m18)); done) | rfl) only [wp_ite, wp_some, wp_r0, wp_r1, wp_b2, y_nn, w_bc, w_nt, wo_37, wg_37, wi_37, w_has3, w_isMan, w_areTwo, w_isHour3, w_in3, w_night, wtM_0, wtM_1, wtM_2, nI_add, nI_1, nI_mul, nI_and, nI_or, nI_sd, nI_sub, l_sub1, l_addm1, l_all, l_1shl, l_or0, l_add0, l_0add, l_m1, l_m1r, l_neg, l_nn, l_eq0, l_le0, l_0lt, l_eq1, l_m1lt, l_m1le, l_m1eq0, l_10, l_00, l_1le, nI_le_l, nI_lt_l, nI_eq_l, bc_nI, nt_nI, bit_nI, b2_ite, b2_ite1, nI_max, nI_min, isR_nI, n_2, hi_ne, hi_ni, hi_eq, y_iL, y_iR, y_lI, y_lR, hl_ne, hl_ni, hl_eq, y_rI, y_rL, if_true, if_false, if_pos, if_neg, true_and, and_true, not_true_eq_false, not_false_eq_true, x.n, x.h, x.b, x.mo, x.wi, x.ca, x.ro, x.ti, x.il, x.ni, x.ga, x.ri, hh]
    refine ⟨Fr.refl, hro, fun _ _ => (by first | rfl | trivial), Or.inr ⟨(0, []), rfl, by dsimp only at h0 ⊢; omega, fun j hj => absurd hj (Nat.not_lt_zero _)⟩⟩
  | succ k ih =>
    intro n σ h left rode last hkn hk' x hm hro hrm hl' hle hc
    obtain ⟨n, rfl⟩ : ∃ m, n = m + 1 := ⟨n - 1, by omega⟩
    have x0 := x
    have n8 := x.n8
    have h8 := x.h8
    have hh : ¬ h = P.hrs := by omega
    show wp (fb_X3_goSmooth (g_gosm n) (some 37) (nI h) (nI left) σ) _
    rw [smo_succ] at *
    generalize hf : smF P may k h rode last = f at *
    generalize hQ : (fun (x : Int32) τ => Fr [51, 61] [] [] σ τ ∧ AI τ 51 P.n rode ∧ (∀ j, j < h → hi τ 61 j = hi σ 61 j) ∧ ((x = 0 ∧ ∀ y, bestR f P.n = some y → left < y.1) ∨ (x = 1 ∧ ∃ y, bestR f P.n = some y ∧ y.1 = left ∧ ∀ j, j < k + 1 → hi τ 61 (h + j) = nI (y.2.getD j 0)))) = Q
    unfold fb_X3_goSmooth
    simp (disch := first | omega | exact x.s | exact hi_eq | ((repeat (first | exact x.s | apply sw_I | apply sw_L | apply sw_cp | apply sw_18 | apply sw_21 | apply sw_22 | apply sw_m12 | apply sw_m18)); done) | rfl) only [wp_ite, wp_some, wp_r0, wp_r1, wp_b2, y_nn, w_bc, w_nt, wo_37, wg_37, wi_37, w_has3, w_isMan, w_areTwo, w_isHour3, w_in3, w_night, wtM_0, wtM_1, wtM_2, nI_add, nI_1, nI_mul, nI_and, nI_or, nI_sd, nI_sub, l_sub1, l_addm1, l_all, l_1shl, l_or0, l_add0, l_0add, l_m1, l_m1r, l_neg, l_nn, l_eq0, l_le0, l_0lt, l_eq1, l_m1lt, l_m1le, l_m1eq0, l_10, l_00, l_1le, nI_le_l, nI_lt_l, nI_eq_l, bc_nI, nt_nI, bit_nI, b2_ite, b2_ite1, nI_max, nI_min, isR_nI, n_2, hi_ne, hi_ni, hi_eq, y_iL, y_iR, y_lI, y_lR, hl_ne, hl_ni, hl_eq, y_rI, y_rL, if_true, if_false, if_pos, if_neg, true_and, and_true, not_true_eq_false, not_false_eq_true, x.n, x.h, x.b, x.mo, x.wi, x.ca, x.ro, x.ti, x.il, x.ni, x.ga, x.ri, hh]
    refine wp_up P.n (fun r y τ => y = nI r ∧ Fr [51, 61] [] [] σ τ ∧ AI τ 51 P.n rode ∧ (∀ j, j < h → hi τ 61 j = hi σ 61 j) ∧ ∀ q, q < r → ∀ z, f q = some z → left < z.1) (fun ag r y τ hr' hJ hag => ?_) (fun ag y τ hJ => ?_) (by omega) ⟨rfl, Fr.refl, hro, fun _ _ => rfl, fun q hq => absurd hq (Nat.not_lt_zero _)⟩
    · obtain ⟨rfl, fr, g1, g2, g3⟩ := hJ
      replace x := x0.fr fr rfl
      have m8 := mk.lt h8 r
      have m4 := x.m4 r
      have w9 := x.w9
      have e54 : hi τ 54 r = nI (may r) := (fr.i rfl).trans (hm r hr')
      have e51 := g1 r hr'
      have rm := hrm r hr'
      have fe : f r = if (may r).testBit h = true ∧ rode r ≠ P.most r then addS (apt P h r last) r (smo P may k (h + 1) (up1 rode r (rode r + 1)) r) else none := by rw [← hf]; rfl
      have next : ∀ τ', Fr [51, 61] [] [] σ τ' → AI τ' 51 P.n rode → (∀ j, j < h → hi τ' 61 j = hi σ 61 j) → (∀ z, f r = some z → left < z.1) → wp (ag (nI (r + 1)) τ') Q := fun τ' a1 a2 a3 a4 => hag _ _ ⟨rfl, a1, a2, a3, fun q hq z hz => by
        by_cases e : q = r
        · rw [e] at hz; exact a4 z hz
        · exact g3 q (by omega) z hz⟩
      have skip : ¬ ((may r).testBit h = true ∧ rode r ≠ P.most r) → wp (ag (nI (r + 1)) τ) Q := fun e => next τ fr g1 g2 (fun z hz => by rw [fe, if_neg e] at hz; cases hz)
      unfold f_X3_goSmooth_b12
      simp (disch := first | omega | exact x.s | exact hi_eq | ((repeat (first | exact x.s | apply sw_I | apply sw_L | apply sw_cp | apply sw_18 | apply sw_21 | apply sw_22 | apply sw_m12 | apply sw_m18)); done) | rfl) only [wp_ite, wp_some, wp_r0, wp_r1, wp_b2, y_nn, w_bc, w_nt, wo_37, wg_37, wi_37, wr_37_32, wr_37_4, wr_37_5, wr_37_40, wr_37_29, wl_39, ws_39, wl_40, ws_40, wl_51, ws_51, wl_54, ws_54, wl_61, ws_61, w_has3, w_isMan, w_areTwo, w_isHour3, w_in3, w_night, wtM_0, wtM_1, wtM_2, nI_add, nI_1, nI_mul, nI_and, nI_or, nI_sd, nI_sub, l_sub1, l_addm1, l_all, l_1shl, l_or0, l_add0, l_0add, l_m1, l_m1r, l_neg, l_nn, l_eq0, l_le0, l_0lt, l_eq1, l_m1lt, l_m1le, l_m1eq0, l_10, l_00, l_1le, nI_le_l, nI_lt_l, nI_eq_l, bc_nI, nt_nI, bit_nI, b2_ite, b2_ite1, nI_max, nI_min, isR_nI, n_100, n_2, n_3, n_32, n_4, n_40, n_5, hi_ne, hi_ni, hi_eq, y_iL, y_iR, y_lI, y_lR, hl_ne, hl_ni, hl_eq, y_rI, y_rL, if_true, if_false, if_pos, if_neg, true_and, and_true, not_true_eq_false, not_false_eq_true, x.n, x.h, x.b, x.mo, x.wi, x.ca, x.ro, x.ti, x.il, x.ni, x.ga, x.ri, e54]
      rw [y_jn]
      by_cases c1 : (may r).testBit h = true
      · rw [if_pos c1]
        simp (disch := first | omega | exact x.s | exact hi_eq | ((repeat (first | exact x.s | apply sw_I | apply sw_L | apply sw_cp | apply sw_18 | apply sw_21 | apply sw_22 | apply sw_m12 | apply sw_m18)); done) | rfl) only [wp_ite, wp_some, wp_r0, wp_r1, wp_b2, y_nn, w_bc, w_nt, wo_37, wg_37, wi_37, wr_37_32, wr_37_4, wr_37_5, wr_37_40, wr_37_29, wl_39, ws_39, wl_40, ws_40, wl_51, ws_51, wl_54, ws_54, wl_61, ws_61, w_has3, w_isMan, w_areTwo, w_isHour3, w_in3, w_night, wtM_0, wtM_1, wtM_2, nI_add, nI_1, nI_mul, nI_and, nI_or, nI_sd, nI_sub, l_sub1, l_addm1, l_all, l_1shl, l_or0, l_add0, l_0add, l_m1, l_m1r, l_neg, l_nn, l_eq0, l_le0, l_0lt, l_eq1, l_m1lt, l_m1le, l_m1eq0, l_10, l_00, l_1le, nI_le_l, nI_lt_l, nI_eq_l, bc_nI, nt_nI, bit_nI, b2_ite, b2_ite1, nI_max, nI_min, isR_nI, n_100, n_2, n_3, n_32, n_4, n_40, n_5, hi_ne, hi_ni, hi_eq, y_iL, y_iR, y_lI, y_lR, hl_ne, hl_ni, hl_eq, y_rI, y_rL, if_true, if_false, if_pos, if_neg, true_and, and_true, not_true_eq_false, not_false_eq_true, x.n, x.h, x.b, x.mo, x.wi, x.ca, x.ro, x.ti, x.il, x.ni, x.ga, x.ri, e54, e51]
        by_cases c2 : rode r = P.most r
        · rw [if_pos c2]
          exact skip (fun z => z.2 c2)
        · rw [if_neg c2]
          rw [if_pos ⟨c1, c2⟩] at fe
          have ha9 := apt_le w9 h r last
          refine wp_jn (fun v υ => v = nI (apt P h r last) ∧ υ = τ) (fun j hj => ?_) (fun v υ hv => ?_)
          · by_cases c3 : h = 0
            · have e0 : nI h = 0 := by rw [c3]; rfl
              rw [if_pos c3]
              exact hj _ _ ⟨by unfold apt; rw [if_pos c3]; rfl, rfl⟩
            · have e0 : ¬ nI h = 0 := by rw [n_0, nI_eq_l (by omega) (by decide)]; exact c3
              obtain ⟨l0, l1⟩ : hi σ 61 (h - 1) = nI last ∧ last < P.n := by rcases hl' with e | e; exact absurd e c3; exact e
              have e1 : hi τ 61 (h - 1) = nI last := by rw [g2 _ (by omega), l0]
              have wr := w9 r
              have wl := w9 last
              rw [if_neg c3]
              simp (disch := first | omega | exact x.s | exact hi_eq | ((repeat (first | exact x.s | apply sw_I | apply sw_L | apply sw_cp | apply sw_18 | apply sw_21 | apply sw_22 | apply sw_m12 | apply sw_m18)); done) | rfl) only [wp_ite, wp_some, wp_r0, wp_r1, wp_b2, y_nn, w_bc, w_nt, wo_37, wg_37, wi_37, wr_37_32, wr_37_4, wr_37_5, wr_37_40, wr_37_29, wl_39, ws_39, wl_40, ws_40, wl_51, ws_51, wl_54, ws_54, wl_61, ws_61, w_has3, w_isMan, w_areTwo, w_isHour3, w_in3, w_night, wtM_0, wtM_1, wtM_2, nI_add, nI_1, nI_mul, nI_and, nI_or, nI_sd, nI_sub, l_sub1, l_addm1, l_all, l_1shl, l_or0, l_add0, l_0add, l_m1, l_m1r, l_neg, l_nn, l_eq0, l_le0, l_0lt, l_eq1, l_m1lt, l_m1le, l_m1eq0, l_10, l_00, l_1le, nI_le_l, nI_lt_l, nI_eq_l, bc_nI, nt_nI, bit_nI, b2_ite, b2_ite1, nI_max, nI_min, isR_nI, n_100, n_2, n_3, n_32, n_4, n_40, n_5, hi_ne, hi_ni, hi_eq, y_iL, y_iR, y_lI, y_lR, hl_ne, hl_ni, hl_eq, y_rI, y_rL, if_true, if_false, if_pos, if_neg, true_and, and_true, not_true_eq_false, not_false_eq_true, x.n, x.h, x.b, x.mo, x.wi, x.ca, x.ro, x.ti, x.il, x.ni, x.ga, x.ri, e1, absd_nI]
              exact hj _ _ ⟨by unfold apt; rw [if_neg c3], rfl⟩
          · obtain ⟨rfl, rfl⟩ := hv
            rw [ite_le (by omega) (by omega)]
            by_cases c4 : apt P h r last ≤ left
            · rw [if_pos c4]
              have f1 : Fr [51, 61] [] [] σ (wI (wI υ 61 h (nI r)) 51 r (nI (rode r + 1))) := (fr.putI rfl).putI rfl
              have x1 := x0.fr f1 rfl
              have h51 : AI (wI (wI υ 61 h (nI r)) 51 r (nI (rode r + 1))) 51 P.n (up1 rode r (rode r + 1)) := (g1.ne (by decide)).put r (rode r + 1)
              have h61 : ∀ j, j < h → hi (wI (wI υ 61 h (nI r)) 51 r (nI (rode r + 1))) 61 j = hi σ 61 j := fun j hj => by
                rw [hi_ne (by decide), hi_ni (by omega)]; exact g2 j hj
              have h61' : hi (wI (wI υ 61 h (nI r)) 51 r (nI (rode r + 1))) 61 h = nI r := by rw [hi_ne (by decide), hi_eq]
              have e51' : hi (wI υ 61 h (nI r)) 51 r = nI (rode r) := by rw [hi_ne (by decide)]; exact e51
              simp (disch := first | omega | exact x.s | exact hi_eq | ((repeat (first | exact x.s | apply sw_I | apply sw_L | apply sw_cp | apply sw_18 | apply sw_21 | apply sw_22 | apply sw_m12 | apply sw_m18)); done) | rfl) only [wp_ite, wp_some, wp_r0, wp_r1, wp_b2, y_nn, w_bc, w_nt, wo_37, wg_37, wi_37, wr_37_32, wr_37_4, wr_37_5, wr_37_40, wr_37_29, wl_39, ws_39, wl_40, ws_40, wl_51, ws_51, wl_54, ws_54, wl_61, ws_61, w_has3, w_isMan, w_areTwo, w_isHour3, w_in3, w_night, wtM_0, wtM_1, wtM_2, nI_add, nI_1, nI_mul, nI_and, nI_or, nI_sd, nI_sub, l_sub1, l_addm1, l_all, l_1shl, l_or0, l_add0, l_0add, l_m1, l_m1r, l_neg, l_nn, l_eq0, l_le0, l_0lt, l_eq1, l_m1lt, l_m1le, l_m1eq0, l_10, l_00, l_1le, nI_le_l, nI_lt_l, nI_eq_l, bc_nI, nt_nI, bit_nI, b2_ite, b2_ite1, nI_max, nI_min, isR_nI, n_100, n_2, n_3, n_32, n_4, n_40, n_5, hi_ne, hi_ni, hi_eq, y_iL, y_iR, y_lI, y_lR, hl_ne, hl_ni, hl_eq, y_rI, y_rL, if_true, if_false, if_pos, if_neg, true_and, and_true, not_true_eq_false, not_false_eq_true, x.n, x.h, x.b, x.mo, x.wi, x.ca, x.ro, x.ti, x.il, x.ni, x.ga, x.ri, e51']
              rw [wp_bnd]
              generalize (wI (wI υ 61 h (nI r)) 51 r (nI (rode r + 1))) = υ1 at *
              have hc1 : ∀ y, smo P may k (h + 1) (up1 rode r (rode r + 1)) r = some y → left - apt P h r last ≤ y.1 := fun y hy => by
                rw [hy] at fe
                obtain ⟨z, z1, z2⟩ := bestR_le P.n r hr' _ fe
                have := hc z z1
                have z3 : z.1 ≤ apt P h r last + y.1 := z2
                omega
              refine wp_mono (ih n υ1 (h + 1) (left - apt P h r last) (up1 rode r (rode r + 1)) r (by omega) (by omega) x1 (hm.fr f1 rfl (by decide) (by decide)) h51 ?_ (Or.inr ⟨by rw [Nat.add_sub_cancel]; exact h61', hr'⟩) (by omega) hc1) (fun y τ2 hx => ?_)
              · intro o ho
                unfold up1
                by_cases e : o = r
                · rw [if_pos e, e]; omega
                · rw [if_neg e]; exact hrm o ho
              · obtain ⟨f2, q1, q2, q3⟩ := hx
                have ff := f1.trans f2
                have x2 := x0.fr ff rfl
                have e2 : hi τ2 51 r = nI (rode r + 1) := by rw [q1 r hr']; unfold up1; rw [if_pos rfl]
                have r1 : AI (wI τ2 51 r (nI (rode r))) 51 P.n rode := fun o ho => by
                  by_cases e : o = r
                  · rw [e, hi_eq]
                  · rw [hi_ni e, q1 o ho]; unfold up1; rw [if_neg e]
                have r2 : ∀ j, j < h → hi (wI τ2 51 r (nI (rode r))) 61 j = hi σ 61 j := fun j hj => by
                  rw [hi_ne (by decide), q2 j (by omega)]; exact h61 j hj
                rcases q3 with ⟨rfl, q3⟩ | ⟨rfl, y, y1, y2, y3⟩
                · simp (disch := first | omega | exact x2.s | exact hi_eq | ((repeat (first | exact x2.s | apply sw_I | apply sw_L | apply sw_cp | apply sw_18 | apply sw_21 | apply sw_22 | apply sw_m12 | apply sw_m18)); done) | rfl) only [wp_ite, wp_some, wp_r0, wp_r1, wp_b2, y_nn, w_bc, w_nt, wo_37, wg_37, wi_37, wr_37_32, wr_37_4, wr_37_5, wr_37_40, wr_37_29, wl_39, ws_39, wl_40, ws_40, wl_51, ws_51, wl_54, ws_54, wl_61, ws_61, w_has3, w_isMan, w_areTwo, w_isHour3, w_in3, w_night, wtM_0, wtM_1, wtM_2, nI_add, nI_1, nI_mul, nI_and, nI_or, nI_sd, nI_sub, l_sub1, l_addm1, l_all, l_1shl, l_or0, l_add0, l_0add, l_m1, l_m1r, l_neg, l_nn, l_eq0, l_le0, l_0lt, l_eq1, l_m1lt, l_m1le, l_m1eq0, l_10, l_00, l_1le, nI_le_l, nI_lt_l, nI_eq_l, bc_nI, nt_nI, bit_nI, b2_ite, b2_ite1, nI_max, nI_min, isR_nI, n_100, n_2, n_3, n_32, n_4, n_40, n_5, hi_ne, hi_ni, hi_eq, y_iL, y_iR, y_lI, y_lR, hl_ne, hl_ni, hl_eq, y_rI, y_rL, if_true, if_false, if_pos, if_neg, true_and, and_true, not_true_eq_false, not_false_eq_true, x2.n, x2.h, x2.b, x2.mo, x2.wi, x2.ca, x2.ro, x2.ti, x2.il, x2.ni, x2.ga, x2.ri, e2, Nat.add_sub_cancel]
                  refine next _ (ff.putI rfl) r1 r2 (fun z hz => ?_)
                  rw [fe] at hz
                  cases hs : smo P may k (h + 1) (up1 rode r (rode r + 1)) r with
                  | none => rw [hs] at hz; cases hz
                  | some y =>
                    rw [hs] at hz
                    cases hz
                    have := q3 y hs
                    show left < apt P h r last + y.1
                    omega
                · simp (disch := first | omega | exact x2.s | exact hi_eq | ((repeat (first | exact x2.s | apply sw_I | apply sw_L | apply sw_cp | apply sw_18 | apply sw_21 | apply sw_22 | apply sw_m12 | apply sw_m18)); done) | rfl) only [wp_ite, wp_some, wp_r0, wp_r1, wp_b2, y_nn, w_bc, w_nt, wo_37, wg_37, wi_37, wr_37_32, wr_37_4, wr_37_5, wr_37_40, wr_37_29, wl_39, ws_39, wl_40, ws_40, wl_51, ws_51, wl_54, ws_54, wl_61, ws_61, w_has3, w_isMan, w_areTwo, w_isHour3, w_in3, w_night, wtM_0, wtM_1, wtM_2, nI_add, nI_1, nI_mul, nI_and, nI_or, nI_sd, nI_sub, l_sub1, l_addm1, l_all, l_1shl, l_or0, l_add0, l_0add, l_m1, l_m1r, l_neg, l_nn, l_eq0, l_le0, l_0lt, l_eq1, l_m1lt, l_m1le, l_m1eq0, l_10, l_00, l_1le, nI_le_l, nI_lt_l, nI_eq_l, bc_nI, nt_nI, bit_nI, b2_ite, b2_ite1, nI_max, nI_min, isR_nI, n_100, n_2, n_3, n_32, n_4, n_40, n_5, hi_ne, hi_ni, hi_eq, y_iL, y_iR, y_lI, y_lR, hl_ne, hl_ni, hl_eq, y_rI, y_rL, if_true, if_false, if_pos, if_neg, true_and, and_true, not_true_eq_false, not_false_eq_true, x2.n, x2.h, x2.b, x2.mo, x2.wi, x2.ca, x2.ro, x2.ti, x2.il, x2.ni, x2.ga, x2.ri, e2, Nat.add_sub_cancel]
                  rw [y1] at fe
                  have fe' : f r = some (apt P h r last + y.1, r :: y.2) := fe
                  obtain ⟨z, z1, z2⟩ := bestR_le P.n r hr' _ fe'
                  have z3 := hc z z1
                  have z4 : z.1 ≤ apt P h r last + y.1 := z2
                  have z5 := bestR_fst P.n r hr' z1 (fun q hq w hw => by have := g3 q hq w hw; omega) _ fe' (by show apt P h r last + y.1 ≤ z.1; omega)
                  rw [← hQ]
                  refine ⟨ff.putI rfl, r1, r2, Or.inr ⟨rfl, z, z1, by omega, fun j hj => ?_⟩⟩
                  rw [← z5, hi_ne (by decide)]
                  cases j with
                  | zero => rw [Nat.add_zero, q2 h (by omega), h61']; rfl
                  | succ j =>
                    have := y3 j (by omega)
                    rw [show h + (j + 1) = h + 1 + j by omega, this]; rfl
            · rw [if_neg c4]
              refine next _ fr g1 g2 (fun z hz => ?_)
              rw [fe] at hz
              cases hs : smo P may k (h + 1) (up1 rode r (rode r + 1)) r with
              | none => rw [hs] at hz; cases hz
              | some y =>
                rw [hs] at hz
                cases hz
                show left < apt P h r last + y.1
                omega
      · rw [if_neg c1]
        exact skip (fun z => c1 z.1)
    · obtain ⟨rfl, fr, g1, g2, g3⟩ := hJ
      replace x := x0.fr fr rfl
      unfold f_X3_goSmooth_b12
      simp (disch := first | omega | exact x.s | exact hi_eq | ((repeat (first | exact x.s | apply sw_I | apply sw_L | apply sw_cp | apply sw_18 | apply sw_21 | apply sw_22 | apply sw_m12 | apply sw_m18)); done) | rfl) only [wp_ite, wp_some, wp_r0, wp_r1, wp_b2, y_nn, w_bc, w_nt, wo_37, wg_37, wi_37, wr_37_32, wr_37_4, wr_37_5, wr_37_40, wr_37_29, wl_39, ws_39, wl_40, ws_40, wl_51, ws_51, wl_54, ws_54, wl_61, ws_61, w_has3, w_isMan, w_areTwo, w_isHour3, w_in3, w_night, wtM_0, wtM_1, wtM_2, nI_add, nI_1, nI_mul, nI_and, nI_or, nI_sd, nI_sub, l_sub1, l_addm1, l_all, l_1shl, l_or0, l_add0, l_0add, l_m1, l_m1r, l_neg, l_nn, l_eq0, l_le0, l_0lt, l_eq1, l_m1lt, l_m1le, l_m1eq0, l_10, l_00, l_1le, nI_le_l, nI_lt_l, nI_eq_l, bc_nI, nt_nI, bit_nI, b2_ite, b2_ite1, nI_max, nI_min, isR_nI, n_100, n_2, n_3, n_32, n_4, n_40, n_5, hi_ne, hi_ni, hi_eq, y_iL, y_iR, y_lI, y_lR, hl_ne, hl_ni, hl_eq, y_rI, y_rL, if_true, if_false, if_pos, if_neg, true_and, and_true, not_true_eq_false, not_false_eq_true, x.n, x.h, x.b, x.mo, x.wi, x.ca, x.ro, x.ti, x.il, x.ni, x.ga, x.ri]
      rw [← hQ]
      refine ⟨fr, g1, g2, Or.inl ⟨rfl, fun y hy => ?_⟩⟩
      obtain ⟨q, q1, q2⟩ := bestR_mem P.n hy
      exact g3 q q1 y q2
theorem m_smoothest (x : MX σ P a) (s : SM σ) : wp (f_X3_smoothest (some 37) σ) (QuM σ (smoR P (mayOf P a 0)).1 (smoR P (mayOf P a 0)).2) := by
  have x0 := x
  have n8 := x.n8
  have h8 := x.h8
  generalize hQ : QuM σ (smoR P (mayOf P a 0)).1 (smoR P (mayOf P a 0)).2 = Q
  have f0 : Fr [] [] [11] σ (wI σ 37 11 0) := Fr.refl.putI rfl
  have x1 := x0.fr f0 rfl
  have s1 : SM (wI σ 37 11 0) := s.fr f0 rfl
  unfold f_X3_smoothest
  simp (disch := first | omega | exact x.s | exact hi_eq | ((repeat (first | exact x.s | apply sw_I | apply sw_L | apply sw_cp | apply sw_18 | apply sw_21 | apply sw_22 | apply sw_m12 | apply sw_m18)); done) | rfl) only [wp_ite, wp_some, y_jn, wp_r0, wp_r1, wp_b2, y_nn, w_bc, w_nt, wo_37, wg_37, wi_37, w_has3, w_isMan, w_areTwo, w_isHour3, w_in3, w_night, wtM_0, wtM_1, wtM_2, nI_add, nI_1, nI_mul, nI_and, nI_or, nI_sd, nI_sub, l_sub1, l_addm1, l_all, l_1shl, l_or0, l_add0, l_0add, l_m1, l_m1r, l_neg, l_nn, l_eq0, l_le0, l_0lt, l_eq1, l_m1lt, l_m1le, l_m1eq0, l_10, l_00, l_1le, nI_le_l, nI_lt_l, nI_eq_l, bc_nI, nt_nI, bit_nI, b2_ite, b2_ite1, nI_max, nI_min, isR_nI, n_1000000000, n_11, n_2, hi_ne, hi_ni, hi_eq, y_iL, y_iR, y_lI, y_lR, hl_ne, hl_ni, hl_eq, y_rI, y_rL, if_true, if_false, if_pos, if_neg, true_and, and_true, not_true_eq_false, not_false_eq_true, x.n, x.h, x.b, x.mo, x.wi, x.ca, x.ro, x.ti, x.il, x.ni, x.ga, x.ri]
  rw [wp_bnd]
  refine wp_mono (m_laid x1 s1 (but_none n8)) (fun _ τ h => ?_)
  obtain ⟨f1, ld⟩ := h
  have f2 : Fr [47, 54, 55, 58] [] [11, 12, 13, 14, 15, 16, 21] σ τ := (f0.mono rfl).then f1 rfl
  have x2 := x0.fr f2 rfl
  simp (disch := first | omega | exact x2.s | exact hi_eq | ((repeat (first | exact x2.s | apply sw_I | apply sw_L | apply sw_cp | apply sw_18 | apply sw_21 | apply sw_22 | apply sw_m12 | apply sw_m18)); done) | rfl) only [wp_ite, wp_some, y_jn, wp_r0, wp_r1, wp_b2, y_nn, w_bc, w_nt, wo_37, wg_37, wi_37, w_has3, w_isMan, w_areTwo, w_isHour3, w_in3, w_night, wtM_0, wtM_1, wtM_2, nI_add, nI_1, nI_mul, nI_and, nI_or, nI_sd, nI_sub, l_sub1, l_addm1, l_all, l_1shl, l_or0, l_add0, l_0add, l_m1, l_m1r, l_neg, l_nn, l_eq0, l_le0, l_0lt, l_eq1, l_m1lt, l_m1le, l_m1eq0, l_10, l_00, l_1le, nI_le_l, nI_lt_l, nI_eq_l, bc_nI, nt_nI, bit_nI, b2_ite, b2_ite1, nI_max, nI_min, isR_nI, n_1000000000, n_11, n_2, hi_ne, hi_ni, hi_eq, y_iL, y_iR, y_lI, y_lR, hl_ne, hl_ni, hl_eq, y_rI, y_rL, if_true, if_false, if_pos, if_neg, true_and, and_true, not_true_eq_false, not_false_eq_true, x2.n, x2.h, x2.b, x2.mo, x2.wi, x2.ca, x2.ro, x2.ti, x2.il, x2.ni, x2.ga, x2.ri]
  rw [wp_bnd]
  refine wp_mono (m_least (lim' := 1000000) (pr := prZ) x2 ld mayOf_ok MustI.zero (hardN_le P a) (fun _ _ => Nat.zero_le _) (Nat.le_refl _) (bd_far (hardN_le P a) (fun _ _ => Nat.zero_le _)) m_cost2) (fun v τ2 h => ?_)
  obtain ⟨rfl, f3⟩ := h
  have f4 : Fr [47, 54, 55, 58, 59] [] [11, 12, 13, 14, 15, 16, 21] σ τ2 := (f2.mono rfl).then f3 rfl
  have x3 := x0.fr f4 rfl
  have s3 : SM τ2 := s.fr f4 rfl
  have hg := getD_ne (o := lstO P (mayOf P a 0) 1000000 prZ) (fun v hv => lst_le (fun _ _ => Nat.zero_le _) hv)
  have hso := smoO_iff (P := P) (may := mayOf P a 0) h8
  unfold smoR at hQ
  cases ho : smoO P (mayOf P a 0) with
  | none =>
    rw [ho] at hQ
    simp only [eq_true (hg.mpr (hso.mp ho)), if_true]
    rw [wp_some, ← hQ]
    exact ⟨rfl, f4.mono rfl, s3, RwM.fr f4 rfl⟩
  | some y =>
    rw [ho] at hQ
    dsimp only at hQ
    have hne : ¬ lstO P (mayOf P a 0) 1000000 prZ = none := fun z => by rw [hso.mpr z] at ho; cases ho
    simp only [eq_false (fun z => hne (hg.mp z)), if_false]
    have hy : y.2.length = P.hrs ∧ y.1 ≤ 9 * P.hrs := by
      rcases smo_len _ _ _ _ _ ho with h | ⟨r, hr'⟩
      · exact h
      · have := x.w9 r; omega
    refine wp_up 8 (fun i y τ' => y = nI i ∧ Fr [51] [] [] τ2 τ' ∧ AI τ' 51 i (fun _ => 0)) (fun ag i y τ' hi' hJ hag => ?_) (fun ag y τ' hJ => ?_) (by decide) ⟨rfl, Fr.refl, AI.nil⟩
    · obtain ⟨rfl, g1, k2⟩ := hJ
      have x4 := x3.fr g1 rfl
      unfold f_X3_smoothest_b25
      simp (disch := first | omega | exact x4.s | exact hi_eq | ((repeat (first | exact x4.s | apply sw_I | apply sw_L | apply sw_cp | apply sw_18 | apply sw_21 | apply sw_22 | apply sw_m12 | apply sw_m18)); done) | rfl) only [wp_ite, wp_some, y_jn, wp_r0, wp_r1, wp_b2, y_nn, w_bc, w_nt, wo_37, wg_37, wi_37, wr_37_29, wl_51, ws_51, w_has3, w_isMan, w_areTwo, w_isHour3, w_in3, w_night, wtM_0, wtM_1, wtM_2, nI_add, nI_1, nI_mul, nI_and, nI_or, nI_sd, nI_sub, l_sub1, l_addm1, l_all, l_1shl, l_or0, l_add0, l_0add, l_m1, l_m1r, l_neg, l_nn, l_eq0, l_le0, l_0lt, l_eq1, l_m1lt, l_m1le, l_m1eq0, l_10, l_00, l_1le, nI_le_l, nI_lt_l, nI_eq_l, bc_nI, nt_nI, bit_nI, b2_ite, b2_ite1, nI_max, nI_min, isR_nI, n_2, n_8, hi_ne, hi_ni, hi_eq, y_iL, y_iR, y_lI, y_lR, hl_ne, hl_ni, hl_eq, y_rI, y_rL, if_true, if_false, if_pos, if_neg, true_and, and_true, not_true_eq_false, not_false_eq_true, x4.n, x4.h, x4.b, x4.mo, x4.wi, x4.ca, x4.ro, x4.ti, x4.il, x4.ni, x4.ga, x4.ri]
      exact hag _ _ ⟨rfl, g1.putI rfl, k2.snoc rfl⟩
    · obtain ⟨rfl, g1, k2⟩ := hJ
      have x4 := x3.fr g1 rfl
      have hm4 : AI τ' 54 P.n (mayOf P a 0) := (ld.1.fr f3 rfl (by decide) (by decide)).fr g1 rfl (by decide) (by decide)
      unfold f_X3_smoothest_b25
      simp (disch := first | omega | exact x4.s | exact hi_eq | ((repeat (first | exact x4.s | apply sw_I | apply sw_L | apply sw_cp | apply sw_18 | apply sw_21 | apply sw_22 | apply sw_m12 | apply sw_m18)); done) | rfl) only [wp_ite, wp_some, y_jn, wp_r0, wp_r1, wp_b2, y_nn, w_bc, w_nt, wo_37, wg_37, wi_37, wr_37_29, wl_51, ws_51, w_has3, w_isMan, w_areTwo, w_isHour3, w_in3, w_night, wtM_0, wtM_1, wtM_2, nI_add, nI_1, nI_mul, nI_and, nI_or, nI_sd, nI_sub, l_sub1, l_addm1, l_all, l_1shl, l_or0, l_add0, l_0add, l_m1, l_m1r, l_neg, l_nn, l_eq0, l_le0, l_0lt, l_eq1, l_m1lt, l_m1le, l_m1eq0, l_10, l_00, l_1le, nI_le_l, nI_lt_l, nI_eq_l, bc_nI, nt_nI, bit_nI, b2_ite, b2_ite1, nI_max, nI_min, isR_nI, n_2, n_8, hi_ne, hi_ni, hi_eq, y_iL, y_iR, y_lI, y_lR, hl_ne, hl_ni, hl_eq, y_rI, y_rL, if_true, if_false, if_pos, if_neg, true_and, and_true, not_true_eq_false, not_false_eq_true, x4.n, x4.h, x4.b, x4.mo, x4.wi, x4.ca, x4.ro, x4.ti, x4.il, x4.ni, x4.ga, x4.ri]
      refine wp_up y.1 (fun i z υ => z = nI i ∧ Fr [51, 61] [] [] τ' υ ∧ AI υ 51 P.n (fun _ => 0)) (fun ag' i z υ hi' hJ hag' => ?_) (fun ag' z υ hJ => ?_) (by omega) ⟨rfl, Fr.refl, fun r hr' => k2 r (by omega)⟩
      · obtain ⟨rfl, g2, k3⟩ := hJ
        have x5 := x4.fr g2 rfl
        unfold f_X3_smoothest_b46
        simp (disch := first | omega | exact x5.s | exact hi_eq | ((repeat (first | exact x5.s | apply sw_I | apply sw_L | apply sw_cp | apply sw_18 | apply sw_21 | apply sw_22 | apply sw_m12 | apply sw_m18)); done) | rfl) only [wp_ite, wp_some, y_jn, wp_r0, wp_r1, wp_b2, y_nn, w_bc, w_nt, wo_37, wg_37, wi_37, w_has3, w_isMan, w_areTwo, w_isHour3, w_in3, w_night, wtM_0, wtM_1, wtM_2, nI_add, nI_1, nI_mul, nI_and, nI_or, nI_sd, nI_sub, l_sub1, l_addm1, l_all, l_1shl, l_or0, l_add0, l_0add, l_m1, l_m1r, l_neg, l_nn, l_eq0, l_le0, l_0lt, l_eq1, l_m1lt, l_m1le, l_m1eq0, l_10, l_00, l_1le, nI_le_l, nI_lt_l, nI_eq_l, bc_nI, nt_nI, bit_nI, b2_ite, b2_ite1, nI_max, nI_min, isR_nI, n_2, n_20, hi_ne, hi_ni, hi_eq, y_iL, y_iR, y_lI, y_lR, hl_ne, hl_ni, hl_eq, y_rI, y_rL, if_true, if_false, if_pos, if_neg, true_and, and_true, not_true_eq_false, not_false_eq_true, x5.n, x5.h, x5.b, x5.mo, x5.wi, x5.ca, x5.ro, x5.ti, x5.il, x5.ni, x5.ga, x5.ri]
        rw [wp_bnd]
        show wp (g_gosm 20 (some 37) (nI 0) (nI i) _) _
        refine wp_mono (m_gosm (a := a) (may := mayOf P a 0) mayOf_ok P.hrs 20 υ 0 i (fun _ => 0) 0 (by omega) (by omega) x5 (hm4.fr g2 rfl (by decide) (by decide)) k3 (fun r _ => Nat.zero_le _) (Or.inl rfl) (by omega) (fun w hw => ?_)) (fun v υ2 hx => ?_)
        · have hw' : smoO P (mayOf P a 0) = some w := hw
          rw [ho] at hw'; cases hw'; omega
        · obtain ⟨g3, k4, -, q⟩ := hx
          rcases q with ⟨rfl, q⟩ | ⟨rfl, w, w1, w2, w3⟩
          · rw [if_pos rfl]
            exact hag' _ _ ⟨rfl, g2.trans g3, k4⟩
          · have hw' : smoO P (mayOf P a 0) = some w := w1
            rw [ho] at hw'; cases hw'; omega
      · obtain ⟨rfl, g2, k3⟩ := hJ
        have x5 := x4.fr g2 rfl
        unfold f_X3_smoothest_b46
        simp (disch := first | omega | exact x5.s | exact hi_eq | ((repeat (first | exact x5.s | apply sw_I | apply sw_L | apply sw_cp | apply sw_18 | apply sw_21 | apply sw_22 | apply sw_m12 | apply sw_m18)); done) | rfl) only [wp_ite, wp_some, y_jn, wp_r0, wp_r1, wp_b2, y_nn, w_bc, w_nt, wo_37, wg_37, wi_37, w_has3, w_isMan, w_areTwo, w_isHour3, w_in3, w_night, wtM_0, wtM_1, wtM_2, nI_add, nI_1, nI_mul, nI_and, nI_or, nI_sd, nI_sub, l_sub1, l_addm1, l_all, l_1shl, l_or0, l_add0, l_0add, l_m1, l_m1r, l_neg, l_nn, l_eq0, l_le0, l_0lt, l_eq1, l_m1lt, l_m1le, l_m1eq0, l_10, l_00, l_1le, nI_le_l, nI_lt_l, nI_eq_l, bc_nI, nt_nI, bit_nI, b2_ite, b2_ite1, nI_max, nI_min, isR_nI, n_2, n_20, hi_ne, hi_ni, hi_eq, y_iL, y_iR, y_lI, y_lR, hl_ne, hl_ni, hl_eq, y_rI, y_rL, if_true, if_false, if_pos, if_neg, true_and, and_true, not_true_eq_false, not_false_eq_true, x5.n, x5.h, x5.b, x5.mo, x5.wi, x5.ca, x5.ro, x5.ti, x5.il, x5.ni, x5.ga, x5.ri]
        rw [wp_bnd]
        show wp (g_gosm 20 (some 37) (nI 0) (nI y.1) _) _
        refine wp_mono (m_gosm (a := a) (may := mayOf P a 0) mayOf_ok P.hrs 20 υ 0 y.1 (fun _ => 0) 0 (by omega) (by omega) x5 (hm4.fr g2 rfl (by decide) (by decide)) k3 (fun r _ => Nat.zero_le _) (Or.inl rfl) (by omega) (fun w hw => ?_)) (fun v υ2 hx => ?_)
        · have hw' : smoO P (mayOf P a 0) = some w := hw
          rw [ho] at hw'; cases hw'; exact Nat.le_refl _
        · obtain ⟨g3, k4, -, q⟩ := hx
          rcases q with ⟨rfl, q⟩ | ⟨rfl, w, w1, w2, w3⟩
          · have := q y ho
            omega
          · have hw' : smoO P (mayOf P a 0) = some w := w1
            rw [ho] at hw'; cases hw'
            have f5 : Fr [47, 51, 54, 55, 58, 59, 61] [] [11, 12, 13, 14, 15, 16, 21] σ υ2 := (((f4.mono rfl).then g1 rfl).then g2 rfl).then g3 rfl
            have x6 := x0.fr f5 rfl
            rw [if_neg (by decide)]
            simp (disch := first | omega | exact x6.s | exact hi_eq | ((repeat (first | exact x6.s | apply sw_I | apply sw_L | apply sw_cp | apply sw_18 | apply sw_21 | apply sw_22 | apply sw_m12 | apply sw_m18)); done) | rfl) only [wp_ite, wp_some, y_jn, wp_r0, wp_r1, wp_b2, y_nn, w_bc, w_nt, wo_37, wg_37, wi_37, w_has3, w_isMan, w_areTwo, w_isHour3, w_in3, w_night, wtM_0, wtM_1, wtM_2, nI_add, nI_1, nI_mul, nI_and, nI_or, nI_sd, nI_sub, l_sub1, l_addm1, l_all, l_1shl, l_or0, l_add0, l_0add, l_m1, l_m1r, l_neg, l_nn, l_eq0, l_le0, l_0lt, l_eq1, l_m1lt, l_m1le, l_m1eq0, l_10, l_00, l_1le, nI_le_l, nI_lt_l, nI_eq_l, bc_nI, nt_nI, bit_nI, b2_ite, b2_ite1, nI_max, nI_min, isR_nI, n_2, n_20, hi_ne, hi_ni, hi_eq, y_iL, y_iR, y_lI, y_lR, hl_ne, hl_ni, hl_eq, y_rI, y_rL, if_true, if_false, if_pos, if_neg, true_and, and_true, not_true_eq_false, not_false_eq_true, x6.n, x6.h, x6.b, x6.mo, x6.wi, x6.ca, x6.ro, x6.ti, x6.il, x6.ni, x6.ga, x6.ri]
            rw [wp_bnd]
            refine wp_mono (m_tellLine (t := fun k => y.2.getD k 0) x6 (fun j hj => by have := w3 j hj; rw [Nat.zero_add] at this; exact this)) (fun _ υ3 h => ?_)
            have f6 : Fr [43, 47, 51, 54, 55, 58, 59, 61] [] [10, 11, 12, 13, 14, 15, 16, 21] σ υ3 := (f5.mono rfl).then h.1 rfl
            rw [wp_some, ← hQ]
            exact ⟨rfl, f6.mono rfl, s.fr f6 rfl, h.2⟩
end msmo
