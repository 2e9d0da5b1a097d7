/-! PURE 78: a horse falls, is given (the class); years drawn -/
section cfalls
variable {σ τ : Hp} {P : Pk} {a : HS} {s : Nat}
theorem c_falls (x : CY σ P) (hc : CH σ s a) (hok : HOK P.n a) {q : Nat} (hq : q < P.n) : f_X1_falls (some 0) (some s) (nI q) σ = some (nI (pop (a.ill ^^^ 2 ^ q)), wI σ s 2 (nI (a.ill ^^^ 2 ^ q))) := by
  have n8 := x.n8
  have i8 := ill_lt n8 hok
  have q10 := hc.2.2.2.1
  have o1 := hc.1.1
  refine wp_eq ?_
  unfold f_X1_falls
  rw [wp_ob]
  refine ⟨so_0 x.s, ?_⟩
  rw [w_isRider x.s, x.n, b2_ite, if_pos ((isR_nI (by omega) (by omega)).mpr hq), wp_gI]
  refine ⟨o1, ?_⟩
  rw [wp_pI]
  refine ⟨o1, rfl, ?_⟩
  rw [wp_gI]
  refine ⟨o1, ?_⟩
  rw [w_bc, wp_some, hi_eq, q10, shl_1 (by omega), nI_xor, bc_nI (xor_lt i8 (pow_lt8 (by omega)))]
  exact ⟨rfl, rfl⟩
theorem c_fallsNot (x : CY σ P) {v : Int32} (hv : ¬ ∃ q, q < P.n ∧ v = nI q) : f_X1_falls (some 0) (some s) v σ = some (-1, σ) := by
  have n8 := x.n8
  refine wp_eq ?_
  unfold f_X1_falls
  rw [wp_ob]
  refine ⟨so_0 x.s, ?_⟩
  rw [w_isRider x.s, x.n, b2_ite, if_neg (fun z => hv ((isR_iff (by omega)).mp z)), wp_some]
  exact ⟨rfl, rfl⟩
theorem c_gives (x : CY σ P) (hc : CH σ s a) {h : Nat} {v : Int32} (hh : h < 8) (hv : okR P.n v) : f_X1_gives (some 0) (some s) (nI h) v σ = some (1, wI σ (s + 1) h v) := by
  have n8 := x.n8
  obtain ⟨p1, p2, p3, p4, p5, p6, p7⟩ := hc.1
  have hin : ((0 : Int32) ≤ nI h ∧ nI h ≤ 7) := ⟨by rw [l_nn (by omega)]; trivial, by rw [n_7, nI_le_l (by omega) (by decide)]; omega⟩
  refine wp_eq ?_
  unfold f_X1_gives
  rw [w_in_0_7, b2_ite, if_pos hin, y_jn]
  have fin : wp (gR 1 0 σ (some s) fun y4 => sI σ y4 (nI h) v fun σ => rz1 1 σ) (fun r τ => r = 1 ∧ τ = wI σ (s + 1) h v) := by
    rw [wp_gR, p2]
    refine ⟨p1, ?_⟩
    rw [wp_sI, ix_nI (by omega), p5]
    refine ⟨⟨p4, by rw [inb_nI (by omega)]; exact hh⟩, ?_⟩
    rw [wp_r1]
    exact ⟨rfl, rfl⟩
  rcases hv with rfl | ⟨q, hq, rfl⟩
  · rw [if_pos rfl]; exact fin
  · rw [if_neg (m1_ne (by omega)), wp_ob]
    refine ⟨so_0 x.s, ?_⟩
    rw [w_isRider x.s, x.n, b2_ite, if_pos ((isR_nI (by omega) (by omega)).mpr hq)]
    exact fin
end cfalls
def yrU (P : Pk) (s : Int32 × HS) : Int32 × HS := if dv (dr s.1) 4 < 2 then (dr s.1, goN P s.2) else if P.n = 0 then (dr s.1, s.2) else if dv (dr s.1) 4 = 2 then (dr (dr s.1), flp s.2 (dv (dr (dr s.1)) P.n)) else (dr (dr (dr s.1)), stR s.2 (dv (dr (dr s.1)) 8) (nI (dv (dr (dr (dr s.1))) P.n)))
def yrS (P : Pk) (a : HS) (seed : Int32) : Nat → Int32 × HS
  | 0 => (seed, a)
  | k + 1 => yrU P (yrS P a seed k)
theorem yrS_ok {P : Pk} {a : HS} {seed : Int32} (h : HOK P.n a) : ∀ k, HOK P.n (yrS P a seed k).2 := by
  intro k
  induction k with
  | zero => exact h
  | succ k ih =>
    show HOK P.n (yrU P (yrS P a seed k)).2
    unfold yrU
    split
    · exact goN_ok ih
    · split
      · exact ih
      · rename_i hn
        have l : ∀ s, dv s P.n < P.n := fun s => Nat.mod_lt _ (by omega)
        split
        · exact flp_ok ih (l _)
        · exact stR_ok ih (Or.inr ⟨_, l _, rfl⟩)
section years
variable {σ τ : Hp} {P : Pk} {a : HS}
theorem c_years (x : CX σ P a) (s : SC σ) {seed : Int32} {n : Nat} (h1n : 1 ≤ n) (hn' : n ≤ 60) : wp (f_X1_years (some 0) seed (nI n) σ) (QuC σ ((yrS P a seed n).2.gaps - a.gaps) (some [((yrS P a seed n).2.rid - a.rid).toInt64, (sumI (yrS P a seed n).2.tired P.n).toInt64])) := by
  have x0 := x
  have n8 := x.n8
  have hin : ((1 : Int32) ≤ nI n ∧ nI n ≤ nI 60) := ⟨by rw [l_1le (by omega)]; exact h1n, by rw [nI_le_l (by omega) (by decide)]; exact hn'⟩
  generalize hQ : QuC σ ((yrS P a seed n).2.gaps - a.gaps) (some [((yrS P a seed n).2.rid - a.rid).toInt64, (sumI (yrS P a seed n).2.tired P.n).toInt64]) = Q
  unfold f_X1_years
  simp (disch := first | omega | exact x.s | exact hi_eq | ((repeat (first | exact x.s | apply sw_I | apply sw_L | apply sw_cp | apply sw_18 | apply sw_21 | apply sw_22 | apply sw_m12 | apply sw_m18)); done) | rfl) only [wp_ite, wp_some, y_jn, wp_r0, wp_r1, wp_b2, y_nn, w_bc, w_nt, wo_0, wg_0, wi_0, wr_0_0, wr_0_1, wo_1, wg_1, wi_1, wr_1_0, wr_1_1, wl_2, ws_2, wl_3, ws_3, wo_4, wg_4, wi_4, wr_4_0, wr_4_1, wl_5, ws_5, wl_6, ws_6, w_has, w_isRider, w_isPair, w_isHour, w_in, w_in0, w_in_0_1, w_in_0_10, w_in_0_3, w_in_0_30, w_in_0_60, w_in_0_7, w_in_0_9, w_in_0_999, w_in_1_60, w_in_20_27, w_in_2_40, w_in_48_57, w_whole, w_all, wt_0, wt_1, wt_2, nI_add, nI_1, nI_mul, nI_and, nI_or, nI_sd, nI_sub, l_sub1, l_addm1, l_all, l_1shl, l_or0, l_add0, l_0add, l_m1, l_m1r, l_neg, l_nn, l_eq0, l_le0, l_0lt, l_eq1, l_m1lt, l_m1le, l_m1eq0, l_10, l_00, l_1le, nI_le_l, nI_lt_l, nI_eq_l, bc_nI, nt_nI, bit_nI, b2_ite, b2_ite1, nI_max, nI_min, isR_nI, n_4, n_48, n_5, n_60, hi_ne, hi_ni, hi_eq, y_iL, y_iR, y_lI, y_lR, hl_ne, hl_ni, hl_eq, y_rI, y_rL, if_true, if_false, if_pos, if_neg, true_and, and_true, not_true_eq_false, not_false_eq_true, x.n, x.h, x.b, x.mo, x.wi, x.ca, x.ro, x.ti, x.il, x.ni, x.ga, x.ri, hin]
  have f0 : Fr [] [48] [] σ (wI σ 0 48 seed) := Fr.refl.putI rfl
  have x1 := x0.fr f0 rfl
  rw [wp_bnd]
  refine wp_mono (c_becomes (ho_4 x1.s) x1.2.2.2.1 (Or.inl (by decide))) (fun _ τ h => ?_)
  obtain ⟨hb, hc⟩ := h
  have f1 : Fr [4, 5, 6] [48] [] σ τ := (f0.mono rfl).then hb.fr4 rfl
  have e48 : hi τ 0 48 = seed := (hb.fr4.i rfl).trans hi_eq
  refine wp_up n (fun i y τ => y = nI i ∧ Fr [4, 5, 6, 18, 19] [18, 19, 20, 28, 29, 48] [] σ τ ∧ CH τ 4 (yrS P a seed i).2 ∧ hi τ 0 48 = (yrS P a seed i).1) (fun ag i y τ hi' hJ hag => ?_) (fun ag y τ hJ => ?_) (by omega) ⟨rfl, f1.mono rfl, hc, e48⟩
  · obtain ⟨rfl, f, k1, k2⟩ := hJ
    replace x := x0.fr f rfl
    have hok : HOK P.n (yrS P a seed i).2 := yrS_ok x0.ok i
    have st : yrS P a seed (i + 1) = yrU P (yrS P a seed i) := rfl
    rw [st] at hag
    generalize yrS P a seed i = S at *
    obtain ⟨sd0, b⟩ := S
    dsimp only at k1 k2 hok
    unfold yrU at hag
    dsimp only at hag
    have g1 : Fr [4, 5, 6, 18, 19] [18, 19, 20, 28, 29, 48] [] σ (wI τ 0 48 (dr sd0)) := f.putI rfl
    have x1 := x0.fr g1 rfl
    have c1 : CH (wI τ 0 48 (dr sd0)) 4 b := k1.ne (by decide) (by decide) (by decide)
    have w4 : dv (dr sd0) 4 < 4 := Nat.mod_lt _ (by decide)
    unfold f_X1_years_b32
    simp (disch := first | omega | exact x.s | exact hi_eq | ((repeat (first | exact x.s | apply sw_I | apply sw_L | apply sw_cp | apply sw_18 | apply sw_21 | apply sw_22 | apply sw_m12 | apply sw_m18)); done) | rfl) only [wp_ite, wp_some, wp_r0, wp_r1, wp_b2, y_nn, w_bc, w_nt, wo_0, wg_0, wi_0, wr_0_1, wo_4, wg_4, wi_4, wr_4_0, wr_4_1, wl_5, ws_5, wl_6, ws_6, w_has, w_isRider, w_isPair, w_isHour, w_in, w_in0, w_in_0_1, w_in_0_10, w_in_0_3, w_in_0_30, w_in_0_60, w_in_0_7, w_in_0_9, w_in_0_999, w_in_1_60, w_in_20_27, w_in_2_40, w_in_48_57, w_whole, w_all, wt_0, wt_1, wt_2, nI_add, nI_1, nI_mul, nI_and, nI_or, nI_sd, nI_sub, l_sub1, l_addm1, l_all, l_1shl, l_or0, l_add0, l_0add, l_m1, l_m1r, l_neg, l_nn, l_eq0, l_le0, l_0lt, l_eq1, l_m1lt, l_m1le, l_m1eq0, l_10, l_00, l_1le, nI_le_l, nI_lt_l, nI_eq_l, bc_nI, nt_nI, bit_nI, b2_ite, b2_ite1, nI_max, nI_min, isR_nI, n_2, n_4, n_5, n_8, hi_ne, hi_ni, hi_eq, y_iL, y_iR, y_lI, y_lR, hl_ne, hl_ni, hl_eq, y_rI, y_rL, if_true, if_false, if_pos, if_neg, true_and, and_true, not_true_eq_false, not_false_eq_true, x.n, x.h, x.b, x.mo, x.wi, x.ca, x.ro, x.ti, x.il, x.ni, x.ga, x.ri]
    rw [c_draws x.s (by decide) (by decide), e_bnd, k2, y_jn]
    by_cases d1 : dv (dr sd0) 4 < 2
    · rw [if_pos d1] at hag
      simp (disch := first | omega | exact x1.s | exact hi_eq | ((repeat (first | exact x1.s | apply sw_I | apply sw_L | apply sw_cp | apply sw_18 | apply sw_21 | apply sw_22 | apply sw_m12 | apply sw_m18)); done) | rfl) only [wp_ite, wp_some, wp_r0, wp_r1, wp_b2, y_nn, w_bc, w_nt, wo_0, wg_0, wi_0, wr_0_1, wo_4, wg_4, wi_4, wr_4_0, wr_4_1, wl_5, ws_5, wl_6, ws_6, w_has, w_isRider, w_isPair, w_isHour, w_in, w_in0, w_in_0_1, w_in_0_10, w_in_0_3, w_in_0_30, w_in_0_60, w_in_0_7, w_in_0_9, w_in_0_999, w_in_1_60, w_in_20_27, w_in_2_40, w_in_48_57, w_whole, w_all, wt_0, wt_1, wt_2, nI_add, nI_1, nI_mul, nI_and, nI_or, nI_sd, nI_sub, l_sub1, l_addm1, l_all, l_1shl, l_or0, l_add0, l_0add, l_m1, l_m1r, l_neg, l_nn, l_eq0, l_le0, l_0lt, l_eq1, l_m1lt, l_m1le, l_m1eq0, l_10, l_00, l_1le, nI_le_l, nI_lt_l, nI_eq_l, bc_nI, nt_nI, bit_nI, b2_ite, b2_ite1, nI_max, nI_min, isR_nI, n_2, n_4, n_5, n_8, hi_ne, hi_ni, hi_eq, y_iL, y_iR, y_lI, y_lR, hl_ne, hl_ni, hl_eq, y_rI, y_rL, if_true, if_false, if_pos, if_neg, true_and, and_true, not_true_eq_false, not_false_eq_true, x1.n, x1.h, x1.b, x1.mo, x1.wi, x1.ca, x1.ro, x1.ti, x1.il, x1.ni, x1.ga, x1.ri]
      rw [wp_bnd]
      refine wp_mono (c_nightGoes x1.s x1.2.1 x1.pk c1 hok (Or.inr rfl)) (fun _ τ2 h => ?_)
      obtain ⟨f2, k3, -⟩ := h
      exact hag _ _ ⟨rfl, g1.then f2 rfl, k3, (f2.i rfl).trans hi_eq⟩
    · rw [if_neg d1] at hag
      by_cases d2 : P.n = 0
      · rw [if_pos d2] at hag
        simp (disch := first | omega | exact x1.s | exact hi_eq | ((repeat (first | exact x1.s | apply sw_I | apply sw_L | apply sw_cp | apply sw_18 | apply sw_21 | apply sw_22 | apply sw_m12 | apply sw_m18)); done) | rfl) only [wp_ite, wp_some, y_jn, wp_r0, wp_r1, wp_b2, y_nn, w_bc, w_nt, wo_0, wg_0, wi_0, wr_0_1, wo_4, wg_4, wi_4, wr_4_0, wr_4_1, wl_5, ws_5, wl_6, ws_6, w_has, w_isRider, w_isPair, w_isHour, w_in, w_in0, w_in_0_1, w_in_0_10, w_in_0_3, w_in_0_30, w_in_0_60, w_in_0_7, w_in_0_9, w_in_0_999, w_in_1_60, w_in_20_27, w_in_2_40, w_in_48_57, w_whole, w_all, wt_0, wt_1, wt_2, nI_add, nI_1, nI_mul, nI_and, nI_or, nI_sd, nI_sub, l_sub1, l_addm1, l_all, l_1shl, l_or0, l_add0, l_0add, l_m1, l_m1r, l_neg, l_nn, l_eq0, l_le0, l_0lt, l_eq1, l_m1lt, l_m1le, l_m1eq0, l_10, l_00, l_1le, nI_le_l, nI_lt_l, nI_eq_l, bc_nI, nt_nI, bit_nI, b2_ite, b2_ite1, nI_max, nI_min, isR_nI, n_2, n_4, n_5, n_8, hi_ne, hi_ni, hi_eq, y_iL, y_iR, y_lI, y_lR, hl_ne, hl_ni, hl_eq, y_rI, y_rL, if_true, if_false, if_pos, if_neg, true_and, and_true, not_true_eq_false, not_false_eq_true, x1.n, x1.h, x1.b, x1.mo, x1.wi, x1.ca, x1.ro, x1.ti, x1.il, x1.ni, x1.ga, x1.ri]
        exact hag _ _ ⟨rfl, g1, c1, hi_eq⟩
      · rw [if_neg d2] at hag
        have dn1 : ∀ s, dv s P.n < P.n := fun s => Nat.mod_lt _ (by omega)
        by_cases d3 : dv (dr sd0) 4 = 2
        · rw [if_pos d3] at hag
          have l1 := dn1 (dr (dr sd0))
          have g2 : Fr [4, 5, 6, 18, 19] [18, 19, 20, 28, 29, 48] [] σ (wI (wI τ 0 48 (dr sd0)) 0 48 (dr (dr sd0))) := g1.putI rfl
          have x2 := x0.fr g2 rfl
          have c2 : CH (wI (wI τ 0 48 (dr sd0)) 0 48 (dr (dr sd0))) 4 b := c1.ne (by decide) (by decide) (by decide)
          simp (disch := first | omega | exact x1.s | exact hi_eq | ((repeat (first | exact x1.s | apply sw_I | apply sw_L | apply sw_cp | apply sw_18 | apply sw_21 | apply sw_22 | apply sw_m12 | apply sw_m18)); done) | rfl) only [wp_ite, wp_some, y_jn, wp_r0, wp_r1, wp_b2, y_nn, w_bc, w_nt, wo_0, wg_0, wi_0, wr_0_1, wo_4, wg_4, wi_4, wr_4_0, wr_4_1, wl_5, ws_5, wl_6, ws_6, w_has, w_isRider, w_isPair, w_isHour, w_in, w_in0, w_in_0_1, w_in_0_10, w_in_0_3, w_in_0_30, w_in_0_60, w_in_0_7, w_in_0_9, w_in_0_999, w_in_1_60, w_in_20_27, w_in_2_40, w_in_48_57, w_whole, w_all, wt_0, wt_1, wt_2, nI_add, nI_1, nI_mul, nI_and, nI_or, nI_sd, nI_sub, l_sub1, l_addm1, l_all, l_1shl, l_or0, l_add0, l_0add, l_m1, l_m1r, l_neg, l_nn, l_eq0, l_le0, l_0lt, l_eq1, l_m1lt, l_m1le, l_m1eq0, l_10, l_00, l_1le, nI_le_l, nI_lt_l, nI_eq_l, bc_nI, nt_nI, bit_nI, b2_ite, b2_ite1, nI_max, nI_min, isR_nI, n_2, n_4, n_5, n_8, hi_ne, hi_ni, hi_eq, y_iL, y_iR, y_lI, y_lR, hl_ne, hl_ni, hl_eq, y_rI, y_rL, if_true, if_false, if_pos, if_neg, true_and, and_true, not_true_eq_false, not_false_eq_true, x1.n, x1.h, x1.b, x1.mo, x1.wi, x1.ca, x1.ro, x1.ti, x1.il, x1.ni, x1.ga, x1.ri]
          rw [c_draws x1.s (by omega) (by omega), e_bnd, hi_eq]
          simp (disch := first | omega | exact x2.s | exact hi_eq | ((repeat (first | exact x2.s | apply sw_I | apply sw_L | apply sw_cp | apply sw_18 | apply sw_21 | apply sw_22 | apply sw_m12 | apply sw_m18)); done) | rfl) only [wp_ite, wp_some, y_jn, wp_r0, wp_r1, wp_b2, y_nn, w_bc, w_nt, wo_0, wg_0, wi_0, wr_0_1, wo_4, wg_4, wi_4, wr_4_0, wr_4_1, wl_5, ws_5, wl_6, ws_6, w_has, w_isRider, w_isPair, w_isHour, w_in, w_in0, w_in_0_1, w_in_0_10, w_in_0_3, w_in_0_30, w_in_0_60, w_in_0_7, w_in_0_9, w_in_0_999, w_in_1_60, w_in_20_27, w_in_2_40, w_in_48_57, w_whole, w_all, wt_0, wt_1, wt_2, nI_add, nI_1, nI_mul, nI_and, nI_or, nI_sd, nI_sub, l_sub1, l_addm1, l_all, l_1shl, l_or0, l_add0, l_0add, l_m1, l_m1r, l_neg, l_nn, l_eq0, l_le0, l_0lt, l_eq1, l_m1lt, l_m1le, l_m1eq0, l_10, l_00, l_1le, nI_le_l, nI_lt_l, nI_eq_l, bc_nI, nt_nI, bit_nI, b2_ite, b2_ite1, nI_max, nI_min, isR_nI, n_2, n_4, n_5, n_8, hi_ne, hi_ni, hi_eq, y_iL, y_iR, y_lI, y_lR, hl_ne, hl_ni, hl_eq, y_rI, y_rL, if_true, if_false, if_pos, if_neg, true_and, and_true, not_true_eq_false, not_false_eq_true, x2.n, x2.h, x2.b, x2.mo, x2.wi, x2.ca, x2.ro, x2.ti, x2.il, x2.ni, x2.ga, x2.ri]
          rw [c_falls x2.y c2 hok l1, e_bnd]
          refine hag _ _ ⟨rfl, g2.putI rfl, c2.flp _, ?_⟩
          rw [hi_ne (by decide), hi_eq]
        · rw [if_neg d3] at hag
          have l8 : dv (dr (dr sd0)) 8 < 8 := Nat.mod_lt _ (by decide)
          have l1 := dn1 (dr (dr (dr sd0)))
          have g2 : Fr [4, 5, 6, 18, 19] [18, 19, 20, 28, 29, 48] [] σ (wI (wI τ 0 48 (dr sd0)) 0 48 (dr (dr sd0))) := g1.putI rfl
          have x2 := x0.fr g2 rfl
          have g3 : Fr [4, 5, 6, 18, 19] [18, 19, 20, 28, 29, 48] [] σ (wI (wI (wI τ 0 48 (dr sd0)) 0 48 (dr (dr sd0))) 0 48 (dr (dr (dr sd0)))) := g2.putI rfl
          have x3 := x0.fr g3 rfl
          have c3 : CH (wI (wI (wI τ 0 48 (dr sd0)) 0 48 (dr (dr sd0))) 0 48 (dr (dr (dr sd0)))) 4 b := (c1.ne (by decide) (by decide) (by decide)).ne (by decide) (by decide) (by decide)
          simp (disch := first | omega | exact x1.s | exact hi_eq | ((repeat (first | exact x1.s | apply sw_I | apply sw_L | apply sw_cp | apply sw_18 | apply sw_21 | apply sw_22 | apply sw_m12 | apply sw_m18)); done) | rfl) only [wp_ite, wp_some, y_jn, wp_r0, wp_r1, wp_b2, y_nn, w_bc, w_nt, wo_0, wg_0, wi_0, wr_0_1, wo_4, wg_4, wi_4, wr_4_0, wr_4_1, wl_5, ws_5, wl_6, ws_6, w_has, w_isRider, w_isPair, w_isHour, w_in, w_in0, w_in_0_1, w_in_0_10, w_in_0_3, w_in_0_30, w_in_0_60, w_in_0_7, w_in_0_9, w_in_0_999, w_in_1_60, w_in_20_27, w_in_2_40, w_in_48_57, w_whole, w_all, wt_0, wt_1, wt_2, nI_add, nI_1, nI_mul, nI_and, nI_or, nI_sd, nI_sub, l_sub1, l_addm1, l_all, l_1shl, l_or0, l_add0, l_0add, l_m1, l_m1r, l_neg, l_nn, l_eq0, l_le0, l_0lt, l_eq1, l_m1lt, l_m1le, l_m1eq0, l_10, l_00, l_1le, nI_le_l, nI_lt_l, nI_eq_l, bc_nI, nt_nI, bit_nI, b2_ite, b2_ite1, nI_max, nI_min, isR_nI, n_2, n_4, n_5, n_8, hi_ne, hi_ni, hi_eq, y_iL, y_iR, y_lI, y_lR, hl_ne, hl_ni, hl_eq, y_rI, y_rL, if_true, if_false, if_pos, if_neg, true_and, and_true, not_true_eq_false, not_false_eq_true, x1.n, x1.h, x1.b, x1.mo, x1.wi, x1.ca, x1.ro, x1.ti, x1.il, x1.ni, x1.ga, x1.ri]
          rw [c_draws x1.s (by decide) (by decide), e_bnd, hi_eq]
          simp (disch := first | omega | exact x2.s | exact hi_eq | ((repeat (first | exact x2.s | apply sw_I | apply sw_L | apply sw_cp | apply sw_18 | apply sw_21 | apply sw_22 | apply sw_m12 | apply sw_m18)); done) | rfl) only [wp_ite, wp_some, y_jn, wp_r0, wp_r1, wp_b2, y_nn, w_bc, w_nt, wo_0, wg_0, wi_0, wr_0_1, wo_4, wg_4, wi_4, wr_4_0, wr_4_1, wl_5, ws_5, wl_6, ws_6, w_has, w_isRider, w_isPair, w_isHour, w_in, w_in0, w_in_0_1, w_in_0_10, w_in_0_3, w_in_0_30, w_in_0_60, w_in_0_7, w_in_0_9, w_in_0_999, w_in_1_60, w_in_20_27, w_in_2_40, w_in_48_57, w_whole, w_all, wt_0, wt_1, wt_2, nI_add, nI_1, nI_mul, nI_and, nI_or, nI_sd, nI_sub, l_sub1, l_addm1, l_all, l_1shl, l_or0, l_add0, l_0add, l_m1, l_m1r, l_neg, l_nn, l_eq0, l_le0, l_0lt, l_eq1, l_m1lt, l_m1le, l_m1eq0, l_10, l_00, l_1le, nI_le_l, nI_lt_l, nI_eq_l, bc_nI, nt_nI, bit_nI, b2_ite, b2_ite1, nI_max, nI_min, isR_nI, n_2, n_4, n_5, n_8, hi_ne, hi_ni, hi_eq, y_iL, y_iR, y_lI, y_lR, hl_ne, hl_ni, hl_eq, y_rI, y_rL, if_true, if_false, if_pos, if_neg, true_and, and_true, not_true_eq_false, not_false_eq_true, x2.n, x2.h, x2.b, x2.mo, x2.wi, x2.ca, x2.ro, x2.ti, x2.il, x2.ni, x2.ga, x2.ri]
          rw [c_draws x2.s (by omega) (by omega), e_bnd, hi_eq]
          simp (disch := first | omega | exact x3.s | exact hi_eq | ((repeat (first | exact x3.s | apply sw_I | apply sw_L | apply sw_cp | apply sw_18 | apply sw_21 | apply sw_22 | apply sw_m12 | apply sw_m18)); done) | rfl) only [wp_ite, wp_some, y_jn, wp_r0, wp_r1, wp_b2, y_nn, w_bc, w_nt, wo_0, wg_0, wi_0, wr_0_1, wo_4, wg_4, wi_4, wr_4_0, wr_4_1, wl_5, ws_5, wl_6, ws_6, w_has, w_isRider, w_isPair, w_isHour, w_in, w_in0, w_in_0_1, w_in_0_10, w_in_0_3, w_in_0_30, w_in_0_60, w_in_0_7, w_in_0_9, w_in_0_999, w_in_1_60, w_in_20_27, w_in_2_40, w_in_48_57, w_whole, w_all, wt_0, wt_1, wt_2, nI_add, nI_1, nI_mul, nI_and, nI_or, nI_sd, nI_sub, l_sub1, l_addm1, l_all, l_1shl, l_or0, l_add0, l_0add, l_m1, l_m1r, l_neg, l_nn, l_eq0, l_le0, l_0lt, l_eq1, l_m1lt, l_m1le, l_m1eq0, l_10, l_00, l_1le, nI_le_l, nI_lt_l, nI_eq_l, bc_nI, nt_nI, bit_nI, b2_ite, b2_ite1, nI_max, nI_min, isR_nI, n_2, n_4, n_5, n_8, hi_ne, hi_ni, hi_eq, y_iL, y_iR, y_lI, y_lR, hl_ne, hl_ni, hl_eq, y_rI, y_rL, if_true, if_false, if_pos, if_neg, true_and, and_true, not_true_eq_false, not_false_eq_true, x3.n, x3.h, x3.b, x3.mo, x3.wi, x3.ca, x3.ro, x3.ti, x3.il, x3.ni, x3.ga, x3.ri]
          rw [c_gives x3.y c3 l8 (Or.inr ⟨_, l1, rfl⟩), e_bnd]
          refine hag _ _ ⟨rfl, g3.putI rfl, c3.stR _ _, ?_⟩
          rw [hi_ne (by decide), hi_eq]
  · obtain ⟨rfl, f, k1, k2⟩ := hJ
    replace x := x0.fr f rfl
    generalize (yrS P a seed n).2 = b at *
    have q12 := k1.2.2.2.2.2.1
    have q13 := k1.2.2.2.2.2.2
    have f2 : Fr [4, 5, 6, 18, 19, 36] [18, 19, 20, 28, 29, 48, 52] [] σ (wI (wL (wI τ 0 52 0) 36 0 (b.rid - a.rid).toInt64) 0 52 1) := (((f.mono rfl).putI rfl).putL rfl).putI rfl
    have c1 : CH (wI τ 0 52 0) 4 b := k1.ne (by decide) (by decide) (by decide)
    have c1' : CH (wL (wI τ 0 52 0) 36 0 (b.rid - a.rid).toInt64) 4 b := c1
    have c2 : CH (wI (wL (wI τ 0 52 0) 36 0 (b.rid - a.rid).toInt64) 0 52 1) 4 b := c1'.ne (by decide) (by decide) (by decide)
    have x2 := x0.fr f2 rfl
    have sm := c_tsum x2.s x2.n n8 c2
    unfold f_X1_years_b32
    simp (disch := first | omega | exact x.s | exact hi_eq | ((repeat (first | exact x.s | apply sw_I | apply sw_L | apply sw_cp | apply sw_18 | apply sw_21 | apply sw_22 | apply sw_m12 | apply sw_m18)); done) | rfl) only [wp_ite, wp_some, y_jn, wp_r0, wp_r1, wp_b2, y_nn, w_bc, w_nt, wo_0, wg_0, wi_0, wr_0_0, wr_0_1, wo_1, wg_1, wi_1, wr_1_0, wr_1_1, wl_2, ws_2, wl_3, ws_3, wo_4, wg_4, wi_4, wr_4_0, wr_4_1, wl_5, ws_5, wl_6, ws_6, w_has, w_isRider, w_isPair, w_isHour, w_in, w_in0, w_in_0_1, w_in_0_10, w_in_0_3, w_in_0_30, w_in_0_60, w_in_0_7, w_in_0_9, w_in_0_999, w_in_1_60, w_in_20_27, w_in_2_40, w_in_48_57, w_whole, w_all, wt_0, wt_1, wt_2, nI_add, nI_1, nI_mul, nI_and, nI_or, nI_sd, nI_sub, l_sub1, l_addm1, l_all, l_1shl, l_or0, l_add0, l_0add, l_m1, l_m1r, l_neg, l_nn, l_eq0, l_le0, l_0lt, l_eq1, l_m1lt, l_m1le, l_m1eq0, l_10, l_00, l_1le, nI_le_l, nI_lt_l, nI_eq_l, bc_nI, nt_nI, bit_nI, b2_ite, b2_ite1, nI_max, nI_min, isR_nI, n_2, n_4, n_48, n_5, n_60, n_8, hi_ne, hi_ni, hi_eq, y_iL, y_iR, y_lI, y_lR, hl_ne, hl_ni, hl_eq, y_rI, y_rL, if_true, if_false, if_pos, if_neg, true_and, and_true, not_true_eq_false, not_false_eq_true, x.n, x.h, x.b, x.mo, x.wi, x.ca, x.ro, x.ti, x.il, x.ni, x.ga, x.ri, q13, q12]
    rw [sm, e_bnd]
    simp (disch := first | omega | exact x.s | exact hi_eq | ((repeat (first | exact x.s | apply sw_I | apply sw_L | apply sw_cp | apply sw_18 | apply sw_21 | apply sw_22 | apply sw_m12 | apply sw_m18)); done) | rfl) only [wp_ite, wp_some, y_jn, wp_r0, wp_r1, wp_b2, y_nn, w_bc, w_nt, wo_0, wg_0, wi_0, wr_0_0, wr_0_1, wo_1, wg_1, wi_1, wr_1_0, wr_1_1, wl_2, ws_2, wl_3, ws_3, wo_4, wg_4, wi_4, wr_4_0, wr_4_1, wl_5, ws_5, wl_6, ws_6, w_has, w_isRider, w_isPair, w_isHour, w_in, w_in0, w_in_0_1, w_in_0_10, w_in_0_3, w_in_0_30, w_in_0_60, w_in_0_7, w_in_0_9, w_in_0_999, w_in_1_60, w_in_20_27, w_in_2_40, w_in_48_57, w_whole, w_all, wt_0, wt_1, wt_2, nI_add, nI_1, nI_mul, nI_and, nI_or, nI_sd, nI_sub, l_sub1, l_addm1, l_all, l_1shl, l_or0, l_add0, l_0add, l_m1, l_m1r, l_neg, l_nn, l_eq0, l_le0, l_0lt, l_eq1, l_m1lt, l_m1le, l_m1eq0, l_10, l_00, l_1le, nI_le_l, nI_lt_l, nI_eq_l, bc_nI, nt_nI, bit_nI, b2_ite, b2_ite1, nI_max, nI_min, isR_nI, n_2, n_4, n_48, n_5, n_60, n_8, hi_ne, hi_ni, hi_eq, y_iL, y_iR, y_lI, y_lR, hl_ne, hl_ni, hl_eq, y_rI, y_rL, if_true, if_false, if_pos, if_neg, true_and, and_true, not_true_eq_false, not_false_eq_true, x.n, x.h, x.b, x.mo, x.wi, x.ca, x.ro, x.ti, x.il, x.ni, x.ga, x.ri, q13, q12]
    rw [← hQ]
    exact ⟨rfl, (by repeat (first | exact f2.mono rfl | exact (f2.mono rfl).mono rfl | refine Fr.putI ?_ rfl | refine Fr.putL ?_ rfl | refine Fr.putR ?_ rfl)), s.fr (D := [4, 5, 6, 18, 19, 36]) (F := [18, 19, 20, 28, 29, 48, 52]) (G := []) (by repeat (first | exact f2.mono rfl | exact (f2.mono rfl).mono rfl | refine Fr.putI ?_ rfl | refine Fr.putL ?_ rfl | refine Fr.putR ?_ rfl)) rfl, row2⟩
theorem m_years (x : MX σ P a) (s : SM σ) {seed : Int32} {n : Nat} (h1n : 1 ≤ n) (hn' : n ≤ 60) : wp (f_X3_years (some 37) seed (nI n) σ) (QuM σ ((yrS P a seed n).2.gaps - a.gaps) (some [((yrS P a seed n).2.rid - a.rid).toInt64, (sumI (yrS P a seed n).2.tired P.n).toInt64])) := by
  have x0 := x
  have n8 := x.n8
  have hin : ((1 : Int32) ≤ nI n ∧ nI n ≤ nI 60) := ⟨by rw [l_1le (by omega)]; exact h1n, by rw [nI_le_l (by omega) (by decide)]; exact hn'⟩
  generalize hQ : QuM σ ((yrS P a seed n).2.gaps - a.gaps) (some [((yrS P a seed n).2.rid - a.rid).toInt64, (sumI (yrS P a seed n).2.tired P.n).toInt64]) = Q
  unfold f_X3_years
  simp (disch := first | omega | exact x.s | exact hi_eq | ((repeat (first | exact x.s | apply sw_I | apply sw_L | apply sw_cp | apply sw_18 | apply sw_21 | apply sw_22 | apply sw_m12 | apply sw_m18)); done) | rfl) only [wp_ite, wp_some, y_jn, wp_r0, wp_r1, wp_b2, y_nn, w_bc, w_nt, wo_37, wg_37, wi_37, wr_37_0, wr_37_26, wl_38, ws_38, wl_50, ws_50, w_has3, w_isMan, w_areTwo, w_isHour3, w_in3, w_night, wtM_0, wtM_1, wtM_2, nI_add, nI_1, nI_mul, nI_and, nI_or, nI_sd, nI_sub, l_sub1, l_addm1, l_all, l_1shl, l_or0, l_add0, l_0add, l_m1, l_m1r, l_neg, l_nn, l_eq0, l_le0, l_0lt, l_eq1, l_m1lt, l_m1le, l_m1eq0, l_10, l_00, l_1le, nI_le_l, nI_lt_l, nI_eq_l, bc_nI, nt_nI, bit_nI, b2_ite, b2_ite1, nI_max, nI_min, isR_nI, n_10, n_100, n_11, n_2, n_25, n_26, n_60, hi_ne, hi_ni, hi_eq, y_iL, y_iR, y_lI, y_lR, hl_ne, hl_ni, hl_eq, y_rI, y_rL, if_true, if_false, if_pos, if_neg, true_and, and_true, not_true_eq_false, not_false_eq_true, x.n, x.h, x.b, x.mo, x.wi, x.ca, x.ro, x.ti, x.il, x.ni, x.ga, x.ri, hin]
  have f0 : Fr [] [] [11, 46] σ (wI (wI σ 37 11 0) 37 46 seed) := (Fr.refl.putI rfl).putI rfl
  have x1 := x0.fr f0 rfl
  rw [wp_bnd]
  refine wp_mono (m_lay50 x1) (fun _ τ h => ?_)
  obtain ⟨hb, hc⟩ := h
  have f1 : Fr [47, 50, 51, 52] [] [11, 12, 13, 14, 15, 16, 21, 27, 28, 46] σ τ := (f0.mono rfl).then hb rfl
  have e46 : hi τ 37 46 = seed := (hb.i rfl).trans hi_eq
  refine wp_up n (fun i y τ => y = nI i ∧ Fr [47, 50, 51, 52] [] [11, 12, 13, 14, 15, 16, 21, 27, 28, 46] σ τ ∧ MH τ 50 0 (yrS P a seed i).2 ∧ hi τ 37 46 = (yrS P a seed i).1) (fun ag i y τ hi' hJ hag => ?_) (fun ag y τ hJ => ?_) (by omega) ⟨rfl, f1, hc, e46⟩
  · obtain ⟨rfl, f, k1, k2⟩ := hJ
    replace x := x0.fr f rfl
    have hok : HOK P.n (yrS P a seed i).2 := yrS_ok x0.ok i
    have st : yrS P a seed (i + 1) = yrU P (yrS P a seed i) := rfl
    rw [st] at hag
    generalize yrS P a seed i = S at *
    obtain ⟨sd0, b⟩ := S
    dsimp only at k1 k2 hok
    unfold yrU at hag
    dsimp only at hag
    have g1 : Fr [47, 50, 51, 52] [] [11, 12, 13, 14, 15, 16, 21, 27, 28, 46] σ (wI τ 37 46 (dr sd0)) := f.putI rfl
    have x1 := x0.fr g1 rfl
    have c1 : MH (wI τ 37 46 (dr sd0)) 50 0 b := k1.ne (by decide)
    have w4 : dv (dr sd0) 4 < 4 := Nat.mod_lt _ (by decide)
    unfold f_X3_years_b36
    simp (disch := first | omega | exact x.s | exact hi_eq | ((repeat (first | exact x.s | apply sw_I | apply sw_L | apply sw_cp | apply sw_18 | apply sw_21 | apply sw_22 | apply sw_m12 | apply sw_m18)); done) | rfl) only [wp_ite, wp_some, wp_r0, wp_r1, wp_b2, y_nn, w_bc, w_nt, wo_37, wg_37, wi_37, wr_37_26, wl_50, ws_50, w_has3, w_isMan, w_areTwo, w_isHour3, w_in3, w_night, wtM_0, wtM_1, wtM_2, nI_add, nI_1, nI_mul, nI_and, nI_or, nI_sd, nI_sub, l_sub1, l_addm1, l_all, l_1shl, l_or0, l_add0, l_0add, l_m1, l_m1r, l_neg, l_nn, l_eq0, l_le0, l_0lt, l_eq1, l_m1lt, l_m1le, l_m1eq0, l_10, l_00, l_1le, nI_le_l, nI_lt_l, nI_eq_l, bc_nI, nt_nI, bit_nI, b2_ite, b2_ite1, nI_max, nI_min, isR_nI, n_100, n_16, n_2, n_26, n_3, n_4, n_8, hi_ne, hi_ni, hi_eq, y_iL, y_iR, y_lI, y_lR, hl_ne, hl_ni, hl_eq, y_rI, y_rL, if_true, if_false, if_pos, if_neg, true_and, and_true, not_true_eq_false, not_false_eq_true, x.n, x.h, x.b, x.mo, x.wi, x.ca, x.ro, x.ti, x.il, x.ni, x.ga, x.ri]
    rw [m_draw x.s (by decide) (by decide), e_bnd, k2, y_jn]
    by_cases d1 : dv (dr sd0) 4 < 2
    · rw [if_pos d1] at hag
      simp (disch := first | omega | exact x1.s | exact hi_eq | ((repeat (first | exact x1.s | apply sw_I | apply sw_L | apply sw_cp | apply sw_18 | apply sw_21 | apply sw_22 | apply sw_m12 | apply sw_m18)); done) | rfl) only [wp_ite, wp_some, wp_r0, wp_r1, wp_b2, y_nn, w_bc, w_nt, wo_37, wg_37, wi_37, wr_37_26, wl_50, ws_50, w_has3, w_isMan, w_areTwo, w_isHour3, w_in3, w_night, wtM_0, wtM_1, wtM_2, nI_add, nI_1, nI_mul, nI_and, nI_or, nI_sd, nI_sub, l_sub1, l_addm1, l_all, l_1shl, l_or0, l_add0, l_0add, l_m1, l_m1r, l_neg, l_nn, l_eq0, l_le0, l_0lt, l_eq1, l_m1lt, l_m1le, l_m1eq0, l_10, l_00, l_1le, nI_le_l, nI_lt_l, nI_eq_l, bc_nI, nt_nI, bit_nI, b2_ite, b2_ite1, nI_max, nI_min, isR_nI, n_100, n_16, n_2, n_26, n_3, n_4, n_8, hi_ne, hi_ni, hi_eq, y_iL, y_iR, y_lI, y_lR, hl_ne, hl_ni, hl_eq, y_rI, y_rL, if_true, if_false, if_pos, if_neg, true_and, and_true, not_true_eq_false, not_false_eq_true, x1.n, x1.h, x1.b, x1.mo, x1.wi, x1.ca, x1.ro, x1.ti, x1.il, x1.ni, x1.ga, x1.ri]
      rw [wp_bnd]
      refine wp_mono (m_goNight_50 x1.y c1 hok) (fun _ τ2 h => ?_)
      obtain ⟨f2, k3, -⟩ := h
      have x2 := x0.fr (g1.then f2 rfl) rfl
      simp (disch := first | omega | exact x2.s | exact hi_eq | ((repeat (first | exact x2.s | apply sw_I | apply sw_L | apply sw_cp | apply sw_18 | apply sw_21 | apply sw_22 | apply sw_m12 | apply sw_m18)); done) | rfl) only [wp_ite, wp_some, y_jn, wp_r0, wp_r1, wp_b2, y_nn, w_bc, w_nt, wo_37, wg_37, wi_37, wr_37_26, wl_50, ws_50, w_has3, w_isMan, w_areTwo, w_isHour3, w_in3, w_night, wtM_0, wtM_1, wtM_2, nI_add, nI_1, nI_mul, nI_and, nI_or, nI_sd, nI_sub, l_sub1, l_addm1, l_all, l_1shl, l_or0, l_add0, l_0add, l_m1, l_m1r, l_neg, l_nn, l_eq0, l_le0, l_0lt, l_eq1, l_m1lt, l_m1le, l_m1eq0, l_10, l_00, l_1le, nI_le_l, nI_lt_l, nI_eq_l, bc_nI, nt_nI, bit_nI, b2_ite, b2_ite1, nI_max, nI_min, isR_nI, n_100, n_16, n_2, n_26, n_3, n_4, n_8, hi_ne, hi_ni, hi_eq, y_iL, y_iR, y_lI, y_lR, hl_ne, hl_ni, hl_eq, y_rI, y_rL, if_true, if_false, if_pos, if_neg, true_and, and_true, not_true_eq_false, not_false_eq_true, x2.n, x2.h, x2.b, x2.mo, x2.wi, x2.ca, x2.ro, x2.ti, x2.il, x2.ni, x2.ga, x2.ri]
      exact hag _ _ ⟨rfl, g1.then f2 rfl, k3, (f2.i rfl).trans hi_eq⟩
    · rw [if_neg d1] at hag
      by_cases d2 : P.n = 0
      · rw [if_pos d2] at hag
        simp (disch := first | omega | exact x1.s | exact hi_eq | ((repeat (first | exact x1.s | apply sw_I | apply sw_L | apply sw_cp | apply sw_18 | apply sw_21 | apply sw_22 | apply sw_m12 | apply sw_m18)); done) | rfl) only [wp_ite, wp_some, y_jn, wp_r0, wp_r1, wp_b2, y_nn, w_bc, w_nt, wo_37, wg_37, wi_37, wr_37_26, wl_50, ws_50, w_has3, w_isMan, w_areTwo, w_isHour3, w_in3, w_night, wtM_0, wtM_1, wtM_2, nI_add, nI_1, nI_mul, nI_and, nI_or, nI_sd, nI_sub, l_sub1, l_addm1, l_all, l_1shl, l_or0, l_add0, l_0add, l_m1, l_m1r, l_neg, l_nn, l_eq0, l_le0, l_0lt, l_eq1, l_m1lt, l_m1le, l_m1eq0, l_10, l_00, l_1le, nI_le_l, nI_lt_l, nI_eq_l, bc_nI, nt_nI, bit_nI, b2_ite, b2_ite1, nI_max, nI_min, isR_nI, n_100, n_16, n_2, n_26, n_3, n_4, n_8, hi_ne, hi_ni, hi_eq, y_iL, y_iR, y_lI, y_lR, hl_ne, hl_ni, hl_eq, y_rI, y_rL, if_true, if_false, if_pos, if_neg, true_and, and_true, not_true_eq_false, not_false_eq_true, x1.n, x1.h, x1.b, x1.mo, x1.wi, x1.ca, x1.ro, x1.ti, x1.il, x1.ni, x1.ga, x1.ri]
        exact hag _ _ ⟨rfl, g1, c1, hi_eq⟩
      · rw [if_neg d2] at hag
        have dn1 : ∀ s, dv s P.n < P.n := fun s => Nat.mod_lt _ (by omega)
        by_cases d3 : dv (dr sd0) 4 = 2
        · rw [if_pos d3] at hag
          have l1 := dn1 (dr (dr sd0))
          have g2 : Fr [47, 50, 51, 52] [] [11, 12, 13, 14, 15, 16, 21, 27, 28, 46] σ (wI (wI τ 37 46 (dr sd0)) 37 46 (dr (dr sd0))) := g1.putI rfl
          have x2 := x0.fr g2 rfl
          have c2 : MH (wI (wI τ 37 46 (dr sd0)) 37 46 (dr (dr sd0))) 50 0 b := c1.ne (by decide)
          simp (disch := first | omega | exact x1.s | exact hi_eq | ((repeat (first | exact x1.s | apply sw_I | apply sw_L | apply sw_cp | apply sw_18 | apply sw_21 | apply sw_22 | apply sw_m12 | apply sw_m18)); done) | rfl) only [wp_ite, wp_some, y_jn, wp_r0, wp_r1, wp_b2, y_nn, w_bc, w_nt, wo_37, wg_37, wi_37, wr_37_26, wl_50, ws_50, w_has3, w_isMan, w_areTwo, w_isHour3, w_in3, w_night, wtM_0, wtM_1, wtM_2, nI_add, nI_1, nI_mul, nI_and, nI_or, nI_sd, nI_sub, l_sub1, l_addm1, l_all, l_1shl, l_or0, l_add0, l_0add, l_m1, l_m1r, l_neg, l_nn, l_eq0, l_le0, l_0lt, l_eq1, l_m1lt, l_m1le, l_m1eq0, l_10, l_00, l_1le, nI_le_l, nI_lt_l, nI_eq_l, bc_nI, nt_nI, bit_nI, b2_ite, b2_ite1, nI_max, nI_min, isR_nI, n_100, n_16, n_2, n_26, n_3, n_4, n_8, hi_ne, hi_ni, hi_eq, y_iL, y_iR, y_lI, y_lR, hl_ne, hl_ni, hl_eq, y_rI, y_rL, if_true, if_false, if_pos, if_neg, true_and, and_true, not_true_eq_false, not_false_eq_true, x1.n, x1.h, x1.b, x1.mo, x1.wi, x1.ca, x1.ro, x1.ti, x1.il, x1.ni, x1.ga, x1.ri]
          rw [m_draw x1.s (by omega) (by omega), e_bnd, hi_eq]
          simp (disch := first | omega | exact x2.s | exact hi_eq | ((repeat (first | exact x2.s | apply sw_I | apply sw_L | apply sw_cp | apply sw_18 | apply sw_21 | apply sw_22 | apply sw_m12 | apply sw_m18)); done) | rfl) only [wp_ite, wp_some, wp_r0, wp_r1, wp_b2, y_nn, w_bc, w_nt, wo_37, wg_37, wi_37, wr_37_26, wl_50, ws_50, w_has3, w_isMan, w_areTwo, w_isHour3, w_in3, w_night, wtM_0, wtM_1, wtM_2, nI_add, nI_1, nI_mul, nI_and, nI_or, nI_sd, nI_sub, l_sub1, l_addm1, l_all, l_1shl, l_or0, l_add0, l_0add, l_m1, l_m1r, l_neg, l_nn, l_eq0, l_le0, l_0lt, l_eq1, l_m1lt, l_m1le, l_m1eq0, l_10, l_00, l_1le, nI_le_l, nI_lt_l, nI_eq_l, bc_nI, nt_nI, bit_nI, b2_ite, b2_ite1, nI_max, nI_min, isR_nI, n_100, n_16, n_2, n_26, n_3, n_4, n_8, hi_ne, hi_ni, hi_eq, y_iL, y_iR, y_lI, y_lR, hl_ne, hl_ni, hl_eq, y_rI, y_rL, if_true, if_false, if_pos, if_neg, true_and, and_true, not_true_eq_false, not_false_eq_true, x2.n, x2.h, x2.b, x2.mo, x2.wi, x2.ca, x2.ro, x2.ti, x2.il, x2.ni, x2.ga, x2.ri]
          refine hag _ _ ⟨rfl, g2.putI rfl, ?_, ?_⟩
          · have := c2.flp (q := dv (dr (dr sd0)) P.n) (by omega)
            rw [hi_ne (by decide), hi_ne (by decide)] at this
            exact this
          · rw [hi_ne (by decide), hi_eq]
        · rw [if_neg d3] at hag
          have l8 : dv (dr (dr sd0)) 8 < 8 := Nat.mod_lt _ (by decide)
          have l1 := dn1 (dr (dr (dr sd0)))
          have g2 : Fr [47, 50, 51, 52] [] [11, 12, 13, 14, 15, 16, 21, 27, 28, 46] σ (wI (wI τ 37 46 (dr sd0)) 37 46 (dr (dr sd0))) := g1.putI rfl
          have x2 := x0.fr g2 rfl
          have g3 : Fr [47, 50, 51, 52] [] [11, 12, 13, 14, 15, 16, 21, 27, 28, 46] σ (wI (wI (wI τ 37 46 (dr sd0)) 37 46 (dr (dr sd0))) 37 46 (dr (dr (dr sd0)))) := g2.putI rfl
          have x3 := x0.fr g3 rfl
          have c3 : MH (wI (wI (wI τ 37 46 (dr sd0)) 37 46 (dr (dr sd0))) 37 46 (dr (dr (dr sd0)))) 50 0 b := (c1.ne (by decide)).ne (by decide)
          simp (disch := first | omega | exact x1.s | exact hi_eq | ((repeat (first | exact x1.s | apply sw_I | apply sw_L | apply sw_cp | apply sw_18 | apply sw_21 | apply sw_22 | apply sw_m12 | apply sw_m18)); done) | rfl) only [wp_ite, wp_some, y_jn, wp_r0, wp_r1, wp_b2, y_nn, w_bc, w_nt, wo_37, wg_37, wi_37, wr_37_26, wl_50, ws_50, w_has3, w_isMan, w_areTwo, w_isHour3, w_in3, w_night, wtM_0, wtM_1, wtM_2, nI_add, nI_1, nI_mul, nI_and, nI_or, nI_sd, nI_sub, l_sub1, l_addm1, l_all, l_1shl, l_or0, l_add0, l_0add, l_m1, l_m1r, l_neg, l_nn, l_eq0, l_le0, l_0lt, l_eq1, l_m1lt, l_m1le, l_m1eq0, l_10, l_00, l_1le, nI_le_l, nI_lt_l, nI_eq_l, bc_nI, nt_nI, bit_nI, b2_ite, b2_ite1, nI_max, nI_min, isR_nI, n_100, n_16, n_2, n_26, n_3, n_4, n_8, hi_ne, hi_ni, hi_eq, y_iL, y_iR, y_lI, y_lR, hl_ne, hl_ni, hl_eq, y_rI, y_rL, if_true, if_false, if_pos, if_neg, true_and, and_true, not_true_eq_false, not_false_eq_true, x1.n, x1.h, x1.b, x1.mo, x1.wi, x1.ca, x1.ro, x1.ti, x1.il, x1.ni, x1.ga, x1.ri]
          rw [m_draw x1.s (by decide) (by decide), e_bnd, hi_eq]
          simp (disch := first | omega | exact x2.s | exact hi_eq | ((repeat (first | exact x2.s | apply sw_I | apply sw_L | apply sw_cp | apply sw_18 | apply sw_21 | apply sw_22 | apply sw_m12 | apply sw_m18)); done) | rfl) only [wp_ite, wp_some, y_jn, wp_r0, wp_r1, wp_b2, y_nn, w_bc, w_nt, wo_37, wg_37, wi_37, wr_37_26, wl_50, ws_50, w_has3, w_isMan, w_areTwo, w_isHour3, w_in3, w_night, wtM_0, wtM_1, wtM_2, nI_add, nI_1, nI_mul, nI_and, nI_or, nI_sd, nI_sub, l_sub1, l_addm1, l_all, l_1shl, l_or0, l_add0, l_0add, l_m1, l_m1r, l_neg, l_nn, l_eq0, l_le0, l_0lt, l_eq1, l_m1lt, l_m1le, l_m1eq0, l_10, l_00, l_1le, nI_le_l, nI_lt_l, nI_eq_l, bc_nI, nt_nI, bit_nI, b2_ite, b2_ite1, nI_max, nI_min, isR_nI, n_100, n_16, n_2, n_26, n_3, n_4, n_8, hi_ne, hi_ni, hi_eq, y_iL, y_iR, y_lI, y_lR, hl_ne, hl_ni, hl_eq, y_rI, y_rL, if_true, if_false, if_pos, if_neg, true_and, and_true, not_true_eq_false, not_false_eq_true, x2.n, x2.h, x2.b, x2.mo, x2.wi, x2.ca, x2.ro, x2.ti, x2.il, x2.ni, x2.ga, x2.ri]
          rw [m_draw x2.s (by omega) (by omega), e_bnd, hi_eq]
          simp (disch := first | omega | exact x3.s | exact hi_eq | ((repeat (first | exact x3.s | apply sw_I | apply sw_L | apply sw_cp | apply sw_18 | apply sw_21 | apply sw_22 | apply sw_m12 | apply sw_m18)); done) | rfl) only [wp_ite, wp_some, y_jn, wp_r0, wp_r1, wp_b2, y_nn, w_bc, w_nt, wo_37, wg_37, wi_37, wr_37_26, wl_50, ws_50, w_has3, w_isMan, w_areTwo, w_isHour3, w_in3, w_night, wtM_0, wtM_1, wtM_2, nI_add, nI_1, nI_mul, nI_and, nI_or, nI_sd, nI_sub, l_sub1, l_addm1, l_all, l_1shl, l_or0, l_add0, l_0add, l_m1, l_m1r, l_neg, l_nn, l_eq0, l_le0, l_0lt, l_eq1, l_m1lt, l_m1le, l_m1eq0, l_10, l_00, l_1le, nI_le_l, nI_lt_l, nI_eq_l, bc_nI, nt_nI, bit_nI, b2_ite, b2_ite1, nI_max, nI_min, isR_nI, n_100, n_16, n_2, n_26, n_3, n_4, n_8, hi_ne, hi_ni, hi_eq, y_iL, y_iR, y_lI, y_lR, hl_ne, hl_ni, hl_eq, y_rI, y_rL, if_true, if_false, if_pos, if_neg, true_and, and_true, not_true_eq_false, not_false_eq_true, x3.n, x3.h, x3.b, x3.mo, x3.wi, x3.ca, x3.ro, x3.ti, x3.il, x3.ni, x3.ga, x3.ri]
          refine hag _ _ ⟨rfl, g3.putI rfl, c3.stR l8 _, ?_⟩
          rw [hi_ne (by decide), hi_eq]
  · obtain ⟨rfl, f, k1, k2⟩ := hJ
    replace x := x0.fr f rfl
    generalize (yrS P a seed n).2 = b at *
    have q12 := k1.2.2.2.2.1
    have q13 := k1.2.2.2.2.2
    rw [Nat.zero_add] at q12 q13
    have f2 : Fr [43, 47, 50, 51, 52] [] [10, 11, 12, 13, 14, 15, 16, 21, 27, 28, 46] σ (wI (wL (wI τ 37 10 0) 43 0 (b.rid - a.rid).toInt64) 37 10 1) := (((f.mono rfl).putI rfl).putL rfl).putI rfl
    have c2 : MH (wI (wL (wI τ 37 10 0) 43 0 (b.rid - a.rid).toInt64) 37 10 1) 50 0 b := MH.ne (σ := wL (wI τ 37 10 0) 43 0 (b.rid - a.rid).toInt64) (k1.ne (by decide)) (by decide)
    have x2 := x0.fr f2 rfl
    have sm := m_tsum x2.s x2.n n8 (so_50 x2.s) (sl_50 x2.s) c2
    unfold f_X3_years_b36
    simp (disch := first | omega | exact x.s | exact hi_eq | ((repeat (first | exact x.s | apply sw_I | apply sw_L | apply sw_cp | apply sw_18 | apply sw_21 | apply sw_22 | apply sw_m12 | apply sw_m18)); done) | rfl) only [wp_ite, wp_some, y_jn, wp_r0, wp_r1, wp_b2, y_nn, w_bc, w_nt, wo_37, wg_37, wi_37, wr_37_0, wr_37_26, wl_38, ws_38, wl_50, ws_50, w_has3, w_isMan, w_areTwo, w_isHour3, w_in3, w_night, wtM_0, wtM_1, wtM_2, nI_add, nI_1, nI_mul, nI_and, nI_or, nI_sd, nI_sub, l_sub1, l_addm1, l_all, l_1shl, l_or0, l_add0, l_0add, l_m1, l_m1r, l_neg, l_nn, l_eq0, l_le0, l_0lt, l_eq1, l_m1lt, l_m1le, l_m1eq0, l_10, l_00, l_1le, nI_le_l, nI_lt_l, nI_eq_l, bc_nI, nt_nI, bit_nI, b2_ite, b2_ite1, nI_max, nI_min, isR_nI, n_10, n_100, n_11, n_16, n_2, n_25, n_26, n_3, n_4, n_60, n_8, hi_ne, hi_ni, hi_eq, y_iL, y_iR, y_lI, y_lR, hl_ne, hl_ni, hl_eq, y_rI, y_rL, if_true, if_false, if_pos, if_neg, true_and, and_true, not_true_eq_false, not_false_eq_true, x.n, x.h, x.b, x.mo, x.wi, x.ca, x.ro, x.ti, x.il, x.ni, x.ga, x.ri, q13, q12]
    rw [sm, e_bnd]
    simp (disch := first | omega | exact x.s | exact hi_eq | ((repeat (first | exact x.s | apply sw_I | apply sw_L | apply sw_cp | apply sw_18 | apply sw_21 | apply sw_22 | apply sw_m12 | apply sw_m18)); done) | rfl) only [wp_ite, wp_some, y_jn, wp_r0, wp_r1, wp_b2, y_nn, w_bc, w_nt, wo_37, wg_37, wi_37, wr_37_0, wr_37_26, wl_38, ws_38, wl_50, ws_50, w_has3, w_isMan, w_areTwo, w_isHour3, w_in3, w_night, wtM_0, wtM_1, wtM_2, nI_add, nI_1, nI_mul, nI_and, nI_or, nI_sd, nI_sub, l_sub1, l_addm1, l_all, l_1shl, l_or0, l_add0, l_0add, l_m1, l_m1r, l_neg, l_nn, l_eq0, l_le0, l_0lt, l_eq1, l_m1lt, l_m1le, l_m1eq0, l_10, l_00, l_1le, nI_le_l, nI_lt_l, nI_eq_l, bc_nI, nt_nI, bit_nI, b2_ite, b2_ite1, nI_max, nI_min, isR_nI, n_10, n_100, n_11, n_16, n_2, n_25, n_26, n_3, n_4, n_60, n_8, hi_ne, hi_ni, hi_eq, y_iL, y_iR, y_lI, y_lR, hl_ne, hl_ni, hl_eq, y_rI, y_rL, if_true, if_false, if_pos, if_neg, true_and, and_true, not_true_eq_false, not_false_eq_true, x.n, x.h, x.b, x.mo, x.wi, x.ca, x.ro, x.ti, x.il, x.ni, x.ga, x.ri, q13, q12]
    rw [← hQ]
    exact ⟨rfl, (by repeat (first | exact f2.mono rfl | exact (f2.mono rfl).mono rfl | refine Fr.putI ?_ rfl | refine Fr.putL ?_ rfl | refine Fr.putR ?_ rfl)), s.fr (D := [43, 47, 50, 51, 52]) (F := []) (G := [10, 11, 12, 13, 14, 15, 16, 21, 27, 28, 46]) (by repeat (first | exact f2.mono rfl | exact (f2.mono rfl).mono rfl | refine Fr.putI ?_ rfl | refine Fr.putL ?_ rfl | refine Fr.putR ?_ rfl)) rfl, rowM2⟩
end years
