/-! PURE 36: the class: what is paid, the fairest -/
def ownI (P : Pk) (a : HS) (r : Nat) (t : Nat → Nat) (n : Nat) : Int32 := sumI (fun h => if t h = r then hardI P a r h else 0) n
noncomputable def paidR (P : Pk) (a : HS) (r : Nat) : Int32 × Option (List Int64) := match lstO P (mayOf P a (2 ^ r)) 1000000 (prH P a), lstO P (mayOf P a 0) 1000000 (prH P a) with
  | some u, some v => (nI u - (nI v - ownI P a r (layS P 1000000 (prH P a) v (mayOf P a 0) P.hrs).2 P.hrs), some [(ownI P a r (layS P 1000000 (prH P a) v (mayOf P a 0) P.hrs).2 P.hrs).toInt64, (nI v - ownI P a r (layS P 1000000 (prH P a) v (mayOf P a 0) P.hrs).2 P.hrs).toInt64])
  | _, _ => (-2, none)
/-- the least that can be the most -/
noncomputable def frO (P : Pk) (may : Nat → Nat) (pr : Nat → Nat → Nat) : Option Nat := minO (fun b => lstO P may b pr ≠ none)
noncomputable def fairR (P : Pk) (may : Nat → Nat) (pr : Nat → Nat → Nat) : Int32 × Option (List Int64) := match frO P may pr with
  | none => (-2, none)
  | some b => (nI b, some [(nI ((lstO P may b pr).getD 1000000)).toInt64])
theorem i32_nI (x : Int32) (h0 : 0 ≤ x) : x = nI (ix x) := by
  obtain ⟨k, hk', rfl⟩ := lo_pos h0
  rw [ix_nI hk']
theorem hlf {d d' : Nat} (h : 2 * d' ≤ d) (h0 : 0 < d) : Nat.log2 (2 * d' + 1) < Nat.log2 (2 * d + 1) := by
  rw [Nat.log2_lt (by omega)]
  have h1 : 2 * d + 1 < 2 ^ (Nat.log2 (2 * d + 1) + 1) := Nat.lt_log2_self
  have h2 : Nat.log2 (2 * d + 1) ≠ 0 := fun e => by rw [e] at h1; omega
  obtain ⟨m, hm⟩ : ∃ m, Nat.log2 (2 * d + 1) = m + 1 := ⟨Nat.log2 (2 * d + 1) - 1, by omega⟩
  rw [hm] at h1 ⊢
  rw [Nat.pow_succ] at h1
  have h3 : 2 ^ (m + 1) = 2 * 2 ^ m := by rw [Nat.pow_succ]; omega
  omega
theorem hlf0 {d : Nat} (h : d ≤ 8000) : Nat.log2 (2 * d + 1) < 2000 := by
  have : Nat.log2 (2 * d + 1) < 14 := (Nat.log2_lt (by omega)).mpr (by omega)
  omega
section cques3
variable {σ τ : Hp} {P : Pk} {a : HS} {may : Nat → Nat} {pr : Nat → Nat → Nat} {lim v : Nat} {D F G : List Nat}
theorem lst_some {v : Nat} (h : Rq P may lim pr (2 ^ P.hrs - 1) v) : lstO P may lim pr ≠ none := fun e => minO_none.mp e v h
theorem lst_ne (h : lstO P may lim pr ≠ none) : ∃ v, Rq P may lim pr (2 ^ P.hrs - 1) v := by
  apply Classical.byContradiction
  intro hc
  exact h (minO_none.mpr fun c hc' => hc ⟨c, hc'⟩)
theorem lst_mono {may' : Nat → Nat} {lim' : Nat} (hs : ∀ r, sbs (may r) (may' r)) (hl' : lim ≤ lim') (h : lstO P may lim pr ≠ none) : lstO P may' lim' pr ≠ none := by
  obtain ⟨v, hv⟩ := lst_ne h
  exact lst_some (Tw.mono _ _ _ (fun r b _ _ _ hok => ⟨⟨sbs_trans hok.1 (hs r), hok.2.1, Nat.le_trans hok.2.2 hl'⟩, rfl⟩) hv)
theorem Tw.cap {most : Nat → Nat} : ∀ k S c, Tw (okC most may lim pr) (fun r b => prS (pr r) b) 0 k S c → ∀ m, c ≤ m → Tw (okC most may m pr) (fun r b => prS (pr r) b) 0 k S c := by
  intro k
  induction k with
  | zero => intro S c h m _; exact h
  | succ k ih =>
    rintro S c ⟨b, c', h1, h2, h3, h4⟩ m hm
    dsimp only at h4
    exact ⟨b, c', ⟨h1.1, h1.2.1, by omega⟩, h2, ih _ _ h3 m (by omega), h4⟩
theorem lst_cap (h : lstO P may lim pr = some v) : lstO P may v pr ≠ none := lst_some (Tw.cap _ _ _ (minO_some.mp h).1 v (Nat.le_refl _))
theorem mayOf_sbs {w : Nat} (r : Nat) : sbs (mayOf P a w r) (mayOf P a 0 r) := by
  unfold mayOf
  by_cases h : r < P.n ∧ (a.ill ||| w).testBit r = false
  · rw [if_pos h, if_pos]
    · exact sbs_refl _
    · refine ⟨h.1, ?_⟩
      have := h.2
      rw [Nat.testBit_or, Bool.or_eq_false_iff] at this
      rw [Nat.or_zero]; exact this.1
  · rw [if_neg h]; exact sbs_zero _
theorem c_paid (x : CX σ P a) (s : SC σ) {r : Nat} (hr' : r < P.n) : wp (f_X1_paid (some 0) (nI r) σ) (QuC σ (paidR P a r).1 (paidR P a r).2) := by
  have n8 := x.n8
  have h8 := x.h8
  have x0 := x
  unfold f_X1_paid
  simp (disch := first | omega | exact x.s | exact hi_eq | ((repeat (first | exact x.s | apply sw_I | apply sw_L | apply sw_cp | apply sw_18 | apply sw_21 | apply sw_22 | apply sw_m12 | apply sw_m18)); done) | rfl) only [wp_ite, wp_some, w_jn, wp_r0, wp_r1, wp_b2, wp_nn, w_bc, w_nt, wo_0, wg_0, wi_0, w_has, w_isRider, w_isPair, w_isHour, w_in, w_in0, w_in_0_1, w_in_0_10, w_in_0_3, w_in_0_30, w_in_0_60, w_in_0_7, w_in_0_9, w_in_0_999, w_in_1_60, w_in_20_27, w_in_2_40, w_in_48_57, w_whole, w_all, wt_0, wt_1, wt_2, nI_add, nI_1, nI_mul, nI_and, nI_or, nI_sd, nI_sub, l_sub1, l_addm1, l_all, l_1shl, l_or0, l_add0, l_0add, l_m1, l_m1r, l_neg, l_nn, l_eq0, l_le0, l_0lt, l_eq1, l_m1lt, l_m1le, l_m1eq0, l_10, l_00, l_1le, nI_le_l, nI_lt_l, nI_eq_l, bc_nI, nt_nI, bit_nI, b2_ite, b2_ite1, nI_max, nI_min, isR_nI, n_1000000, n_2, hi_ne, hi_ni, hi_eq, hi_wL, hi_wR, hl_wI, hl_wR, hl_ne, hl_ni, hl_eq, hr_wI, hr_wL, if_true, if_false, if_pos, if_neg, true_and, and_true, not_true_eq_false, not_false_eq_true, x.n, x.h, x.b, x.mo, x.wi, x.ca, x.ro, x.ti, x.il, x.ni, x.ga, x.ri]
  rw [wp_bnd]
  refine wp_mono (c_easiestBut x s (w := 2 ^ r) (pow_lt8 (by omega))) (fun y τ h => ?_)
  obtain ⟨rfl, f, ld⟩ := h
  replace x := x0.fr f rfl
  simp (disch := first | omega | exact x.s | exact hi_eq | ((repeat (first | exact x.s | apply sw_I | apply sw_L | apply sw_cp | apply sw_18 | apply sw_21 | apply sw_22 | apply sw_m12 | apply sw_m18)); done) | rfl) only [wp_ite, wp_some, w_jn, wp_r0, wp_r1, wp_b2, wp_nn, w_bc, w_nt, wo_0, wg_0, wi_0, w_has, w_isRider, w_isPair, w_isHour, w_in, w_in0, w_in_0_1, w_in_0_10, w_in_0_3, w_in_0_30, w_in_0_60, w_in_0_7, w_in_0_9, w_in_0_999, w_in_1_60, w_in_20_27, w_in_2_40, w_in_48_57, w_whole, w_all, wt_0, wt_1, wt_2, nI_add, nI_1, nI_mul, nI_and, nI_or, nI_sd, nI_sub, l_sub1, l_addm1, l_all, l_1shl, l_or0, l_add0, l_0add, l_m1, l_m1r, l_neg, l_nn, l_eq0, l_le0, l_0lt, l_eq1, l_m1lt, l_m1le, l_m1eq0, l_10, l_00, l_1le, nI_le_l, nI_lt_l, nI_eq_l, bc_nI, nt_nI, bit_nI, b2_ite, b2_ite1, nI_max, nI_min, isR_nI, n_1000000, n_2, hi_ne, hi_ni, hi_eq, hi_wL, hi_wR, hl_wI, hl_wR, hl_ne, hl_ni, hl_eq, hr_wI, hr_wL, if_true, if_false, if_pos, if_neg, true_and, and_true, not_true_eq_false, not_false_eq_true, x.n, x.h, x.b, x.mo, x.wi, x.ca, x.ro, x.ti, x.il, x.ni, x.ga, x.ri]
  rw [wp_bnd]
  refine wp_mono (c_easiestBut x ld.sc (w := 0) (by decide)) (fun y τ' h => ?_)
  obtain ⟨rfl, f', ld⟩ := h
  replace f := f.trans f'
  replace x := x0.fr f rfl
  unfold paidR
  cases hl2 : lstO P (mayOf P a (2 ^ r)) 1000000 (prH P a) with
  | none =>
    simp (disch := first | omega | exact x.s | exact hi_eq | ((repeat (first | exact x.s | apply sw_I | apply sw_L | apply sw_cp | apply sw_18 | apply sw_21 | apply sw_22 | apply sw_m12 | apply sw_m18)); done) | rfl) only [wp_ite, wp_some, w_jn, wp_r0, wp_r1, wp_b2, wp_nn, w_bc, w_nt, wo_0, wg_0, wi_0, w_has, w_isRider, w_isPair, w_isHour, w_in, w_in0, w_in_0_1, w_in_0_10, w_in_0_3, w_in_0_30, w_in_0_60, w_in_0_7, w_in_0_9, w_in_0_999, w_in_1_60, w_in_20_27, w_in_2_40, w_in_48_57, w_whole, w_all, wt_0, wt_1, wt_2, nI_add, nI_1, nI_mul, nI_and, nI_or, nI_sd, nI_sub, l_sub1, l_addm1, l_all, l_1shl, l_or0, l_add0, l_0add, l_m1, l_m1r, l_neg, l_nn, l_eq0, l_le0, l_0lt, l_eq1, l_m1lt, l_m1le, l_m1eq0, l_10, l_00, l_1le, nI_le_l, nI_lt_l, nI_eq_l, bc_nI, nt_nI, bit_nI, b2_ite, b2_ite1, nI_max, nI_min, isR_nI, n_1000000, n_2, hi_ne, hi_ni, hi_eq, hi_wL, hi_wR, hl_wI, hl_wR, hl_ne, hl_ni, hl_eq, hr_wI, hr_wL, if_true, if_false, if_pos, if_neg, true_and, and_true, not_true_eq_false, not_false_eq_true, x.n, x.h, x.b, x.mo, x.wi, x.ca, x.ro, x.ti, x.il, x.ni, x.ga, x.ri, Option.getD_none]
    exact ⟨rfl, f.mono rfl, ld.sc, RwC.fr f rfl⟩
  | some u =>
    cases hl3 : lstO P (mayOf P a 0) 1000000 (prH P a) with
    | none => exact absurd hl3 (lst_mono mayOf_sbs (Nat.le_refl _) (by rw [hl2]; exact fun e => by cases e))
    | some v =>
      have u8 := lst_le (prH_le P a) hl2
      have v8 := lst_le (prH_le P a) hl3
      simp (disch := first | omega | exact x.s | exact hi_eq | ((repeat (first | exact x.s | apply sw_I | apply sw_L | apply sw_cp | apply sw_18 | apply sw_21 | apply sw_22 | apply sw_m12 | apply sw_m18)); done) | rfl) only [wp_ite, wp_some, w_jn, wp_r0, wp_r1, wp_b2, wp_nn, w_bc, w_nt, wo_0, wg_0, wi_0, w_has, w_isRider, w_isPair, w_isHour, w_in, w_in0, w_in_0_1, w_in_0_10, w_in_0_3, w_in_0_30, w_in_0_60, w_in_0_7, w_in_0_9, w_in_0_999, w_in_1_60, w_in_20_27, w_in_2_40, w_in_48_57, w_whole, w_all, wt_0, wt_1, wt_2, nI_add, nI_1, nI_mul, nI_and, nI_or, nI_sd, nI_sub, l_sub1, l_addm1, l_all, l_1shl, l_or0, l_add0, l_0add, l_m1, l_m1r, l_neg, l_nn, l_eq0, l_le0, l_0lt, l_eq1, l_m1lt, l_m1le, l_m1eq0, l_10, l_00, l_1le, nI_le_l, nI_lt_l, nI_eq_l, bc_nI, nt_nI, bit_nI, b2_ite, b2_ite1, nI_max, nI_min, isR_nI, n_1000000, n_2, hi_ne, hi_ni, hi_eq, hi_wL, hi_wR, hl_wI, hl_wR, hl_ne, hl_ni, hl_eq, hr_wI, hr_wL, if_true, if_false, if_pos, if_neg, true_and, and_true, not_true_eq_false, not_false_eq_true, x.n, x.h, x.b, x.mo, x.wi, x.ca, x.ro, x.ti, x.il, x.ni, x.ga, x.ri, Option.getD_some]
      rw [wp_bnd]
      refine wp_mono (c_laysTurn x ld.1 mayOf_ok ld.2.1 (prH_le P a) ld.2.2.1 (by decide) ld.2.2.2 hl3) (fun _ τ'' h => ?_)
      obtain ⟨f2, z, ht⟩ := h
      have hlt := layS_lt hl3 P.hrs (Nat.le_refl _)
      generalize (layS P 1000000 (prH P a) v (mayOf P a 0) P.hrs).2 = t at *
      have ff : Fr CD CF [] σ τ'' := (f.mono rfl).then f2 rfl
      have s2 : SC τ'' := ⟨(f2.i rfl).trans ld.2.2.1, z⟩
      refine wp_up P.hrs (fun i y τ => y = (ownI P a r t i, nI i) ∧ Fr [] [18, 19, 20] [] τ'' τ) (fun ag i y τ hi' hJ hag => ?_) (fun ag y τ hJ => ?_) (by omega) ⟨rfl, Fr.refl⟩
      · obtain ⟨rfl, f3⟩ := hJ
        replace x := x0.fr (ff.then f3 rfl) rfl
        have h3 : hi τ 29 i = nI (t i) := (f3.i rfl).trans (ht i hi')
        have h4 := hlt i hi'
        unfold f_X1_paid_b44
        simp (disch := first | omega | exact x.s | exact hi_eq | ((repeat (first | exact x.s | apply sw_I | apply sw_L | apply sw_cp | apply sw_18 | apply sw_21 | apply sw_22 | apply sw_m12 | apply sw_m18)); done) | rfl) only [wp_ite, wp_some, w_jn, wp_r0, wp_r1, wp_b2, wp_nn, w_bc, w_nt, wo_0, wg_0, wi_0, wr_0_40, wr_0_0, wo_1, wg_1, wi_1, wr_1_0, wr_1_1, wl_2, ws_2, wl_3, ws_3, wl_29, ws_29, w_has, w_isRider, w_isPair, w_isHour, w_in, w_in0, w_in_0_1, w_in_0_10, w_in_0_3, w_in_0_30, w_in_0_60, w_in_0_7, w_in_0_9, w_in_0_999, w_in_1_60, w_in_20_27, w_in_2_40, w_in_48_57, w_whole, w_all, wt_0, wt_1, wt_2, nI_add, nI_1, nI_mul, nI_and, nI_or, nI_sd, nI_sub, l_sub1, l_addm1, l_all, l_1shl, l_or0, l_add0, l_0add, l_m1, l_m1r, l_neg, l_nn, l_eq0, l_le0, l_0lt, l_eq1, l_m1lt, l_m1le, l_m1eq0, l_10, l_00, l_1le, nI_le_l, nI_lt_l, nI_eq_l, bc_nI, nt_nI, bit_nI, b2_ite, b2_ite1, nI_max, nI_min, isR_nI, n_100, n_40, n_6, hi_ne, hi_ni, hi_eq, hi_wL, hi_wR, hl_wI, hl_wR, hl_ne, hl_ni, hl_eq, hr_wI, hr_wL, if_true, if_false, if_pos, if_neg, true_and, and_true, not_true_eq_false, not_false_eq_true, x.n, x.h, x.b, x.mo, x.wi, x.ca, x.ro, x.ti, x.il, x.ni, x.ga, x.ri, h3]
        split
        · rename_i e
          rw [c_hardOf x.s x.2.1 x.pk x.2.2.2.1 (by decide) hr' (by omega), e_bnd]
          exact hag _ _ ⟨by show _ = (ownI P a r t i + (if t i = r then hardI P a r i else 0), _); rw [if_pos e], f3.trans (asked_fr.mono rfl)⟩
        · rename_i e
          exact hag _ _ ⟨by show _ = (ownI P a r t i + (if t i = r then hardI P a r i else 0), _); rw [if_neg e], f3⟩
      · obtain ⟨rfl, f3⟩ := hJ
        replace ff := ff.then f3 rfl
        replace x := x0.fr ff rfl
        unfold f_X1_paid_b44
        simp (disch := first | omega | exact x.s | exact hi_eq | ((repeat (first | exact x.s | apply sw_I | apply sw_L | apply sw_cp | apply sw_18 | apply sw_21 | apply sw_22 | apply sw_m12 | apply sw_m18)); done) | rfl) only [wp_ite, wp_some, w_jn, wp_r0, wp_r1, wp_b2, wp_nn, w_bc, w_nt, wo_0, wg_0, wi_0, wr_0_40, wr_0_0, wo_1, wg_1, wi_1, wr_1_0, wr_1_1, wl_2, ws_2, wl_3, ws_3, wl_29, ws_29, w_has, w_isRider, w_isPair, w_isHour, w_in, w_in0, w_in_0_1, w_in_0_10, w_in_0_3, w_in_0_30, w_in_0_60, w_in_0_7, w_in_0_9, w_in_0_999, w_in_1_60, w_in_20_27, w_in_2_40, w_in_48_57, w_whole, w_all, wt_0, wt_1, wt_2, nI_add, nI_1, nI_mul, nI_and, nI_or, nI_sd, nI_sub, l_sub1, l_addm1, l_all, l_1shl, l_or0, l_add0, l_0add, l_m1, l_m1r, l_neg, l_nn, l_eq0, l_le0, l_0lt, l_eq1, l_m1lt, l_m1le, l_m1eq0, l_10, l_00, l_1le, nI_le_l, nI_lt_l, nI_eq_l, bc_nI, nt_nI, bit_nI, b2_ite, b2_ite1, nI_max, nI_min, isR_nI, n_100, n_1000000, n_2, n_40, n_6, hi_ne, hi_ni, hi_eq, hi_wL, hi_wR, hl_wI, hl_wR, hl_ne, hl_ni, hl_eq, hr_wI, hr_wL, if_true, if_false, if_pos, if_neg, true_and, and_true, not_true_eq_false, not_false_eq_true, x.n, x.h, x.b, x.mo, x.wi, x.ca, x.ro, x.ti, x.il, x.ni, x.ga, x.ri]
        exact ⟨rfl, (by repeat (first | exact ff | exact (ff).mono rfl | refine Fr.putI ?_ rfl | refine Fr.putL ?_ rfl | refine Fr.putR ?_ rfl)), s2.fr (D := [36]) (F := [18, 19, 20, 52]) (G := []) (by repeat (first | exact f3 | exact (f3).mono rfl | refine Fr.putI ?_ rfl | refine Fr.putL ?_ rfl | refine Fr.putR ?_ rfl)) rfl, row2⟩
theorem c_fairest (x : CX σ P a) (s : SC σ) : wp (f_X1_fairest (some 0) σ) (QuC σ (match lstO P (mayOf P a 0) 1000000 (prH P a) with
    | none => -2
    | some _ => (fairR P (mayOf P a 0) (prH P a)).1) (match lstO P (mayOf P a 0) 1000000 (prH P a) with
    | none => none
    | some _ => (fairR P (mayOf P a 0) (prH P a)).2)) := by
  have x0 := x
  unfold f_X1_fairest
  simp (disch := first | omega | exact x.s | exact hi_eq | ((repeat (first | exact x.s | apply sw_I | apply sw_L | apply sw_cp | apply sw_18 | apply sw_21 | apply sw_22 | apply sw_m12 | apply sw_m18)); done) | rfl) only [wp_ite, wp_some, w_jn, wp_r0, wp_r1, wp_b2, wp_nn, w_bc, w_nt, wo_0, wg_0, wi_0, w_has, w_isRider, w_isPair, w_isHour, w_in, w_in0, w_in_0_1, w_in_0_10, w_in_0_3, w_in_0_30, w_in_0_60, w_in_0_7, w_in_0_9, w_in_0_999, w_in_1_60, w_in_20_27, w_in_2_40, w_in_48_57, w_whole, w_all, wt_0, wt_1, wt_2, nI_add, nI_1, nI_mul, nI_and, nI_or, nI_sd, nI_sub, l_sub1, l_addm1, l_all, l_1shl, l_or0, l_add0, l_0add, l_m1, l_m1r, l_neg, l_nn, l_eq0, l_le0, l_0lt, l_eq1, l_m1lt, l_m1le, l_m1eq0, l_10, l_00, l_1le, nI_le_l, nI_lt_l, nI_eq_l, bc_nI, nt_nI, bit_nI, b2_ite, b2_ite1, nI_max, nI_min, isR_nI, n_1000000, n_2, hi_ne, hi_ni, hi_eq, hi_wL, hi_wR, hl_wI, hl_wR, hl_ne, hl_ni, hl_eq, hr_wI, hr_wL, if_true, if_false, if_pos, if_neg, true_and, and_true, not_true_eq_false, not_false_eq_true, x.n, x.h, x.b, x.mo, x.wi, x.ca, x.ro, x.ti, x.il, x.ni, x.ga, x.ri]
  rw [wp_bnd]
  refine wp_mono (c_easiestBut x s (w := 0) (by decide)) (fun y τ h => ?_)
  obtain ⟨rfl, f, ld⟩ := h
  replace x := x0.fr f rfl
  cases hl2 : lstO P (mayOf P a 0) 1000000 (prH P a) with
  | none =>
    simp (disch := first | omega | exact x.s | exact hi_eq | ((repeat (first | exact x.s | apply sw_I | apply sw_L | apply sw_cp | apply sw_18 | apply sw_21 | apply sw_22 | apply sw_m12 | apply sw_m18)); done) | rfl) only [wp_ite, wp_some, w_jn, wp_r0, wp_r1, wp_b2, wp_nn, w_bc, w_nt, wo_0, wg_0, wi_0, w_has, w_isRider, w_isPair, w_isHour, w_in, w_in0, w_in_0_1, w_in_0_10, w_in_0_3, w_in_0_30, w_in_0_60, w_in_0_7, w_in_0_9, w_in_0_999, w_in_1_60, w_in_20_27, w_in_2_40, w_in_48_57, w_whole, w_all, wt_0, wt_1, wt_2, nI_add, nI_1, nI_mul, nI_and, nI_or, nI_sd, nI_sub, l_sub1, l_addm1, l_all, l_1shl, l_or0, l_add0, l_0add, l_m1, l_m1r, l_neg, l_nn, l_eq0, l_le0, l_0lt, l_eq1, l_m1lt, l_m1le, l_m1eq0, l_10, l_00, l_1le, nI_le_l, nI_lt_l, nI_eq_l, bc_nI, nt_nI, bit_nI, b2_ite, b2_ite1, nI_max, nI_min, isR_nI, n_1000000, n_2, hi_ne, hi_ni, hi_eq, hi_wL, hi_wR, hl_wI, hl_wR, hl_ne, hl_ni, hl_eq, hr_wI, hr_wL, if_true, if_false, if_pos, if_neg, true_and, and_true, not_true_eq_false, not_false_eq_true, x.n, x.h, x.b, x.mo, x.wi, x.ca, x.ro, x.ti, x.il, x.ni, x.ga, x.ri, Option.getD_none]
    exact ⟨rfl, f.mono rfl, ld.sc, RwC.fr f rfl⟩
  | some v =>
    have v8 := lst_le (prH_le P a) hl2
    simp (disch := first | omega | exact x.s | exact hi_eq | ((repeat (first | exact x.s | apply sw_I | apply sw_L | apply sw_cp | apply sw_18 | apply sw_21 | apply sw_22 | apply sw_m12 | apply sw_m18)); done) | rfl) only [wp_ite, wp_some, w_jn, wp_r0, wp_r1, wp_b2, wp_nn, w_bc, w_nt, wo_0, wg_0, wi_0, w_has, w_isRider, w_isPair, w_isHour, w_in, w_in0, w_in_0_1, w_in_0_10, w_in_0_3, w_in_0_30, w_in_0_60, w_in_0_7, w_in_0_9, w_in_0_999, w_in_1_60, w_in_20_27, w_in_2_40, w_in_48_57, w_whole, w_all, wt_0, wt_1, wt_2, nI_add, nI_1, nI_mul, nI_and, nI_or, nI_sd, nI_sub, l_sub1, l_addm1, l_all, l_1shl, l_or0, l_add0, l_0add, l_m1, l_m1r, l_neg, l_nn, l_eq0, l_le0, l_0lt, l_eq1, l_m1lt, l_m1le, l_m1eq0, l_10, l_00, l_1le, nI_le_l, nI_lt_l, nI_eq_l, bc_nI, nt_nI, bit_nI, b2_ite, b2_ite1, nI_max, nI_min, isR_nI, n_1000000, n_2, hi_ne, hi_ni, hi_eq, hi_wL, hi_wR, hl_wI, hl_wR, hl_ne, hl_ni, hl_eq, hr_wI, hr_wL, if_true, if_false, if_pos, if_neg, true_and, and_true, not_true_eq_false, not_false_eq_true, x.n, x.h, x.b, x.mo, x.wi, x.ca, x.ro, x.ti, x.il, x.ni, x.ga, x.ri, Option.getD_some]
    have mk : MayOK P (mayOf P a 0) := mayOf_ok
    have hp8 := prH_le P a
    have f0 : Fr CD CF [] σ τ := f.mono rfl
    have f00 := f
    generalize mayOf P a 0 = may at *
    generalize prH P a = pr at *
    have mono : ∀ b c, b ≤ c → lstO P may b pr ≠ none → lstO P may c pr ≠ none := fun b c hbc h => lst_mono (fun _ => sbs_refl _) hbc h
    refine wp_lp (fun y τ' => ∃ lo hh, y = (nI lo, nI hh) ∧ lo ≤ hh ∧ hh ≤ v ∧ lstO P may hh pr ≠ none ∧ (∀ b, b < lo → lstO P may b pr = none) ∧ Fr [27, 28] [42] [] τ τ' ∧ AI τ' 24 8 may ∧ PrC τ' pr ∧ hi τ' 27 0 = 0) (fun y _ => Nat.log2 (2 * (ix y.2 - ix y.1) + 1)) (fun ag y τ' hI hag => ?_) 2000 _ _ ⟨0, v, rfl, Nat.zero_le _, Nat.le_refl _, lst_cap hl2, fun b hb => absurd hb (Nat.not_lt_zero _), Fr.refl, ld.1, ld.2.1, ld.2.2.2⟩ (by rw [ix_nI (by omega)]; exact hlf0 (by omega))
    obtain ⟨lo, hh, rfl, k1, k2, k3, k4, f1, k5, k6, k7⟩ := hI
    have ff : Fr CD CF [] σ τ' := f0.then f1 rfl
    replace x := x0.fr ff rfl
    dsimp only at hag
    rw [ix_nI (by omega), ix_nI (by omega)] at hag
    unfold f_X1_fairest_b19
    simp (disch := first | omega | exact x.s | exact hi_eq | ((repeat (first | exact x.s | apply sw_I | apply sw_L | apply sw_cp | apply sw_18 | apply sw_21 | apply sw_22 | apply sw_m12 | apply sw_m18)); done) | rfl) only [wp_ite, wp_some, w_jn, wp_r0, wp_r1, wp_b2, wp_nn, w_bc, w_nt, wo_0, wg_0, wi_0, w_has, w_isRider, w_isPair, w_isHour, w_in, w_in0, w_in_0_1, w_in_0_10, w_in_0_3, w_in_0_30, w_in_0_60, w_in_0_7, w_in_0_9, w_in_0_999, w_in_1_60, w_in_20_27, w_in_2_40, w_in_48_57, w_whole, w_all, wt_0, wt_1, wt_2, nI_add, nI_1, nI_mul, nI_and, nI_or, nI_sd, nI_sub, l_sub1, l_addm1, l_all, l_1shl, l_or0, l_add0, l_0add, l_m1, l_m1r, l_neg, l_nn, l_eq0, l_le0, l_0lt, l_eq1, l_m1lt, l_m1le, l_m1eq0, l_10, l_00, l_1le, nI_le_l, nI_lt_l, nI_eq_l, bc_nI, nt_nI, bit_nI, b2_ite, b2_ite1, nI_max, nI_min, isR_nI, n_1000000, n_2, hi_ne, hi_ni, hi_eq, hi_wL, hi_wR, hl_wI, hl_wR, hl_ne, hl_ni, hl_eq, hr_wI, hr_wL, if_true, if_false, if_pos, if_neg, true_and, and_true, not_true_eq_false, not_false_eq_true, x.n, x.h, x.b, x.mo, x.wi, x.ca, x.ro, x.ti, x.il, x.ni, x.ga, x.ri, wp_idv, nI_div]
    by_cases hlh : hh ≤ lo
    · rw [if_pos hlh]
      obtain rfl : lo = hh := by omega
      have x1 : CX (wI τ' 0 42 (nI lo)) P a := x0.fr (ff.putI (a := 0) (i := 42) rfl) rfl
      rw [wp_bnd]
      refine wp_mono (c_least x1 (may := may) (pr := pr) (lim := lo) ⟨k5, k6, hi_eq, k7⟩ mk hp8 (by omega)) (fun y τ'' h => ?_)
      obtain ⟨rfl, f2, ld2⟩ := h
      have ff2 : Fr CD CF [] σ τ'' := (ff.putI (a := 0) (i := 42) rfl).then f2 rfl
      replace x := x0.fr ff2 rfl
      have hfr : frO P may pr = some lo := minO_some.mpr ⟨k3, fun c hc => by
        apply Nat.le_of_not_lt
        intro hlt
        exact hc (k4 c hlt)⟩
      unfold fairR
      rw [hfr]
      simp (disch := first | omega | exact x.s | exact hi_eq | ((repeat (first | exact x.s | apply sw_I | apply sw_L | apply sw_cp | apply sw_18 | apply sw_21 | apply sw_22 | apply sw_m12 | apply sw_m18)); done) | rfl) only [wp_ite, wp_some, w_jn, wp_r0, wp_r1, wp_b2, wp_nn, w_bc, w_nt, wo_0, wg_0, wi_0, w_has, w_isRider, w_isPair, w_isHour, w_in, w_in0, w_in_0_1, w_in_0_10, w_in_0_3, w_in_0_30, w_in_0_60, w_in_0_7, w_in_0_9, w_in_0_999, w_in_1_60, w_in_20_27, w_in_2_40, w_in_48_57, w_whole, w_all, wt_0, wt_1, wt_2, nI_add, nI_1, nI_mul, nI_and, nI_or, nI_sd, nI_sub, l_sub1, l_addm1, l_all, l_1shl, l_or0, l_add0, l_0add, l_m1, l_m1r, l_neg, l_nn, l_eq0, l_le0, l_0lt, l_eq1, l_m1lt, l_m1le, l_m1eq0, l_10, l_00, l_1le, nI_le_l, nI_lt_l, nI_eq_l, bc_nI, nt_nI, bit_nI, b2_ite, b2_ite1, nI_max, nI_min, isR_nI, n_1000000, n_2, hi_ne, hi_ni, hi_eq, hi_wL, hi_wR, hl_wI, hl_wR, hl_ne, hl_ni, hl_eq, hr_wI, hr_wL, if_true, if_false, if_pos, if_neg, true_and, and_true, not_true_eq_false, not_false_eq_true, x.n, x.h, x.b, x.mo, x.wi, x.ca, x.ro, x.ti, x.il, x.ni, x.ga, x.ri]
      exact ⟨rfl, (by repeat (first | exact ff2 | exact (ff2).mono rfl | refine Fr.putI ?_ rfl | refine Fr.putL ?_ rfl | refine Fr.putR ?_ rfl)), ⟨by rw [hi_ni (by decide), hi_wL, hi_ni (by decide), hi_eq]; rfl, ld2.2.2.2⟩, row1⟩
    · rw [if_neg hlh]
      have hm1 : (lo + hh) / 2 < hh := by omega
      have hm2 : lo ≤ (lo + hh) / 2 := by omega
      generalize hmid : (lo + hh) / 2 = mid at *
      have x1 : CX (wI τ' 0 42 (nI mid)) P a := x0.fr (ff.putI (a := 0) (i := 42) rfl) rfl
      rw [wp_bnd]
      refine ⟨by decide, wp_mono (c_least x1 (may := may) (pr := pr) (lim := mid) ⟨k5, k6, hi_eq, k7⟩ mk hp8 (by omega)) (fun y τ'' h => ?_)⟩
      obtain ⟨rfl, f2, ld2⟩ := h
      have f3 : Fr [27, 28] [42] [] τ τ'' := (f1.putI (a := 0) (i := 42) rfl).then f2 rfl
      replace x := x0.fr (f0.then f3 rfl) rfl
      have l1 := ld2.2.2.1
      cases hl3 : lstO P may mid pr with
      | none =>
        simp (disch := first | omega | exact x.s | exact hi_eq | ((repeat (first | exact x.s | apply sw_I | apply sw_L | apply sw_cp | apply sw_18 | apply sw_21 | apply sw_22 | apply sw_m12 | apply sw_m18)); done) | rfl) only [wp_ite, wp_some, w_jn, wp_r0, wp_r1, wp_b2, wp_nn, w_bc, w_nt, wo_0, wg_0, wi_0, w_has, w_isRider, w_isPair, w_isHour, w_in, w_in0, w_in_0_1, w_in_0_10, w_in_0_3, w_in_0_30, w_in_0_60, w_in_0_7, w_in_0_9, w_in_0_999, w_in_1_60, w_in_20_27, w_in_2_40, w_in_48_57, w_whole, w_all, wt_0, wt_1, wt_2, nI_add, nI_1, nI_mul, nI_and, nI_or, nI_sd, nI_sub, l_sub1, l_addm1, l_all, l_1shl, l_or0, l_add0, l_0add, l_m1, l_m1r, l_neg, l_nn, l_eq0, l_le0, l_0lt, l_eq1, l_m1lt, l_m1le, l_m1eq0, l_10, l_00, l_1le, nI_le_l, nI_lt_l, nI_eq_l, bc_nI, nt_nI, bit_nI, b2_ite, b2_ite1, nI_max, nI_min, isR_nI, n_1000000, n_2, hi_ne, hi_ni, hi_eq, hi_wL, hi_wR, hl_wI, hl_wR, hl_ne, hl_ni, hl_eq, hr_wI, hr_wL, if_true, if_false, if_pos, if_neg, true_and, and_true, not_true_eq_false, not_false_eq_true, x.n, x.h, x.b, x.mo, x.wi, x.ca, x.ro, x.ti, x.il, x.ni, x.ga, x.ri, Option.getD_none, l1]
        refine hag _ _ ⟨mid + 1, hh, rfl, by omega, k2, k3, fun b hb => ?_, f3, ld2.1, ld2.2.1, ld2.2.2.2⟩ ?_
        · apply Classical.byContradiction
          intro hc
          exact mono b mid (by omega) hc hl3
        · dsimp only
          rw [ix_nI (by omega), ix_nI (by omega)]
          exact hlf (by omega) (by omega)
      | some w =>
        have w8 := lst_le hp8 hl3
        simp (disch := first | omega | exact x.s | exact hi_eq | ((repeat (first | exact x.s | apply sw_I | apply sw_L | apply sw_cp | apply sw_18 | apply sw_21 | apply sw_22 | apply sw_m12 | apply sw_m18)); done) | rfl) only [wp_ite, wp_some, w_jn, wp_r0, wp_r1, wp_b2, wp_nn, w_bc, w_nt, wo_0, wg_0, wi_0, w_has, w_isRider, w_isPair, w_isHour, w_in, w_in0, w_in_0_1, w_in_0_10, w_in_0_3, w_in_0_30, w_in_0_60, w_in_0_7, w_in_0_9, w_in_0_999, w_in_1_60, w_in_20_27, w_in_2_40, w_in_48_57, w_whole, w_all, wt_0, wt_1, wt_2, nI_add, nI_1, nI_mul, nI_and, nI_or, nI_sd, nI_sub, l_sub1, l_addm1, l_all, l_1shl, l_or0, l_add0, l_0add, l_m1, l_m1r, l_neg, l_nn, l_eq0, l_le0, l_0lt, l_eq1, l_m1lt, l_m1le, l_m1eq0, l_10, l_00, l_1le, nI_le_l, nI_lt_l, nI_eq_l, bc_nI, nt_nI, bit_nI, b2_ite, b2_ite1, nI_max, nI_min, isR_nI, n_1000000, n_2, hi_ne, hi_ni, hi_eq, hi_wL, hi_wR, hl_wI, hl_wR, hl_ne, hl_ni, hl_eq, hr_wI, hr_wL, if_true, if_false, if_pos, if_neg, true_and, and_true, not_true_eq_false, not_false_eq_true, x.n, x.h, x.b, x.mo, x.wi, x.ca, x.ro, x.ti, x.il, x.ni, x.ga, x.ri, Option.getD_some, l1]
        refine hag _ _ ⟨lo, mid, rfl, by omega, by omega, by rw [hl3]; exact (fun e => by cases e), k4, f3, ld2.1, ld2.2.1, ld2.2.2.2⟩ ?_
        dsimp only
        rw [ix_nI (by omega), ix_nI (by omega)]
        exact hlf (by omega) (by omega)
end cques3
