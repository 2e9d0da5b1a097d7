/-! PURE 42: the reference lays out a rota -/
/-- what the reference has laid -/
def LdM (τ : Hp) (P : Pk) (may must : Nat → Nat) (hd : Nat → Nat → Nat) (lim : Nat) : Prop := AI τ 54 P.n may ∧ AI τ 55 P.n must ∧ PrM τ P.n hd ∧ hi τ 37 39 = nI lim
section mline
variable {σ τ : Hp} {P : Pk} {a : HS} {may must : Nat → Nat} {pr hd : Nat → Nat → Nat} {lim v : Nat} {what : Int32} {D F G : List Nat}
theorem LdM.fr (h : LdM σ P may must hd lim) (f : Fr D F G σ τ) (q : (dn D F G 37 39 && !D.contains 54 && !D.contains 55 && !D.contains 58) = true) : LdM τ P may must hd lim := by
  simp only [Bool.and_eq_true, Bool.not_eq_true'] at q
  obtain ⟨⟨⟨q1, q2⟩, q3⟩, q4⟩ := q
  exact ⟨h.1.fr f q2 (by decide) (by decide), h.2.1.fr f q3 (by decide) (by decide), fun r i a1 a2 => (f.i (dn_out q4 (by decide) (by decide))).trans (h.2.2.1 r i a1 a2), (f.i q1).trans h.2.2.2⟩
theorem CostM.fr (h : CostM σ P what pr) (f : Fr [59] [] [] σ τ) : CostM τ P what pr := fun υ g => h υ (f.trans g)
/-- the bound is that of the cost, or beyond all -/
def BdOK (P : Pk) (hd pr : Nat → Nat → Nat) (lim lim' : Nat) : Prop := (∀ r b, r < P.n → sbs b (2 ^ P.hrs - 1) → (prS (hd r) b ≤ lim ↔ prS (pr r) b ≤ lim'))
theorem must_lt (h8 : P.hrs ≤ 8) (hm : MustI P may must) (r : Nat) : must r < 256 := sbs_lt (hm.1 r) (all_lt h8)
theorem solve_eq {lim' : Nat} (mk : MayOK P may) (hm : MustI P may must) (hb : BdOK P hd pr lim lim') : minO (Tw (okM P.most may must lim hd) (fun r b => prS (pr r) b) 0 P.n (2 ^ P.hrs - 1)) = lstO P may lim' pr := by
  unfold lstO
  refine minO_congr fun c => ?_
  rw [Rq_must hm]
  constructor
  · exact Tw.mono _ _ _ (fun r b _ hr' _ h => ⟨⟨⟨h.1, h.2.1, (hb r b (by omega) (sbs_trans h.1 (mk.2 r))).mp h.2.2.2⟩, h.2.2.1⟩, rfl⟩)
  · exact Tw.mono _ _ _ (fun r b _ hr' _ h => ⟨⟨h.1.1, h.1.2.1, h.2, (hb r b (by omega) (sbs_trans h.1.1 (mk.2 r))).mpr h.1.2.2⟩, rfl⟩)
theorem m_least {lim' : Nat} (x : MX σ P a) (ld : LdM σ P may must hd lim) (mk : MayOK P may) (hm : MustI P may must) (hdl : ∀ r h, hd r h ≤ 999) (hpl : ∀ r h, pr r h ≤ 999) (hlim : lim ≤ 1000000000) (hb : BdOK P hd pr lim lim') (hc : CostM σ P what pr) : wp (f_X3_solve (some 37) what σ) (fun v τ => v = nI ((lstO P may lim' pr).getD 1000000000) ∧ Fr [59] [] [] σ τ) := by
  refine wp_mono (m_solve x.y ld.1 mk.2 ld.2.1 (must_lt x.h8 hm) ld.2.2.1 hdl hpl ld.2.2.2 hlim hc) (fun v τ h => ?_)
  rw [solve_eq mk hm hb] at h
  exact ⟨h.1, h.2.1⟩
theorem m_fix (x : MX σ P a) {h r : Nat} (hh : h < 8) (hr' : r < P.n) (hm : AI σ 54 P.n may) (hu : AI σ 55 P.n must) : wp (f_X3_fix (some 37) (nI h) (nI r) σ) (fun _ τ => Fr [54, 55] [] [] σ τ ∧ AI τ 54 P.n (fixM may h r) ∧ AI τ 55 P.n (up1 must r (must r ||| 2 ^ h))) := by
  have n8 := x.n8
  have x0 := x
  unfold f_X3_fix
  refine wp_up P.n (fun i y τ => y = nI i ∧ Fr [54] [] [] σ τ ∧ (∀ o, o < i → hi τ 54 o = nI (fixM may h r o)) ∧ ∀ o, i ≤ o → o < P.n → hi τ 54 o = nI (may o)) (fun ag i y τ hi' hJ hag => ?_) (fun ag y τ hJ => ?_) (by omega) ⟨rfl, Fr.refl, fun o ho => absurd ho (Nat.not_lt_zero _), fun o _ ho => hm o ho⟩
  · obtain ⟨rfl, f, h1, h3⟩ := hJ
    replace x := x0.fr f rfl
    have h2 : hi τ 54 i = nI (may i) := h3 i (Nat.le_refl _) hi'
    unfold f_X3_fix_b2
    simp (disch := first | omega | exact x.s | exact hi_eq | ((repeat (first | exact x.s | apply sw_I | apply sw_L | apply sw_cp | apply sw_18 | apply sw_21 | apply sw_22 | apply sw_m12 | apply sw_m18)); done) | rfl) only [wp_ite, wp_some, w_jn, wp_r0, wp_r1, wp_b2, wp_nn, w_bc, w_nt, wo_37, wg_37, wi_37, wr_37_32, wl_54, ws_54, w_has3, w_isMan, w_areTwo, w_isHour3, w_in3, w_night, wtM_0, wtM_1, wtM_2, nI_add, nI_1, nI_mul, nI_and, nI_or, nI_sd, nI_sub, l_sub1, l_addm1, l_all, l_1shl, l_or0, l_add0, l_0add, l_m1, l_m1r, l_neg, l_nn, l_eq0, l_le0, l_0lt, l_eq1, l_m1lt, l_m1le, l_m1eq0, l_10, l_00, l_1le, nI_le_l, nI_lt_l, nI_eq_l, bc_nI, nt_nI, bit_nI, b2_ite, b2_ite1, nI_max, nI_min, isR_nI, n_100, n_2, n_3, n_32, hi_ne, hi_ni, hi_eq, hi_wL, hi_wR, hl_wI, hl_wR, hl_ne, hl_ni, hl_eq, hr_wI, hr_wL, if_true, if_false, if_pos, if_neg, true_and, and_true, not_true_eq_false, not_false_eq_true, x.n, x.h, x.b, x.mo, x.wi, x.ca, x.ro, x.ti, x.il, x.ni, x.ga, x.ri, h2]
    split
    · rename_i e
      exact hag _ _ ⟨rfl, f, fun k hk' => by
        by_cases ek : k = i
        · rw [ek, h2]; unfold fixM; rw [if_pos e]
        · exact h1 k (by omega), fun k hk' hk2 => h3 k (by omega) hk2⟩
    · rename_i e
      exact hag _ _ ⟨rfl, f.putI rfl, fun k hk' => by
        by_cases ek : k = i
        · rw [ek, hi_eq]; unfold fixM; rw [if_neg e]
        · rw [hi_ni ek]; exact h1 k (by omega), fun k hk' hk2 => by
        rw [hi_ni (by omega)]; exact h3 k (by omega) hk2⟩
  · obtain ⟨rfl, f, h1, h3⟩ := hJ
    replace x := x0.fr f rfl
    have h2 : hi τ 55 r = nI (must r) := (f.i rfl).trans (hu r hr')
    unfold f_X3_fix_b2
    simp (disch := first | omega | exact x.s | exact hi_eq | ((repeat (first | exact x.s | apply sw_I | apply sw_L | apply sw_cp | apply sw_18 | apply sw_21 | apply sw_22 | apply sw_m12 | apply sw_m18)); done) | rfl) only [wp_ite, wp_some, w_jn, wp_r0, wp_r1, wp_b2, wp_nn, w_bc, w_nt, wo_37, wg_37, wi_37, wr_37_32, wr_37_33, wl_54, ws_54, wl_55, ws_55, w_has3, w_isMan, w_areTwo, w_isHour3, w_in3, w_night, wtM_0, wtM_1, wtM_2, nI_add, nI_1, nI_mul, nI_and, nI_or, nI_sd, nI_sub, l_sub1, l_addm1, l_all, l_1shl, l_or0, l_add0, l_0add, l_m1, l_m1r, l_neg, l_nn, l_eq0, l_le0, l_0lt, l_eq1, l_m1lt, l_m1le, l_m1eq0, l_10, l_00, l_1le, nI_le_l, nI_lt_l, nI_eq_l, bc_nI, nt_nI, bit_nI, b2_ite, b2_ite1, nI_max, nI_min, isR_nI, n_100, n_2, n_3, n_32, hi_ne, hi_ni, hi_eq, hi_wL, hi_wR, hl_wI, hl_wR, hl_ne, hl_ni, hl_eq, hr_wI, hr_wL, if_true, if_false, if_pos, if_neg, true_and, and_true, not_true_eq_false, not_false_eq_true, x.n, x.h, x.b, x.mo, x.wi, x.ca, x.ro, x.ti, x.il, x.ni, x.ga, x.ri, h2]
    exact ⟨(f.mono rfl).putI rfl, fun k hk' => by rw [hi_ne (by decide)]; exact h1 k hk', ((hu.fr f rfl (by decide) (by decide)).put r _)⟩
theorem m_keepMay (x : MX σ P a) : wp (f_X3_keepMay (some 37) σ) (fun _ τ => Fr [56, 57] [] [] σ τ ∧ ∀ k, k < 8 → hi τ 56 k = hi σ 54 k ∧ hi τ 57 k = hi σ 55 k) := by
  have x0 := x
  unfold f_X3_keepMay
  refine wp_up 8 (fun i y τ => y = nI i ∧ Fr [56, 57] [] [] σ τ ∧ ∀ k, k < i → hi τ 56 k = hi σ 54 k ∧ hi τ 57 k = hi σ 55 k) (fun ag i y τ hi' hJ hag => ?_) (fun ag y τ hJ => ?_) (by decide) ⟨rfl, Fr.refl, fun o ho => absurd ho (Nat.not_lt_zero _)⟩
  · obtain ⟨rfl, f, h1⟩ := hJ
    replace x := x0.fr f rfl
    have e1 : hi τ 54 i = hi σ 54 i := f.i rfl
    have e2 : hi τ 55 i = hi σ 55 i := f.i rfl
    unfold f_X3_keepMay_b2
    simp (disch := first | omega | exact x.s | exact hi_eq | ((repeat (first | exact x.s | apply sw_I | apply sw_L | apply sw_cp | apply sw_18 | apply sw_21 | apply sw_22 | apply sw_m12 | apply sw_m18)); done) | rfl) only [wp_ite, wp_some, w_jn, wp_r0, wp_r1, wp_b2, wp_nn, w_bc, w_nt, wo_37, wg_37, wi_37, wr_37_32, wr_37_33, wr_37_34, wr_37_35, wl_54, ws_54, wl_55, ws_55, wl_56, ws_56, wl_57, ws_57, w_has3, w_isMan, w_areTwo, w_isHour3, w_in3, w_night, wtM_0, wtM_1, wtM_2, nI_add, nI_1, nI_mul, nI_and, nI_or, nI_sd, nI_sub, l_sub1, l_addm1, l_all, l_1shl, l_or0, l_add0, l_0add, l_m1, l_m1r, l_neg, l_nn, l_eq0, l_le0, l_0lt, l_eq1, l_m1lt, l_m1le, l_m1eq0, l_10, l_00, l_1le, nI_le_l, nI_lt_l, nI_eq_l, bc_nI, nt_nI, bit_nI, b2_ite, b2_ite1, nI_max, nI_min, isR_nI, n_100, n_2, n_32, n_8, hi_ne, hi_ni, hi_eq, hi_wL, hi_wR, hl_wI, hl_wR, hl_ne, hl_ni, hl_eq, hr_wI, hr_wL, if_true, if_false, if_pos, if_neg, true_and, and_true, not_true_eq_false, not_false_eq_true, x.n, x.h, x.b, x.mo, x.wi, x.ca, x.ro, x.ti, x.il, x.ni, x.ga, x.ri, e1, e2]
    refine hag _ _ ⟨rfl, (f.putI rfl).putI rfl, fun k hk' => ?_⟩
    by_cases e : k = i
    · rw [e]
      exact ⟨by rw [hi_ne (by decide), hi_eq], by rw [hi_eq]⟩
    · rw [hi_ne (by decide), hi_ni e, hi_ni e, hi_ne (by decide)]
      exact h1 k (by omega)
  · obtain ⟨rfl, f, h1⟩ := hJ
    unfold f_X3_keepMay_b2
    simp (disch := first | omega | exact x0.s | exact hi_eq | ((repeat (first | exact x0.s | apply sw_I | apply sw_L | apply sw_cp | apply sw_18 | apply sw_21 | apply sw_22 | apply sw_m12 | apply sw_m18)); done) | rfl) only [wp_ite, wp_some, w_jn, wp_r0, wp_r1, wp_b2, wp_nn, w_bc, w_nt, wo_37, wg_37, wi_37, wr_37_32, wr_37_33, wr_37_34, wr_37_35, wl_54, ws_54, wl_55, ws_55, wl_56, ws_56, wl_57, ws_57, w_has3, w_isMan, w_areTwo, w_isHour3, w_in3, w_night, wtM_0, wtM_1, wtM_2, nI_add, nI_1, nI_mul, nI_and, nI_or, nI_sd, nI_sub, l_sub1, l_addm1, l_all, l_1shl, l_or0, l_add0, l_0add, l_m1, l_m1r, l_neg, l_nn, l_eq0, l_le0, l_0lt, l_eq1, l_m1lt, l_m1le, l_m1eq0, l_10, l_00, l_1le, nI_le_l, nI_lt_l, nI_eq_l, bc_nI, nt_nI, bit_nI, b2_ite, b2_ite1, nI_max, nI_min, isR_nI, n_100, n_2, n_32, n_8, hi_ne, hi_ni, hi_eq, hi_wL, hi_wR, hl_wI, hl_wR, hl_ne, hl_ni, hl_eq, hr_wI, hr_wL, if_true, if_false, if_pos, if_neg, true_and, and_true, not_true_eq_false, not_false_eq_true, x0.n, x0.h, x0.b, x0.mo, x0.wi, x0.ca, x0.ro, x0.ti, x0.il, x0.ni, x0.ga, x0.ri]
    exact ⟨f, h1⟩
theorem m_bringMay (x : MX σ P a) : wp (f_X3_bringMay (some 37) σ) (fun _ τ => Fr [54, 55] [] [] σ τ ∧ ∀ k, k < 8 → hi τ 54 k = hi σ 56 k ∧ hi τ 55 k = hi σ 57 k) := by
  have x0 := x
  unfold f_X3_bringMay
  refine wp_up 8 (fun i y τ => y = nI i ∧ Fr [54, 55] [] [] σ τ ∧ ∀ k, k < i → hi τ 54 k = hi σ 56 k ∧ hi τ 55 k = hi σ 57 k) (fun ag i y τ hi' hJ hag => ?_) (fun ag y τ hJ => ?_) (by decide) ⟨rfl, Fr.refl, fun o ho => absurd ho (Nat.not_lt_zero _)⟩
  · obtain ⟨rfl, f, h1⟩ := hJ
    replace x := x0.fr f rfl
    have e1 : hi τ 56 i = hi σ 56 i := f.i rfl
    have e2 : hi τ 57 i = hi σ 57 i := f.i rfl
    unfold f_X3_bringMay_b2
    simp (disch := first | omega | exact x.s | exact hi_eq | ((repeat (first | exact x.s | apply sw_I | apply sw_L | apply sw_cp | apply sw_18 | apply sw_21 | apply sw_22 | apply sw_m12 | apply sw_m18)); done) | rfl) only [wp_ite, wp_some, w_jn, wp_r0, wp_r1, wp_b2, wp_nn, w_bc, w_nt, wo_37, wg_37, wi_37, wr_37_32, wr_37_33, wr_37_34, wr_37_35, wl_54, ws_54, wl_55, ws_55, wl_56, ws_56, wl_57, ws_57, w_has3, w_isMan, w_areTwo, w_isHour3, w_in3, w_night, wtM_0, wtM_1, wtM_2, nI_add, nI_1, nI_mul, nI_and, nI_or, nI_sd, nI_sub, l_sub1, l_addm1, l_all, l_1shl, l_or0, l_add0, l_0add, l_m1, l_m1r, l_neg, l_nn, l_eq0, l_le0, l_0lt, l_eq1, l_m1lt, l_m1le, l_m1eq0, l_10, l_00, l_1le, nI_le_l, nI_lt_l, nI_eq_l, bc_nI, nt_nI, bit_nI, b2_ite, b2_ite1, nI_max, nI_min, isR_nI, n_100, n_2, n_32, n_8, hi_ne, hi_ni, hi_eq, hi_wL, hi_wR, hl_wI, hl_wR, hl_ne, hl_ni, hl_eq, hr_wI, hr_wL, if_true, if_false, if_pos, if_neg, true_and, and_true, not_true_eq_false, not_false_eq_true, x.n, x.h, x.b, x.mo, x.wi, x.ca, x.ro, x.ti, x.il, x.ni, x.ga, x.ri, e1, e2]
    refine hag _ _ ⟨rfl, (f.putI rfl).putI rfl, fun k hk' => ?_⟩
    by_cases e : k = i
    · rw [e]
      exact ⟨by rw [hi_ne (by decide), hi_eq], by rw [hi_eq]⟩
    · rw [hi_ne (by decide), hi_ni e, hi_ni e, hi_ne (by decide)]
      exact h1 k (by omega)
  · obtain ⟨rfl, f, h1⟩ := hJ
    unfold f_X3_bringMay_b2
    simp (disch := first | omega | exact x0.s | exact hi_eq | ((repeat (first | exact x0.s | apply sw_I | apply sw_L | apply sw_cp | apply sw_18 | apply sw_21 | apply sw_22 | apply sw_m12 | apply sw_m18)); done) | rfl) only [wp_ite, wp_some, w_jn, wp_r0, wp_r1, wp_b2, wp_nn, w_bc, w_nt, wo_37, wg_37, wi_37, wr_37_32, wr_37_33, wr_37_34, wr_37_35, wl_54, ws_54, wl_55, ws_55, wl_56, ws_56, wl_57, ws_57, w_has3, w_isMan, w_areTwo, w_isHour3, w_in3, w_night, wtM_0, wtM_1, wtM_2, nI_add, nI_1, nI_mul, nI_and, nI_or, nI_sd, nI_sub, l_sub1, l_addm1, l_all, l_1shl, l_or0, l_add0, l_0add, l_m1, l_m1r, l_neg, l_nn, l_eq0, l_le0, l_0lt, l_eq1, l_m1lt, l_m1le, l_m1eq0, l_10, l_00, l_1le, nI_le_l, nI_lt_l, nI_eq_l, bc_nI, nt_nI, bit_nI, b2_ite, b2_ite1, nI_max, nI_min, isR_nI, n_100, n_2, n_32, n_8, hi_ne, hi_ni, hi_eq, hi_wL, hi_wR, hl_wI, hl_wR, hl_ne, hl_ni, hl_eq, hr_wI, hr_wL, if_true, if_false, if_pos, if_neg, true_and, and_true, not_true_eq_false, not_false_eq_true, x0.n, x0.h, x0.b, x0.mo, x0.wi, x0.ca, x0.ro, x0.ti, x0.il, x0.ni, x0.ga, x0.ri]
    exact ⟨f, h1⟩
theorem m_areRight (x : MX σ P a) {r : Nat} (hr' : r < P.n) (hm : AI σ 54 P.n may) (hu : AI σ 55 P.n must) (hul : ∀ r, must r < 256) : f_X3_areRight (some 37) (nI r) σ = some (b2 (sbs (must r) (may r)), σ) := by
  have n8 := x.n8
  have h1 := hm r hr'
  have h2 := hu r hr'
  have h3 := sd_lt (may r) (hul r)
  refine wp_eq ?_
  unfold f_X3_areRight
  simp (disch := first | omega | exact x.s | exact hi_eq | ((repeat (first | exact x.s | apply sw_I | apply sw_L | apply sw_cp | apply sw_18 | apply sw_21 | apply sw_22 | apply sw_m12 | apply sw_m18)); done) | rfl) only [wp_ite, wp_some, w_jn, wp_r0, wp_r1, wp_b2, wp_nn, w_bc, w_nt, wo_37, wg_37, wi_37, wr_37_32, wr_37_33, wl_54, ws_54, wl_55, ws_55, w_has3, w_isMan, w_areTwo, w_isHour3, w_in3, w_night, wtM_0, wtM_1, wtM_2, nI_add, nI_1, nI_mul, nI_and, nI_or, nI_sd, nI_sub, l_sub1, l_addm1, l_all, l_1shl, l_or0, l_add0, l_0add, l_m1, l_m1r, l_neg, l_nn, l_eq0, l_le0, l_0lt, l_eq1, l_m1lt, l_m1le, l_m1eq0, l_10, l_00, l_1le, nI_le_l, nI_lt_l, nI_eq_l, bc_nI, nt_nI, bit_nI, b2_ite, b2_ite1, nI_max, nI_min, isR_nI, n_100, n_2, n_32, hi_ne, hi_ni, hi_eq, hi_wL, hi_wR, hl_wI, hl_wR, hl_ne, hl_ni, hl_eq, hr_wI, hr_wL, if_true, if_false, if_pos, if_neg, true_and, and_true, not_true_eq_false, not_false_eq_true, x.n, x.h, x.b, x.mo, x.wi, x.ca, x.ro, x.ti, x.il, x.ni, x.ga, x.ri, h1, h2]
  by_cases e : sd (must r) (may r) = 0
  · rw [if_pos e]; unfold b2; rw [if_pos (sd_eq0.mp e)]
  · rw [if_neg e]; unfold b2; rw [if_neg (fun z => e (sd_eq0.mpr z))]
end mline
