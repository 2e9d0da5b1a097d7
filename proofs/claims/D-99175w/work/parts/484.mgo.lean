/-! PURE 62: the reference: how it goes -/
/-- only the numbers of one cell have changed -/
def Cpt (σ τ : Hp) (t : Nat) : Prop := hn τ = hn σ ∧ hu τ = hu σ ∧ hk τ = hk σ ∧ hr τ = hr σ ∧ hl τ = hl σ ∧ ∀ c, c ≠ t → hi τ c = hi σ c
section mlays
variable {σ τ : Hp} {P : Pk} {a : HS} {s t k : Nat} {D F G : List Nat}
theorem Cpt.fr (h : Cpt σ τ t) (hd : D.contains t = true) : Fr D F G σ τ := by
  obtain ⟨h1, h2, h3, h4, h5, h6⟩ := h
  refine ⟨h1, h2, h3, fun c i => ⟨fun q => ?_, fun _ => by rw [h4]⟩⟩
  rw [h5]
  refine ⟨?_, rfl⟩
  by_cases e : c = t
  · subst e; rw [dn_in hd] at q; cases q
  · rw [h6 c e]
theorem m_lay (hs : Ok σ s 100) (ls : (hk σ s).2 = 27) (ht : Ok σ t 100) (lt : k + 27 ≤ (hk σ t).2) (hk' : k < 1000) (hst : s ≠ t) : wp (f_X3_lay (some s) (some t) (nI k) σ) (fun _ τ => Cpt σ τ t ∧ (∀ i, i < k ∨ k + 27 ≤ i → hi τ t i = hi σ t i) ∧ ∀ i, i < 27 → hi τ t (k + i) = hi σ s i) := by
  unfold f_X3_lay
  refine wp_up 27 (fun i y τ => y = nI i ∧ Cpt σ τ t ∧ (∀ j, j < k ∨ k + i ≤ j → hi τ t j = hi σ t j) ∧ ∀ j, j < i → hi τ t (k + j) = hi σ s j) (fun ag i y τ hi' hJ hag => ?_) (fun ag y τ hJ => ?_) (by decide) ⟨rfl, ⟨rfl, rfl, rfl, rfl, rfl, fun _ _ => rfl⟩, fun _ _ => rfl, fun j hj => absurd hj (Nat.not_lt_zero _)⟩
  · obtain ⟨rfl, ⟨h1, h2, h3, h4, h5, h6⟩, h7, h8⟩ := hJ
    have o1 : Ok τ s 100 := ⟨by rw [h1]; exact hs.1, by rw [h3]; exact hs.2⟩
    have o2 : Ok τ t 100 := ⟨by rw [h1]; exact ht.1, by rw [h3]; exact ht.2⟩
    have l1 : (hk τ s).2 = 27 := by rw [h3]; exact ls
    have l2 : k + 27 ≤ (hk τ t).2 := by rw [h3]; exact lt
    unfold f_X3_lay_b2
    rw [n_27, if_neg (by rw [nI_le_l (by decide) (by omega)]; omega), wp_lI, l1, inb_nI (by omega), ix_nI (by omega), nI_add]
    refine ⟨⟨o1, hi'⟩, ?_⟩
    rw [wp_sI, inb_nI (by omega), ix_nI (by omega), nI_1, h6 s hst]
    refine ⟨⟨o2, by omega⟩, hag _ _ ⟨rfl, ⟨h1, h2, h3, h4, h5, fun c hc => by rw [hi_ne hc]; exact h6 c hc⟩, fun j hj => by rw [hi_ni (by omega)]; exact h7 j (by omega), fun j hj => ?_⟩⟩
    by_cases e : j = i
    · rw [e, hi_eq]
    · rw [hi_ni (by omega)]; exact h8 j (by omega)
  · obtain ⟨rfl, h1, h7, h8⟩ := hJ
    unfold f_X3_lay_b2
    rw [n_27, if_pos (by rw [nI_le_l (by decide) (by decide)]; exact Nat.le_refl _), wp_some]
    exact ⟨h1, h7, h8⟩
theorem MH.copy {b : HS} (h : ∀ i, i < 27 → hi τ t (k + i) = hi σ s i) (ha : MH σ s 0 b) : MH τ t k b := by
  obtain ⟨h1, h2, h3, h4, h5, h6⟩ := ha
  rw [Nat.zero_add] at h4 h5 h6
  refine ⟨fun i hi' => ?_, fun i hi' => ?_, fun i hi' => ?_, (h 24 (by decide)).trans h4, (h 25 (by decide)).trans h5, (h 26 (by decide)).trans h6⟩
  · have := h1 i hi'; rw [Nat.zero_add] at this; rw [h i (by omega)]; exact this
  · have := h2 i hi'; rw [Nat.zero_add] at this; rw [show k + 8 + i = k + (8 + i) by omega, h (8 + i) (by omega)]; exact this
  · have := h3 i hi'; rw [Nat.zero_add] at this; rw [show k + 16 + i = k + (16 + i) by omega, h (16 + i) (by omega)]; exact this
theorem m_lay50 (x : MX σ P a) : wp (f_X3_lay (some 38) (some 50) 0 σ) (fun _ τ => Fr [50] [] [] σ τ ∧ MH τ 50 0 a) := by
  refine wp_mono (m_lay (k := 0) (so_38 x.s) (sl_38 x.s) (so_50 x.s) (by rw [sl_50 x.s]; decide) (by decide) (by decide)) (fun _ τ h => ?_)
  exact ⟨h.1.fr rfl, MH.copy h.2.2 x.2.2.2.1⟩
theorem m_goNights {n : Nat} (x : MY σ P) (ha : MH σ 50 0 a) (hok : HOK P.n a) (hn' : n ≤ 60) : wp (f_X3_goNights (some 37) (some 50) (nI n) σ) (fun _ τ => Fr [47, 50, 51, 52] [] GG2 σ τ ∧ MH τ 50 0 (goI P a n)) := by
  have x0 := x
  unfold f_X3_goNights
  refine wp_up n (fun i y τ => y = nI i ∧ Fr [47, 50, 51, 52] [] GG2 σ τ ∧ MH τ 50 0 (goI P a i)) (fun ag i y τ hi' hJ hag => ?_) (fun ag y τ hJ => ?_) (by omega) ⟨rfl, Fr.refl, ha⟩
  · obtain ⟨rfl, f, h1⟩ := hJ
    have x := x0.fr f rfl
    unfold f_X3_goNights_b2
    simp (disch := first | omega | exact x.s | exact hi_eq | ((repeat (first | exact x.s | apply sw_I | apply sw_L | apply sw_cp | apply sw_18 | apply sw_21 | apply sw_22 | apply sw_m12 | apply sw_m18)); done) | rfl) only [wp_ite, wp_some, y_jn, wp_r0, wp_r1, wp_b2, y_nn, w_bc, w_nt, wo_37, wg_37, wi_37, w_has3, w_isMan, w_areTwo, w_isHour3, w_in3, w_night, wtM_0, wtM_1, wtM_2, nI_add, nI_1, nI_mul, nI_and, nI_or, nI_sd, nI_sub, l_sub1, l_addm1, l_all, l_1shl, l_or0, l_add0, l_0add, l_m1, l_m1r, l_neg, l_nn, l_eq0, l_le0, l_0lt, l_eq1, l_m1lt, l_m1le, l_m1eq0, l_10, l_00, l_1le, nI_le_l, nI_lt_l, nI_eq_l, bc_nI, nt_nI, bit_nI, b2_ite, b2_ite1, nI_max, nI_min, isR_nI, n_2, hi_ne, hi_ni, hi_eq, y_iL, y_iR, y_lI, y_lR, hl_ne, hl_ni, hl_eq, y_rI, y_rL, if_true, if_false, if_pos, if_neg, true_and, and_true, not_true_eq_false, not_false_eq_true, x.n, x.h, x.b, x.mo, x.wi, x.ca]
    rw [wp_bnd]
    refine wp_mono (m_goNight_50 x h1 (goI_ok hok i)) (fun _ τ' h => ?_)
    exact hag _ _ ⟨rfl, f.then h.1 rfl, h.2.1⟩
  · obtain ⟨rfl, f, h1⟩ := hJ
    unfold f_X3_goNights_b2
    simp (disch := first | omega | exact x0.s | exact hi_eq | ((repeat (first | exact x0.s | apply sw_I | apply sw_L | apply sw_cp | apply sw_18 | apply sw_21 | apply sw_22 | apply sw_m12 | apply sw_m18)); done) | rfl) only [wp_ite, wp_some, y_jn, wp_r0, wp_r1, wp_b2, y_nn, w_bc, w_nt, wo_37, wg_37, wi_37, w_has3, w_isMan, w_areTwo, w_isHour3, w_in3, w_night, wtM_0, wtM_1, wtM_2, nI_add, nI_1, nI_mul, nI_and, nI_or, nI_sd, nI_sub, l_sub1, l_addm1, l_all, l_1shl, l_or0, l_add0, l_0add, l_m1, l_m1r, l_neg, l_nn, l_eq0, l_le0, l_0lt, l_eq1, l_m1lt, l_m1le, l_m1eq0, l_10, l_00, l_1le, nI_le_l, nI_lt_l, nI_eq_l, bc_nI, nt_nI, bit_nI, b2_ite, b2_ite1, nI_max, nI_min, isR_nI, n_2, hi_ne, hi_ni, hi_eq, y_iL, y_iR, y_lI, y_lR, hl_ne, hl_ni, hl_eq, y_rI, y_rL, if_true, if_false, if_pos, if_neg, true_and, and_true, not_true_eq_false, not_false_eq_true, x0.n, x0.h, x0.b, x0.mo, x0.wi, x0.ca]
    exact ⟨f, h1⟩
theorem m_gaps (x : MX σ P a) (s : SM σ) : wp (f_X3_gaps (some 37) σ) (QuM σ (nI (gapN P a)) (some [(nI (pop (gapN P a))).toInt64, (nI (ridN P a)).toInt64])) := by
  have x0 := x
  have g8 := gapN_lt x.pk x.ok
  generalize hQ : QuM σ (nI (gapN P a)) (some [(nI (pop (gapN P a))).toInt64, (nI (ridN P a)).toInt64]) = Q
  have f0 : Fr [] [] [11] σ (wI σ 37 11 0) := Fr.refl.putI rfl
  unfold f_X3_gaps
  simp (disch := first | omega | exact x.s | exact hi_eq | ((repeat (first | exact x.s | apply sw_I | apply sw_L | apply sw_cp | apply sw_18 | apply sw_21 | apply sw_22 | apply sw_m12 | apply sw_m18)); done) | rfl) only [wp_ite, wp_some, y_jn, wp_r0, wp_r1, wp_b2, y_nn, w_bc, w_nt, wo_37, wg_37, wi_37, wr_37_0, wr_37_26, wl_38, ws_38, wl_50, ws_50, w_has3, w_isMan, w_areTwo, w_isHour3, w_in3, w_night, wtM_0, wtM_1, wtM_2, nI_add, nI_1, nI_mul, nI_and, nI_or, nI_sd, nI_sub, l_sub1, l_addm1, l_all, l_1shl, l_or0, l_add0, l_0add, l_m1, l_m1r, l_neg, l_nn, l_eq0, l_le0, l_0lt, l_eq1, l_m1lt, l_m1le, l_m1eq0, l_10, l_00, l_1le, nI_le_l, nI_lt_l, nI_eq_l, bc_nI, nt_nI, bit_nI, b2_ite, b2_ite1, nI_max, nI_min, isR_nI, n_10, n_11, n_2, n_26, n_27, hi_ne, hi_ni, hi_eq, y_iL, y_iR, y_lI, y_lR, hl_ne, hl_ni, hl_eq, y_rI, y_rL, if_true, if_false, if_pos, if_neg, true_and, and_true, not_true_eq_false, not_false_eq_true, x.n, x.h, x.b, x.mo, x.wi, x.ca, x.ro, x.ti, x.il, x.ni, x.ga, x.ri]
  rw [wp_bnd]
  refine wp_mono (m_lay50 (x0.fr f0 rfl)) (fun _ τ h => ?_)
  obtain ⟨f, h1⟩ := h
  have ff : Fr [50] [] [11] σ τ := (f0.mono rfl).then f rfl
  replace x := x0.fr ff rfl
  simp (disch := first | omega | exact x.s | exact hi_eq | ((repeat (first | exact x.s | apply sw_I | apply sw_L | apply sw_cp | apply sw_18 | apply sw_21 | apply sw_22 | apply sw_m12 | apply sw_m18)); done) | rfl) only [wp_ite, wp_some, y_jn, wp_r0, wp_r1, wp_b2, y_nn, w_bc, w_nt, wo_37, wg_37, wi_37, wr_37_0, wr_37_26, wl_38, ws_38, wl_50, ws_50, w_has3, w_isMan, w_areTwo, w_isHour3, w_in3, w_night, wtM_0, wtM_1, wtM_2, nI_add, nI_1, nI_mul, nI_and, nI_or, nI_sd, nI_sub, l_sub1, l_addm1, l_all, l_1shl, l_or0, l_add0, l_0add, l_m1, l_m1r, l_neg, l_nn, l_eq0, l_le0, l_0lt, l_eq1, l_m1lt, l_m1le, l_m1eq0, l_10, l_00, l_1le, nI_le_l, nI_lt_l, nI_eq_l, bc_nI, nt_nI, bit_nI, b2_ite, b2_ite1, nI_max, nI_min, isR_nI, n_10, n_11, n_2, n_26, n_27, hi_ne, hi_ni, hi_eq, y_iL, y_iR, y_lI, y_lR, hl_ne, hl_ni, hl_eq, y_rI, y_rL, if_true, if_false, if_pos, if_neg, true_and, and_true, not_true_eq_false, not_false_eq_true, x.n, x.h, x.b, x.mo, x.wi, x.ca, x.ro, x.ti, x.il, x.ni, x.ga, x.ri]
  rw [wp_bnd]
  refine wp_mono (m_goNight_50 x.y h1 x.ok) (fun _ τ' h => ?_)
  obtain ⟨f', -, h2, h3⟩ := h
  have F2 : Fr MD [] MG σ τ' := (ff.mono rfl).then f' rfl
  have s2 : SM τ' := s.fr (D := [47, 50, 51, 52]) (F := []) (G := [11, 12, 13, 14, 15, 16, 21, 27, 28]) ((ff.mono rfl).then f' rfl) rfl
  replace x := x0.fr F2 rfl
  simp (disch := first | omega | exact x.s | exact hi_eq | ((repeat (first | exact x.s | apply sw_I | apply sw_L | apply sw_cp | apply sw_18 | apply sw_21 | apply sw_22 | apply sw_m12 | apply sw_m18)); done) | rfl) only [wp_ite, wp_some, y_jn, wp_r0, wp_r1, wp_b2, y_nn, w_bc, w_nt, wo_37, wg_37, wi_37, wr_37_0, wr_37_26, wl_38, ws_38, wl_50, ws_50, w_has3, w_isMan, w_areTwo, w_isHour3, w_in3, w_night, wtM_0, wtM_1, wtM_2, nI_add, nI_1, nI_mul, nI_and, nI_or, nI_sd, nI_sub, l_sub1, l_addm1, l_all, l_1shl, l_or0, l_add0, l_0add, l_m1, l_m1r, l_neg, l_nn, l_eq0, l_le0, l_0lt, l_eq1, l_m1lt, l_m1le, l_m1eq0, l_10, l_00, l_1le, nI_le_l, nI_lt_l, nI_eq_l, bc_nI, nt_nI, bit_nI, b2_ite, b2_ite1, nI_max, nI_min, isR_nI, n_10, n_11, n_2, n_26, n_27, hi_ne, hi_ni, hi_eq, y_iL, y_iR, y_lI, y_lR, hl_ne, hl_ni, hl_eq, y_rI, y_rL, if_true, if_false, if_pos, if_neg, true_and, and_true, not_true_eq_false, not_false_eq_true, x.n, x.h, x.b, x.mo, x.wi, x.ca, x.ro, x.ti, x.il, x.ni, x.ga, x.ri, h2, h3]
  rw [← hQ]
  exact ⟨rfl, (by repeat (first | exact F2 | exact (F2).mono rfl | refine Fr.putI ?_ rfl | refine Fr.putL ?_ rfl | refine Fr.putR ?_ rfl)), s2.fr (D := [43]) (F := []) (G := [10]) (by repeat (first | exact Fr.refl | exact (Fr.refl).mono rfl | refine Fr.putI ?_ rfl | refine Fr.putL ?_ rfl | refine Fr.putR ?_ rfl)) rfl, rowM2⟩
theorem m_first (x : MX σ P a) (s : SM σ) {n : Nat} (h1n : 1 ≤ n) (hn' : n ≤ 60) : wp (f_X3_first (some 37) (nI n) σ) (QuM σ (firR P a n).1 (firR P a n).2) := by
  have x0 := x
  have hin : ((1 : Int32) ≤ nI n ∧ nI n ≤ nI 60) := ⟨by rw [l_1le (by omega)]; exact h1n, by rw [nI_le_l (by omega) (by decide)]; exact hn'⟩
  generalize hQ : QuM σ (firR P a n).1 (firR P a n).2 = Q
  have f0 : Fr [] [] [11] σ (wI σ 37 11 0) := Fr.refl.putI rfl
  unfold f_X3_first
  simp (disch := first | omega | exact x.s | exact hi_eq | ((repeat (first | exact x.s | apply sw_I | apply sw_L | apply sw_cp | apply sw_18 | apply sw_21 | apply sw_22 | apply sw_m12 | apply sw_m18)); done) | rfl) only [wp_ite, wp_some, y_jn, wp_r0, wp_r1, wp_b2, y_nn, w_bc, w_nt, wo_37, wg_37, wi_37, wr_37_0, wr_37_26, wl_38, ws_38, wl_50, ws_50, w_has3, w_isMan, w_areTwo, w_isHour3, w_in3, w_night, wtM_0, wtM_1, wtM_2, nI_add, nI_1, nI_mul, nI_and, nI_or, nI_sd, nI_sub, l_sub1, l_addm1, l_all, l_1shl, l_or0, l_add0, l_0add, l_m1, l_m1r, l_neg, l_nn, l_eq0, l_le0, l_0lt, l_eq1, l_m1lt, l_m1le, l_m1eq0, l_10, l_00, l_1le, nI_le_l, nI_lt_l, nI_eq_l, bc_nI, nt_nI, bit_nI, b2_ite, b2_ite1, nI_max, nI_min, isR_nI, n_11, n_2, n_26, n_60, hi_ne, hi_ni, hi_eq, y_iL, y_iR, y_lI, y_lR, hl_ne, hl_ni, hl_eq, y_rI, y_rL, if_true, if_false, if_pos, if_neg, true_and, and_true, not_true_eq_false, not_false_eq_true, x.n, x.h, x.b, x.mo, x.wi, x.ca, x.ro, x.ti, x.il, x.ni, x.ga, x.ri, hin]
  rw [wp_bnd]
  refine wp_mono (m_lay50 (x0.fr f0 rfl)) (fun _ τ h => ?_)
  obtain ⟨f, h1⟩ := h
  have ff : Fr [47, 50, 51, 52] [] [11, 12, 13, 14, 15, 16, 21, 27, 28] σ τ := (f0.mono rfl).then f rfl
  refine wp_up n (fun i y τ' => y = nI i ∧ Fr [47, 50, 51, 52] [] [11, 12, 13, 14, 15, 16, 21, 27, 28] σ τ' ∧ MH τ' 50 0 (goI P a i) ∧ ∀ k, k < i → gapN P (goI P a k) = 0) (fun ag i y τ' hi' hJ hag => ?_) (fun ag y τ' hJ => ?_) (by omega) ⟨rfl, ff, h1, fun k hk' => absurd hk' (Nat.not_lt_zero _)⟩
  · obtain ⟨rfl, f1, k1, k2⟩ := hJ
    replace x := x0.fr f1 rfl
    have g8 := gapN_lt x.pk (goI_ok x.ok i)
    unfold f_X3_first_b31
    simp (disch := first | omega | exact x.s | exact hi_eq | ((repeat (first | exact x.s | apply sw_I | apply sw_L | apply sw_cp | apply sw_18 | apply sw_21 | apply sw_22 | apply sw_m12 | apply sw_m18)); done) | rfl) only [wp_ite, wp_some, y_jn, wp_r0, wp_r1, wp_b2, y_nn, w_bc, w_nt, wo_37, wg_37, wi_37, wr_37_26, wl_50, ws_50, w_has3, w_isMan, w_areTwo, w_isHour3, w_in3, w_night, wtM_0, wtM_1, wtM_2, nI_add, nI_1, nI_mul, nI_and, nI_or, nI_sd, nI_sub, l_sub1, l_addm1, l_all, l_1shl, l_or0, l_add0, l_0add, l_m1, l_m1r, l_neg, l_nn, l_eq0, l_le0, l_0lt, l_eq1, l_m1lt, l_m1le, l_m1eq0, l_10, l_00, l_1le, nI_le_l, nI_lt_l, nI_eq_l, bc_nI, nt_nI, bit_nI, b2_ite, b2_ite1, nI_max, nI_min, isR_nI, n_10, n_2, n_26, n_27, hi_ne, hi_ni, hi_eq, y_iL, y_iR, y_lI, y_lR, hl_ne, hl_ni, hl_eq, y_rI, y_rL, if_true, if_false, if_pos, if_neg, true_and, and_true, not_true_eq_false, not_false_eq_true, x.n, x.h, x.b, x.mo, x.wi, x.ca, x.ro, x.ti, x.il, x.ni, x.ga, x.ri]
    rw [wp_bnd]
    refine wp_mono (m_goNight_50 x.y k1 (goI_ok x.ok i)) (fun _ τ2 h => ?_)
    obtain ⟨f2, k3, k4, -⟩ := h
    have f3 := f1.then f2 rfl
    replace x := x0.fr f3 rfl
    simp (disch := first | omega | exact x.s | exact hi_eq | ((repeat (first | exact x.s | apply sw_I | apply sw_L | apply sw_cp | apply sw_18 | apply sw_21 | apply sw_22 | apply sw_m12 | apply sw_m18)); done) | rfl) only [wp_ite, wp_some, y_jn, wp_r0, wp_r1, wp_b2, y_nn, w_bc, w_nt, wo_37, wg_37, wi_37, wr_37_26, wl_50, ws_50, w_has3, w_isMan, w_areTwo, w_isHour3, w_in3, w_night, wtM_0, wtM_1, wtM_2, nI_add, nI_1, nI_mul, nI_and, nI_or, nI_sd, nI_sub, l_sub1, l_addm1, l_all, l_1shl, l_or0, l_add0, l_0add, l_m1, l_m1r, l_neg, l_nn, l_eq0, l_le0, l_0lt, l_eq1, l_m1lt, l_m1le, l_m1eq0, l_10, l_00, l_1le, nI_le_l, nI_lt_l, nI_eq_l, bc_nI, nt_nI, bit_nI, b2_ite, b2_ite1, nI_max, nI_min, isR_nI, n_10, n_2, n_26, n_27, hi_ne, hi_ni, hi_eq, y_iL, y_iR, y_lI, y_lR, hl_ne, hl_ni, hl_eq, y_rI, y_rL, if_true, if_false, if_pos, if_neg, true_and, and_true, not_true_eq_false, not_false_eq_true, x.n, x.h, x.b, x.mo, x.wi, x.ca, x.ro, x.ti, x.il, x.ni, x.ga, x.ri, k4]
    split
    · rename_i e
      exact hag _ _ ⟨rfl, f3, k3, fun k hk' => by
        by_cases ek : k = i
        · rw [ek]; exact e
        · exact k2 k (by omega)⟩
    · rename_i e
      rw [← hQ]
      unfold firR
      rw [fstN_eq (f := fun k => decide (gapN P (goI P a k) ≠ 0)) hi' (decide_eq_true e) (fun q hq => decide_eq_false (fun z => z (k2 q hq)))]
      exact ⟨rfl, (by repeat (first | exact f3 | exact (f3).mono rfl | refine Fr.putI ?_ rfl | refine Fr.putL ?_ rfl | refine Fr.putR ?_ rfl)), s.fr (D := [43, 47, 50, 51, 52]) (F := []) (G := [10, 11, 12, 13, 14, 15, 16, 21, 27, 28]) (by repeat (first | exact f3 | exact (f3).mono rfl | refine Fr.putI ?_ rfl | refine Fr.putL ?_ rfl | refine Fr.putR ?_ rfl)) rfl, rowM1⟩
  · obtain ⟨rfl, f1, k1, k2⟩ := hJ
    replace x := x0.fr f1 rfl
    unfold f_X3_first_b31
    simp (disch := first | omega | exact x.s | exact hi_eq | ((repeat (first | exact x.s | apply sw_I | apply sw_L | apply sw_cp | apply sw_18 | apply sw_21 | apply sw_22 | apply sw_m12 | apply sw_m18)); done) | rfl) only [wp_ite, wp_some, y_jn, wp_r0, wp_r1, wp_b2, y_nn, w_bc, w_nt, wo_37, wg_37, wi_37, wr_37_26, wl_50, ws_50, w_has3, w_isMan, w_areTwo, w_isHour3, w_in3, w_night, wtM_0, wtM_1, wtM_2, nI_add, nI_1, nI_mul, nI_and, nI_or, nI_sd, nI_sub, l_sub1, l_addm1, l_all, l_1shl, l_or0, l_add0, l_0add, l_m1, l_m1r, l_neg, l_nn, l_eq0, l_le0, l_0lt, l_eq1, l_m1lt, l_m1le, l_m1eq0, l_10, l_00, l_1le, nI_le_l, nI_lt_l, nI_eq_l, bc_nI, nt_nI, bit_nI, b2_ite, b2_ite1, nI_max, nI_min, isR_nI, n_10, n_2, n_26, n_27, hi_ne, hi_ni, hi_eq, y_iL, y_iR, y_lI, y_lR, hl_ne, hl_ni, hl_eq, y_rI, y_rL, if_true, if_false, if_pos, if_neg, true_and, and_true, not_true_eq_false, not_false_eq_true, x.n, x.h, x.b, x.mo, x.wi, x.ca, x.ro, x.ti, x.il, x.ni, x.ga, x.ri]
    rw [← hQ]
    have : fstN (fun k => decide (gapN P (goI P a k) ≠ 0)) n = none := by
      cases hf : fstN (fun k => decide (gapN P (goI P a k) ≠ 0)) n with
      | none => rfl
      | some q =>
        obtain ⟨a1, a2, -⟩ := fstN_some hf
        exact absurd (k2 q a1) (of_decide_eq_true a2)
    unfold firR
    rw [this]
    exact ⟨rfl, f1.mono rfl, s.fr f1 rfl, RwM.fr f1 rfl⟩
theorem m_later (x : MX σ P a) (s : SM σ) {n : Nat} (hn' : n ≤ 60) : wp (f_X3_later (some 37) (nI n) σ) (QuM σ ((goI P a n).gaps - a.gaps) (some [(sumI (goI P a n).tired P.n).toInt64, (wrsI (goI P a n).tired P.n).toInt64])) := by
  have x0 := x
  have n8 := x.n8
  have hin : ((0 : Int32) ≤ nI n ∧ nI n ≤ nI 60) := ⟨by rw [l_nn (by omega)]; trivial, by rw [nI_le_l (by omega) (by decide)]; exact hn'⟩
  generalize hQ : QuM σ ((goI P a n).gaps - a.gaps) (some [(sumI (goI P a n).tired P.n).toInt64, (wrsI (goI P a n).tired P.n).toInt64]) = Q
  have f0 : Fr [] [] [11] σ (wI σ 37 11 0) := Fr.refl.putI rfl
  unfold f_X3_later
  simp (disch := first | omega | exact x.s | exact hi_eq | ((repeat (first | exact x.s | apply sw_I | apply sw_L | apply sw_cp | apply sw_18 | apply sw_21 | apply sw_22 | apply sw_m12 | apply sw_m18)); done) | rfl) only [wp_ite, wp_some, y_jn, wp_r0, wp_r1, wp_b2, y_nn, w_bc, w_nt, wo_37, wg_37, wi_37, wr_37_0, wr_37_26, wl_38, ws_38, wl_50, ws_50, w_has3, w_isMan, w_areTwo, w_isHour3, w_in3, w_night, wtM_0, wtM_1, wtM_2, nI_add, nI_1, nI_mul, nI_and, nI_or, nI_sd, nI_sub, l_sub1, l_addm1, l_all, l_1shl, l_or0, l_add0, l_0add, l_m1, l_m1r, l_neg, l_nn, l_eq0, l_le0, l_0lt, l_eq1, l_m1lt, l_m1le, l_m1eq0, l_10, l_00, l_1le, nI_le_l, nI_lt_l, nI_eq_l, bc_nI, nt_nI, bit_nI, b2_ite, b2_ite1, nI_max, nI_min, isR_nI, n_10, n_100, n_11, n_2, n_25, n_26, n_60, hi_ne, hi_ni, hi_eq, y_iL, y_iR, y_lI, y_lR, hl_ne, hl_ni, hl_eq, y_rI, y_rL, if_true, if_false, if_pos, if_neg, true_and, and_true, not_true_eq_false, not_false_eq_true, x.n, x.h, x.b, x.mo, x.wi, x.ca, x.ro, x.ti, x.il, x.ni, x.ga, x.ri, hin]
  rw [wp_bnd]
  refine wp_mono (m_lay50 (x0.fr f0 rfl)) (fun _ τ h => ?_)
  obtain ⟨f, h1⟩ := h
  have ff : Fr [47, 50, 51, 52] [] [11, 12, 13, 14, 15, 16, 21, 27, 28] σ τ := (f0.mono rfl).then f rfl
  replace x := x0.fr ff rfl
  simp (disch := first | omega | exact x.s | exact hi_eq | ((repeat (first | exact x.s | apply sw_I | apply sw_L | apply sw_cp | apply sw_18 | apply sw_21 | apply sw_22 | apply sw_m12 | apply sw_m18)); done) | rfl) only [wp_ite, wp_some, y_jn, wp_r0, wp_r1, wp_b2, y_nn, w_bc, w_nt, wo_37, wg_37, wi_37, wr_37_0, wr_37_26, wl_38, ws_38, wl_50, ws_50, w_has3, w_isMan, w_areTwo, w_isHour3, w_in3, w_night, wtM_0, wtM_1, wtM_2, nI_add, nI_1, nI_mul, nI_and, nI_or, nI_sd, nI_sub, l_sub1, l_addm1, l_all, l_1shl, l_or0, l_add0, l_0add, l_m1, l_m1r, l_neg, l_nn, l_eq0, l_le0, l_0lt, l_eq1, l_m1lt, l_m1le, l_m1eq0, l_10, l_00, l_1le, nI_le_l, nI_lt_l, nI_eq_l, bc_nI, nt_nI, bit_nI, b2_ite, b2_ite1, nI_max, nI_min, isR_nI, n_10, n_100, n_11, n_2, n_25, n_26, n_60, hi_ne, hi_ni, hi_eq, y_iL, y_iR, y_lI, y_lR, hl_ne, hl_ni, hl_eq, y_rI, y_rL, if_true, if_false, if_pos, if_neg, true_and, and_true, not_true_eq_false, not_false_eq_true, x.n, x.h, x.b, x.mo, x.wi, x.ca, x.ro, x.ti, x.il, x.ni, x.ga, x.ri]
  rw [wp_bnd]
  refine wp_mono (m_goNights x.y h1 x.ok hn') (fun _ τ' h => ?_)
  obtain ⟨f', hd⟩ := h
  replace ff := ff.then f' rfl
  replace x := x0.fr ff rfl
  obtain ⟨-, q9, -, -, q12, -⟩ := hd
  rw [Nat.zero_add] at q12
  have qt : ∀ r, r < 8 → hi τ' 50 (8 + r) = (goI P a n).tired r := fun r hr' => by have := q9 r hr'; rw [Nat.zero_add] at this; exact this
  refine wp_up P.n (fun i y τ2 => y = (wrsI (goI P a n).tired i, nI i) ∧ τ2 = τ') (fun ag i y τ2 hi' hJ hag => ?_) (fun ag y τ2 hJ => ?_) (by omega) ⟨rfl, rfl⟩
  · obtain ⟨rfl, rfl⟩ := hJ
    have h6 := qt i (by omega)
    unfold f_X3_later_b42
    simp (disch := first | omega | exact x.s | exact hi_eq | ((repeat (first | exact x.s | apply sw_I | apply sw_L | apply sw_cp | apply sw_18 | apply sw_21 | apply sw_22 | apply sw_m12 | apply sw_m18)); done) | rfl) only [wp_ite, wp_some, y_jn, wp_r0, wp_r1, wp_b2, y_nn, w_bc, w_nt, wo_37, wg_37, wi_37, wr_37_26, wl_50, ws_50, w_has3, w_isMan, w_areTwo, w_isHour3, w_in3, w_night, wtM_0, wtM_1, wtM_2, nI_add, nI_1, nI_mul, nI_and, nI_or, nI_sd, nI_sub, l_sub1, l_addm1, l_all, l_1shl, l_or0, l_add0, l_0add, l_m1, l_m1r, l_neg, l_nn, l_eq0, l_le0, l_0lt, l_eq1, l_m1lt, l_m1le, l_m1eq0, l_10, l_00, l_1le, nI_le_l, nI_lt_l, nI_eq_l, bc_nI, nt_nI, bit_nI, b2_ite, b2_ite1, nI_max, nI_min, isR_nI, n_100, n_2, n_26, n_3, n_8, hi_ne, hi_ni, hi_eq, y_iL, y_iR, y_lI, y_lR, hl_ne, hl_ni, hl_eq, y_rI, y_rL, if_true, if_false, if_pos, if_neg, true_and, and_true, not_true_eq_false, not_false_eq_true, x.n, x.h, x.b, x.mo, x.wi, x.ca, x.ro, x.ti, x.il, x.ni, x.ga, x.ri, h6]
    exact hag _ _ ⟨rfl, rfl⟩
  · obtain ⟨rfl, rfl⟩ := hJ
    have hsum : ∀ (τ : Hp) (hs : Sh τ), hi τ 37 3 = nI P.n → hi τ 50 = hi τ2 50 → f_X3_tired (some 37) (some 50) τ = some (sumI (goI P a n).tired P.n, τ) := fun τ hs h5 h6 => by
      rw [m_tired hs h5 n8 (so_50 hs) (sl_50 hs)]
      have : ∀ m, m ≤ 8 → sumI (fun r => hi τ 50 (8 + r)) m = sumI (goI P a n).tired m := by
        intro m
        induction m with
        | zero => intro _; rfl
        | succ m ih =>
          intro hm
          show sumI (fun r => hi τ 50 (8 + r)) m + hi τ 50 (8 + m) = sumI _ m + _
          rw [ih (by omega), h6, qt m (by omega)]
      rw [this P.n n8]
    unfold f_X3_later_b42
    simp (disch := first | omega | exact x.s | exact hi_eq | ((repeat (first | exact x.s | apply sw_I | apply sw_L | apply sw_cp | apply sw_18 | apply sw_21 | apply sw_22 | apply sw_m12 | apply sw_m18)); done) | rfl) only [wp_ite, wp_some, y_jn, wp_r0, wp_r1, wp_b2, y_nn, w_bc, w_nt, wo_37, wg_37, wi_37, wr_37_0, wr_37_26, wl_38, ws_38, wl_50, ws_50, w_has3, w_isMan, w_areTwo, w_isHour3, w_in3, w_night, wtM_0, wtM_1, wtM_2, nI_add, nI_1, nI_mul, nI_and, nI_or, nI_sd, nI_sub, l_sub1, l_addm1, l_all, l_1shl, l_or0, l_add0, l_0add, l_m1, l_m1r, l_neg, l_nn, l_eq0, l_le0, l_0lt, l_eq1, l_m1lt, l_m1le, l_m1eq0, l_10, l_00, l_1le, nI_le_l, nI_lt_l, nI_eq_l, bc_nI, nt_nI, bit_nI, b2_ite, b2_ite1, nI_max, nI_min, isR_nI, n_10, n_100, n_11, n_2, n_25, n_26, n_3, n_60, n_8, hi_ne, hi_ni, hi_eq, y_iL, y_iR, y_lI, y_lR, hl_ne, hl_ni, hl_eq, y_rI, y_rL, if_true, if_false, if_pos, if_neg, true_and, and_true, not_true_eq_false, not_false_eq_true, x.n, x.h, x.b, x.mo, x.wi, x.ca, x.ro, x.ti, x.il, x.ni, x.ga, x.ri]
    have f1 : Fr [47, 50, 51, 52] [] [10, 11, 12, 13, 14, 15, 16, 21, 27, 28] σ (wI τ2 37 10 0) := (ff.mono rfl).putI rfl
    rw [hsum _ (x0.fr f1 rfl).s (by rw [hi_ni (by decide)]; exact x.n) (hi_ne (by decide)), e_bnd]
    simp (disch := first | omega | exact x.s | exact hi_eq | ((repeat (first | exact x.s | apply sw_I | apply sw_L | apply sw_cp | apply sw_18 | apply sw_21 | apply sw_22 | apply sw_m12 | apply sw_m18)); done) | rfl) only [wp_ite, wp_some, y_jn, wp_r0, wp_r1, wp_b2, y_nn, w_bc, w_nt, wo_37, wg_37, wi_37, wr_37_0, wr_37_26, wl_38, ws_38, wl_50, ws_50, w_has3, w_isMan, w_areTwo, w_isHour3, w_in3, w_night, wtM_0, wtM_1, wtM_2, nI_add, nI_1, nI_mul, nI_and, nI_or, nI_sd, nI_sub, l_sub1, l_addm1, l_all, l_1shl, l_or0, l_add0, l_0add, l_m1, l_m1r, l_neg, l_nn, l_eq0, l_le0, l_0lt, l_eq1, l_m1lt, l_m1le, l_m1eq0, l_10, l_00, l_1le, nI_le_l, nI_lt_l, nI_eq_l, bc_nI, nt_nI, bit_nI, b2_ite, b2_ite1, nI_max, nI_min, isR_nI, n_10, n_100, n_11, n_2, n_25, n_26, n_3, n_60, n_8, hi_ne, hi_ni, hi_eq, y_iL, y_iR, y_lI, y_lR, hl_ne, hl_ni, hl_eq, y_rI, y_rL, if_true, if_false, if_pos, if_neg, true_and, and_true, not_true_eq_false, not_false_eq_true, x.n, x.h, x.b, x.mo, x.wi, x.ca, x.ro, x.ti, x.il, x.ni, x.ga, x.ri, q12]
    rw [← hQ]
    exact ⟨rfl, (by repeat (first | exact f1 | exact (f1).mono rfl | refine Fr.putI ?_ rfl | refine Fr.putL ?_ rfl | refine Fr.putR ?_ rfl)), s.fr (D := [43, 47, 50, 51, 52]) (F := []) (G := [10, 11, 12, 13, 14, 15, 16, 21, 27, 28]) (by repeat (first | exact f1 | exact (f1).mono rfl | refine Fr.putI ?_ rfl | refine Fr.putL ?_ rfl | refine Fr.putR ?_ rfl)) rfl, rowM2⟩
theorem m_vigil (x : MX σ P a) (s : SM σ) {n : Nat} (hn' : n ≤ 60) : wp (f_X3_vigil (some 37) (nI n) σ) (QuM σ (vigI P a n).1 (some [(vigI P a n).2.1.toInt64])) := by
  have x0 := x
  have hin : ((0 : Int32) ≤ nI n ∧ nI n ≤ nI 60) := ⟨by rw [l_nn (by omega)]; trivial, by rw [nI_le_l (by omega) (by decide)]; exact hn'⟩
  generalize hQ : QuM σ (vigI P a n).1 (some [(vigI P a n).2.1.toInt64]) = Q
  have f0 : Fr [] [] [11] σ (wI σ 37 11 0) := Fr.refl.putI rfl
  unfold f_X3_vigil
  simp (disch := first | omega | exact x.s | exact hi_eq | ((repeat (first | exact x.s | apply sw_I | apply sw_L | apply sw_cp | apply sw_18 | apply sw_21 | apply sw_22 | apply sw_m12 | apply sw_m18)); done) | rfl) only [wp_ite, wp_some, y_jn, wp_r0, wp_r1, wp_b2, y_nn, w_bc, w_nt, wo_37, wg_37, wi_37, wr_37_0, wr_37_26, wl_38, ws_38, wl_50, ws_50, w_has3, w_isMan, w_areTwo, w_isHour3, w_in3, w_night, wtM_0, wtM_1, wtM_2, nI_add, nI_1, nI_mul, nI_and, nI_or, nI_sd, nI_sub, l_sub1, l_addm1, l_all, l_1shl, l_or0, l_add0, l_0add, l_m1, l_m1r, l_neg, l_nn, l_eq0, l_le0, l_0lt, l_eq1, l_m1lt, l_m1le, l_m1eq0, l_10, l_00, l_1le, nI_le_l, nI_lt_l, nI_eq_l, bc_nI, nt_nI, bit_nI, b2_ite, b2_ite1, nI_max, nI_min, isR_nI, n_10, n_11, n_2, n_26, n_60, hi_ne, hi_ni, hi_eq, y_iL, y_iR, y_lI, y_lR, hl_ne, hl_ni, hl_eq, y_rI, y_rL, if_true, if_false, if_pos, if_neg, true_and, and_true, not_true_eq_false, not_false_eq_true, x.n, x.h, x.b, x.mo, x.wi, x.ca, x.ro, x.ti, x.il, x.ni, x.ga, x.ri, hin]
  rw [wp_bnd]
  refine wp_mono (m_lay50 (x0.fr f0 rfl)) (fun _ τ h => ?_)
  obtain ⟨f, h1⟩ := h
  have ff : Fr [47, 50, 51, 52] [] [11, 12, 13, 14, 15, 16, 21, 27, 28] σ τ := (f0.mono rfl).then f rfl
  refine wp_up n (fun i y τ' => y = ((vigI P a i).1, (vigI P a i).2.1, (vigI P a i).2.2, nI i) ∧ Fr [47, 50, 51, 52] [] [11, 12, 13, 14, 15, 16, 21, 27, 28] σ τ' ∧ MH τ' 50 0 (goI P a i)) (fun ag i y τ' hi' hJ hag => ?_) (fun ag y τ' hJ => ?_) (by omega) ⟨rfl, ff, h1⟩
  · obtain ⟨rfl, f1, k1⟩ := hJ
    replace x := x0.fr f1 rfl
    have g8 := gapN_lt x.pk (goI_ok x.ok i)
    have st : vigI P a (i + 1) = (imax (vigI P a i).1 (if gapN P (goI P a i) = 0 then (vigI P a i).2.2 + 1 else 0), (if (if gapN P (goI P a i) = 0 then (vigI P a i).2.2 + 1 else 0) ≤ (vigI P a i).1 then (vigI P a i).2.1 else nI i - (if gapN P (goI P a i) = 0 then (vigI P a i).2.2 + 1 else 0) + 1), (if gapN P (goI P a i) = 0 then (vigI P a i).2.2 + 1 else 0)) := rfl
    rw [st] at hag
    generalize vigI P a i = V at *
    unfold f_X3_vigil_b39
    simp (disch := first | omega | exact x.s | exact hi_eq | ((repeat (first | exact x.s | apply sw_I | apply sw_L | apply sw_cp | apply sw_18 | apply sw_21 | apply sw_22 | apply sw_m12 | apply sw_m18)); done) | rfl) only [wp_ite, wp_some, y_jn, wp_r0, wp_r1, wp_b2, y_nn, w_bc, w_nt, wo_37, wg_37, wi_37, wr_37_26, wl_50, ws_50, w_has3, w_isMan, w_areTwo, w_isHour3, w_in3, w_night, wtM_0, wtM_1, wtM_2, nI_add, nI_1, nI_mul, nI_and, nI_or, nI_sd, nI_sub, l_sub1, l_addm1, l_all, l_1shl, l_or0, l_add0, l_0add, l_m1, l_m1r, l_neg, l_nn, l_eq0, l_le0, l_0lt, l_eq1, l_m1lt, l_m1le, l_m1eq0, l_10, l_00, l_1le, nI_le_l, nI_lt_l, nI_eq_l, bc_nI, nt_nI, bit_nI, b2_ite, b2_ite1, nI_max, nI_min, isR_nI, n_2, n_26, n_27, hi_ne, hi_ni, hi_eq, y_iL, y_iR, y_lI, y_lR, hl_ne, hl_ni, hl_eq, y_rI, y_rL, if_true, if_false, if_pos, if_neg, true_and, and_true, not_true_eq_false, not_false_eq_true, x.n, x.h, x.b, x.mo, x.wi, x.ca, x.ro, x.ti, x.il, x.ni, x.ga, x.ri]
    rw [wp_bnd]
    refine wp_mono (m_goNight_50 x.y k1 (goI_ok x.ok i)) (fun _ τ2 h => ?_)
    obtain ⟨f2, k3, k4, -⟩ := h
    have f3 := f1.then f2 rfl
    replace x := x0.fr f3 rfl
    generalize hg : gapN P (goI P a i) = g at *
    simp (disch := first | omega | exact x.s | exact hi_eq | ((repeat (first | exact x.s | apply sw_I | apply sw_L | apply sw_cp | apply sw_18 | apply sw_21 | apply sw_22 | apply sw_m12 | apply sw_m18)); done) | rfl) only [wp_ite, wp_some, y_jn, wp_r0, wp_r1, wp_b2, y_nn, w_bc, w_nt, wo_37, wg_37, wi_37, wr_37_26, wl_50, ws_50, w_has3, w_isMan, w_areTwo, w_isHour3, w_in3, w_night, wtM_0, wtM_1, wtM_2, nI_add, nI_1, nI_mul, nI_and, nI_or, nI_sd, nI_sub, l_sub1, l_addm1, l_all, l_1shl, l_or0, l_add0, l_0add, l_m1, l_m1r, l_neg, l_nn, l_eq0, l_le0, l_0lt, l_eq1, l_m1lt, l_m1le, l_m1eq0, l_10, l_00, l_1le, nI_le_l, nI_lt_l, nI_eq_l, bc_nI, nt_nI, bit_nI, b2_ite, b2_ite1, nI_max, nI_min, isR_nI, n_2, n_26, n_27, hi_ne, hi_ni, hi_eq, y_iL, y_iR, y_lI, y_lR, hl_ne, hl_ni, hl_eq, y_rI, y_rL, if_true, if_false, if_pos, if_neg, true_and, and_true, not_true_eq_false, not_false_eq_true, x.n, x.h, x.b, x.mo, x.wi, x.ca, x.ro, x.ti, x.il, x.ni, x.ga, x.ri, k4]
    have fin : ∀ w, (∀ y', y' = (imax V.1 w, (if w ≤ V.1 then V.2.1 else nI i - w + 1), w, nI (i + 1)) → wp (ag y' τ2) Q) → if V.1 < w then wp (ag (w, nI i - w + 1, w, nI (i + 1)) τ2) Q else wp (ag (V.1, V.2.1, w, nI (i + 1)) τ2) Q := fun w hw => by
      by_cases e : V.1 < w
      · rw [if_pos e]
        exact hw _ (by unfold imax; rw [if_pos e, if_neg (Int32.not_le.mpr e)])
      · rw [if_neg e]
        exact hw _ (by unfold imax; rw [if_neg e, if_pos (Int32.not_lt.mp e)])
    by_cases e : g = 0
    · simp only [if_pos e] at hag ⊢
      exact fin _ (fun y' hy => hag _ _ ⟨hy, f3, k3⟩)
    · simp only [if_neg e] at hag ⊢
      exact fin _ (fun y' hy => hag _ _ ⟨hy, f3, k3⟩)
  · obtain ⟨rfl, f1, k1⟩ := hJ
    replace x := x0.fr f1 rfl
    unfold f_X3_vigil_b39
    simp (disch := first | omega | exact x.s | exact hi_eq | ((repeat (first | exact x.s | apply sw_I | apply sw_L | apply sw_cp | apply sw_18 | apply sw_21 | apply sw_22 | apply sw_m12 | apply sw_m18)); done) | rfl) only [wp_ite, wp_some, y_jn, wp_r0, wp_r1, wp_b2, y_nn, w_bc, w_nt, wo_37, wg_37, wi_37, wr_37_0, wr_37_26, wl_38, ws_38, wl_50, ws_50, w_has3, w_isMan, w_areTwo, w_isHour3, w_in3, w_night, wtM_0, wtM_1, wtM_2, nI_add, nI_1, nI_mul, nI_and, nI_or, nI_sd, nI_sub, l_sub1, l_addm1, l_all, l_1shl, l_or0, l_add0, l_0add, l_m1, l_m1r, l_neg, l_nn, l_eq0, l_le0, l_0lt, l_eq1, l_m1lt, l_m1le, l_m1eq0, l_10, l_00, l_1le, nI_le_l, nI_lt_l, nI_eq_l, bc_nI, nt_nI, bit_nI, b2_ite, b2_ite1, nI_max, nI_min, isR_nI, n_10, n_11, n_2, n_26, n_27, n_60, hi_ne, hi_ni, hi_eq, y_iL, y_iR, y_lI, y_lR, hl_ne, hl_ni, hl_eq, y_rI, y_rL, if_true, if_false, if_pos, if_neg, true_and, and_true, not_true_eq_false, not_false_eq_true, x.n, x.h, x.b, x.mo, x.wi, x.ca, x.ro, x.ti, x.il, x.ni, x.ga, x.ri]
    rw [← hQ]
    exact ⟨rfl, (by repeat (first | exact f1 | exact (f1).mono rfl | refine Fr.putI ?_ rfl | refine Fr.putL ?_ rfl | refine Fr.putR ?_ rfl)), s.fr (D := [43, 47, 50, 51, 52]) (F := []) (G := [10, 11, 12, 13, 14, 15, 16, 21, 27, 28]) (by repeat (first | exact f1 | exact (f1).mono rfl | refine Fr.putI ?_ rfl | refine Fr.putL ?_ rfl | refine Fr.putR ?_ rfl)) rfl, rowM1⟩
end mlays
