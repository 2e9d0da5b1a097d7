/-! PURE 57: the reference: bare -/
section mbare
variable {σ τ : Hp} {P : Pk} {a : HS}
theorem may_well (r : Nat) : mayOf P a 0 r = mayS P (wellN P a) r := by
  unfold mayOf mayS wellN
  rw [sd_bit, all_bit, Nat.or_zero]
  by_cases h : r < P.n
  · rw [decide_eq_true h, Bool.true_and]
    cases hb : a.ill.testBit r
    · rw [if_pos ⟨h, rfl⟩, if_pos ⟨h, rfl⟩]
    · rw [if_neg (fun z => by cases z.2), if_neg (fun z => by cases z.2)]
  · rw [if_neg (fun z => h z.1), if_neg (fun z => h z.1)]
theorem m_bare (x : MX σ P a) (s : SM σ) : wp (f_X3_bare (some 37) σ) (QuM σ (setR (lackO P (wellN P a))).1 (setR (lackO P (wellN P a))).2) := by
  have n8 := x.n8
  have h8 := x.h8
  have W8 : 2 ^ P.hrs ≤ 256 := pow_le8 h8
  have Wp : 0 < 2 ^ P.hrs := Nat.two_pow_pos _
  have x0 := x
  have e0 : lackO P (wellN P a) = bst fewer (infB P (wellN P a)) (2 ^ P.hrs) := (infB_same W8).symm
  rw [e0]
  unfold f_X3_bare
  simp (disch := first | omega | exact x.s | exact hi_eq | ((repeat (first | exact x.s | apply sw_I | apply sw_L | apply sw_cp | apply sw_18 | apply sw_21 | apply sw_22 | apply sw_m12 | apply sw_m18)); done) | rfl) only [wp_ite, wp_some, w_jn, wp_r0, wp_r1, wp_b2, wp_nn, w_bc, w_nt, wo_37, wg_37, wi_37, w_has3, w_isMan, w_areTwo, w_isHour3, w_in3, w_night, wtM_0, wtM_1, wtM_2, nI_add, nI_1, nI_mul, nI_and, nI_or, nI_sd, nI_sub, l_sub1, l_addm1, l_all, l_1shl, l_or0, l_add0, l_0add, l_m1, l_m1r, l_neg, l_nn, l_eq0, l_le0, l_0lt, l_eq1, l_m1lt, l_m1le, l_m1eq0, l_10, l_00, l_1le, nI_le_l, nI_lt_l, nI_eq_l, bc_nI, nt_nI, bit_nI, b2_ite, b2_ite1, nI_max, nI_min, isR_nI, n_10, n_11, n_2, hi_ne, hi_ni, hi_eq, hi_wL, hi_wR, hl_wI, hl_wR, hl_ne, hl_ni, hl_eq, hr_wI, hr_wL, if_true, if_false, if_pos, if_neg, true_and, and_true, not_true_eq_false, not_false_eq_true, x.n, x.h, x.b, x.mo, x.wi, x.ca, x.ro, x.ti, x.il, x.ni, x.ga, x.ri]
  have f0 : Fr [] [] [11] σ (wI σ 37 11 0) := Fr.refl.putI rfl
  rw [wp_bnd]
  refine wp_mono (m_laid (x0.fr f0 rfl) (s.fr f0 rfl) (but_none n8)) (fun y τ h => ?_)
  obtain ⟨f, ld⟩ := h
  have ff : Fr [47, 54, 55, 58] [] [11, 12, 13, 14, 15, 16, 21] σ τ := (f0.mono rfl).then f rfl
  replace x := x0.fr ff rfl
  simp (disch := first | omega | exact x.s | exact hi_eq | ((repeat (first | exact x.s | apply sw_I | apply sw_L | apply sw_cp | apply sw_18 | apply sw_21 | apply sw_22 | apply sw_m12 | apply sw_m18)); done) | rfl) only [wp_ite, wp_some, w_jn, wp_r0, wp_r1, wp_b2, wp_nn, w_bc, w_nt, wo_37, wg_37, wi_37, w_has3, w_isMan, w_areTwo, w_isHour3, w_in3, w_night, wtM_0, wtM_1, wtM_2, nI_add, nI_1, nI_mul, nI_and, nI_or, nI_sd, nI_sub, l_sub1, l_addm1, l_all, l_1shl, l_or0, l_add0, l_0add, l_m1, l_m1r, l_neg, l_nn, l_eq0, l_le0, l_0lt, l_eq1, l_m1lt, l_m1le, l_m1eq0, l_10, l_00, l_1le, nI_le_l, nI_lt_l, nI_eq_l, bc_nI, nt_nI, bit_nI, b2_ite, b2_ite1, nI_max, nI_min, isR_nI, n_10, n_11, n_2, hi_ne, hi_ni, hi_eq, hi_wL, hi_wR, hl_wI, hl_wR, hl_ne, hl_ni, hl_eq, hr_wI, hr_wL, if_true, if_false, if_pos, if_neg, true_and, and_true, not_true_eq_false, not_false_eq_true, x.n, x.h, x.b, x.mo, x.wi, x.ca, x.ro, x.ti, x.il, x.ni, x.ga, x.ri]
  rw [wp_bnd]
  refine wp_mono (m_solve x.y ld.1 (mayOf_ok (w := 0)).2 ld.2.1 (fun _ => by decide) ld.2.2.1 (hardN_le P a) (fun _ _ => Nat.zero_le _) ld.2.2.2 (Nat.le_refl _) (m_cost2 (P := P))) (fun v τ' h => ?_)
  obtain ⟨-, f', hL⟩ := h
  have ff' : Fr [47, 54, 55, 58, 59] [] [11, 12, 13, 14, 15, 16, 21] σ τ' := (ff.mono rfl).then f' rfl
  have s1 : SM τ' := s.fr ff' rfl
  replace x := x0.fr ff' rfl
  have hI : ∀ S, S < 2 ^ P.hrs → ∃ v, hi τ' 59 S = nI v ∧ v ≤ 1000000000 ∧ (v = 1000000000 ↔ infB P (wellN P a) S = true) := fun S hS => by
    obtain ⟨v, g1, g2⟩ := hL S hS
    rw [Nat.mul_zero, Nat.zero_add] at g1
    refine ⟨v, g1, g2.le, ?_⟩
    rw [g2.inf_iff, infB_iff]
    have hh := lack_hall (P := P) (s := wellN P a) h8 (sbs_all hS)
    have e1 : (∃ c, Tw (okM P.most (mayOf P a 0) (fun _ => 0) 1000000000 (hardN P a)) (fun r b => prS (prZ r) b) 0 P.n S c) ↔ ∃ c, Tw (okC P.most (mayS P (wellN P a)) 1000000 prZ) (fun r b => prS (prZ r) b) 0 P.n S c := by
      constructor
      · rintro ⟨c, h⟩
        exact ⟨c, Tw.mono _ _ _ (fun r b _ _ _ hok => ⟨⟨by rw [← may_well]; exact hok.1, hok.2.1, by rw [show prS (prZ r) b = 0 from prS_zero]; exact Nat.zero_le _⟩, rfl⟩) h⟩
      · rintro ⟨c, h⟩
        exact ⟨c, Tw.mono _ _ _ (fun r b _ _ _ hok => ⟨⟨by rw [may_well]; exact hok.1, hok.2.1, sbs_zero _, by have := prS_le8 (hardN_le P a r) b; omega⟩, rfl⟩) h⟩
    constructor
    · intro h
      apply Classical.byContradiction
      intro hc
      obtain ⟨c, hc'⟩ := e1.mpr (hh.mpr fun T hT => by
        cases hb : lackB P (wellN P a) T
        · rfl
        · exact absurd ⟨T, hT, hb⟩ hc)
      exact h c hc'
    · rintro ⟨T, hT, hb⟩ c hc
      have := hh.mp (e1.mp ⟨c, hc⟩) T hT
      rw [hb] at this
      cases this
  refine wp_up (2 ^ P.hrs - 1) (fun i y τ2 => y = (bI (bst fewer (infB P (wellN P a)) (i + 1)), nI (i + 1)) ∧ τ2 = τ') (fun ag i y τ2 hi' hJ hag => ?_) (fun ag y τ2 hJ => ?_) (by omega) ⟨?_, rfl⟩
  · obtain ⟨rfl, rfl⟩ := hJ
    have p8 := pop_le (i + 1)
    have st := bst_step (bt := fewer) (p := infB P (wellN P a)) (i + 1)
    obtain ⟨v, g1, g2, g3⟩ := hI (i + 1) (by omega)
    have go : ∀ b, bst fewer (infB P (wellN P a)) (i + 1 + 1) = b → wp (ag (bI b, nI (i + 1 + 1)) τ2) (QuM σ (setR (bst fewer (infB P (wellN P a)) (2 ^ P.hrs))).1 (setR (bst fewer (infB P (wellN P a)) (2 ^ P.hrs))).2) := fun b h2 => hag _ _ ⟨by rw [h2], rfl⟩
    unfold f_X3_bare_b20
    by_cases e1 : v = 1000000000
    · have pb := g3.mp e1
      cases hb : bst fewer (infB P (wellN P a)) (i + 1) with
      | none =>
        rw [hb, if_pos ⟨pb, Or.inl rfl⟩] at st
        have := go _ st
        unfold bI at this ⊢
        dsimp only at this ⊢
        simp (disch := first | omega | exact x.s | exact hi_eq | ((repeat (first | exact x.s | apply sw_I | apply sw_L | apply sw_cp | apply sw_18 | apply sw_21 | apply sw_22 | apply sw_m12 | apply sw_m18)); done) | rfl) only [wp_ite, wp_some, w_jn, wp_r0, wp_r1, wp_b2, wp_nn, w_bc, w_nt, wo_37, wg_37, wi_37, wr_37_37, wl_59, ws_59, w_has3, w_isMan, w_areTwo, w_isHour3, w_in3, w_night, wtM_0, wtM_1, wtM_2, nI_add, nI_1, nI_mul, nI_and, nI_or, nI_sd, nI_sub, l_sub1, l_addm1, l_all, l_1shl, l_or0, l_add0, l_0add, l_m1, l_m1r, l_neg, l_nn, l_eq0, l_le0, l_0lt, l_eq1, l_m1lt, l_m1le, l_m1eq0, l_10, l_00, l_1le, nI_le_l, nI_lt_l, nI_eq_l, bc_nI, nt_nI, bit_nI, b2_ite, b2_ite1, nI_max, nI_min, isR_nI, n_100, n_1000000000, n_2, hi_ne, hi_ni, hi_eq, hi_wL, hi_wR, hl_wI, hl_wR, hl_ne, hl_ni, hl_eq, hr_wI, hr_wL, if_true, if_false, if_pos, if_neg, true_and, and_true, not_true_eq_false, not_false_eq_true, x.n, x.h, x.b, x.mo, x.wi, x.ca, x.ro, x.ti, x.il, x.ni, x.ga, x.ri, g1]
        exact this
      | some b =>
        rw [hb] at st
        have bl := (bst_lt _ _ hb).1
        have q8 := pop_le b
        have fb : fewer (i + 1) b = true ↔ pop (i + 1) < pop b := decide_eq_true_iff
        unfold bI
        dsimp only
        simp (disch := first | omega | exact x.s | exact hi_eq | ((repeat (first | exact x.s | apply sw_I | apply sw_L | apply sw_cp | apply sw_18 | apply sw_21 | apply sw_22 | apply sw_m12 | apply sw_m18)); done) | rfl) only [wp_ite, wp_some, w_jn, wp_r0, wp_r1, wp_b2, wp_nn, w_bc, w_nt, wo_37, wg_37, wi_37, wr_37_37, wl_59, ws_59, w_has3, w_isMan, w_areTwo, w_isHour3, w_in3, w_night, wtM_0, wtM_1, wtM_2, nI_add, nI_1, nI_mul, nI_and, nI_or, nI_sd, nI_sub, l_sub1, l_addm1, l_all, l_1shl, l_or0, l_add0, l_0add, l_m1, l_m1r, l_neg, l_nn, l_eq0, l_le0, l_0lt, l_eq1, l_m1lt, l_m1le, l_m1eq0, l_10, l_00, l_1le, nI_le_l, nI_lt_l, nI_eq_l, bc_nI, nt_nI, bit_nI, b2_ite, b2_ite1, nI_max, nI_min, isR_nI, n_100, n_1000000000, n_2, hi_ne, hi_ni, hi_eq, hi_wL, hi_wR, hl_wI, hl_wR, hl_ne, hl_ni, hl_eq, hr_wI, hr_wL, if_true, if_false, if_pos, if_neg, true_and, and_true, not_true_eq_false, not_false_eq_true, x.n, x.h, x.b, x.mo, x.wi, x.ca, x.ro, x.ti, x.il, x.ni, x.ga, x.ri, g1]
        split
        · rename_i hx
          rw [if_neg] at st
          · exact go _ st
          · rintro ⟨-, h | ⟨b', h, h'⟩⟩
            · cases h
            · cases h; have := fb.mp h'; omega
        · rename_i hx
          rw [if_pos ⟨pb, Or.inr ⟨b, rfl, fb.mpr (by omega)⟩⟩] at st
          exact go _ st
    · rw [if_neg (fun z => e1 (g3.mpr z.1))] at st
      have := go _ st
      generalize bI (bst fewer (infB P (wellN P a)) (i + 1)) = z at *
      simp (disch := first | omega | exact x.s | exact hi_eq | ((repeat (first | exact x.s | apply sw_I | apply sw_L | apply sw_cp | apply sw_18 | apply sw_21 | apply sw_22 | apply sw_m12 | apply sw_m18)); done) | rfl) only [wp_ite, wp_some, w_jn, wp_r0, wp_r1, wp_b2, wp_nn, w_bc, w_nt, wo_37, wg_37, wi_37, wr_37_37, wl_59, ws_59, w_has3, w_isMan, w_areTwo, w_isHour3, w_in3, w_night, wtM_0, wtM_1, wtM_2, nI_add, nI_1, nI_mul, nI_and, nI_or, nI_sd, nI_sub, l_sub1, l_addm1, l_all, l_1shl, l_or0, l_add0, l_0add, l_m1, l_m1r, l_neg, l_nn, l_eq0, l_le0, l_0lt, l_eq1, l_m1lt, l_m1le, l_m1eq0, l_10, l_00, l_1le, nI_le_l, nI_lt_l, nI_eq_l, bc_nI, nt_nI, bit_nI, b2_ite, b2_ite1, nI_max, nI_min, isR_nI, n_100, n_1000000000, n_2, hi_ne, hi_ni, hi_eq, hi_wL, hi_wR, hl_wI, hl_wR, hl_ne, hl_ni, hl_eq, hr_wI, hr_wL, if_true, if_false, if_pos, if_neg, true_and, and_true, not_true_eq_false, not_false_eq_true, x.n, x.h, x.b, x.mo, x.wi, x.ca, x.ro, x.ti, x.il, x.ni, x.ga, x.ri, g1]
      exact this
  · obtain ⟨rfl, rfl⟩ := hJ
    rw [show 2 ^ P.hrs - 1 + 1 = 2 ^ P.hrs by omega]
    unfold f_X3_bare_b20
    cases hb : bst fewer (infB P (wellN P a)) (2 ^ P.hrs) with
    | none =>
      unfold bI
      dsimp only
      simp (disch := first | omega | exact x.s | exact hi_eq | ((repeat (first | exact x.s | apply sw_I | apply sw_L | apply sw_cp | apply sw_18 | apply sw_21 | apply sw_22 | apply sw_m12 | apply sw_m18)); done) | rfl) only [wp_ite, wp_some, w_jn, wp_r0, wp_r1, wp_b2, wp_nn, w_bc, w_nt, wo_37, wg_37, wi_37, wr_37_37, wl_59, ws_59, w_has3, w_isMan, w_areTwo, w_isHour3, w_in3, w_night, wtM_0, wtM_1, wtM_2, nI_add, nI_1, nI_mul, nI_and, nI_or, nI_sd, nI_sub, l_sub1, l_addm1, l_all, l_1shl, l_or0, l_add0, l_0add, l_m1, l_m1r, l_neg, l_nn, l_eq0, l_le0, l_0lt, l_eq1, l_m1lt, l_m1le, l_m1eq0, l_10, l_00, l_1le, nI_le_l, nI_lt_l, nI_eq_l, bc_nI, nt_nI, bit_nI, b2_ite, b2_ite1, nI_max, nI_min, isR_nI, n_10, n_100, n_1000000000, n_11, n_2, hi_ne, hi_ni, hi_eq, hi_wL, hi_wR, hl_wI, hl_wR, hl_ne, hl_ni, hl_eq, hr_wI, hr_wL, if_true, if_false, if_pos, if_neg, true_and, and_true, not_true_eq_false, not_false_eq_true, x.n, x.h, x.b, x.mo, x.wi, x.ca, x.ro, x.ti, x.il, x.ni, x.ga, x.ri]
      exact ⟨rfl, ff'.mono rfl, s1, RwM.fr ff' rfl⟩
    | some b =>
      have bl := (bst_lt _ _ hb).1
      unfold bI
      dsimp only
      simp (disch := first | omega | exact x.s | exact hi_eq | ((repeat (first | exact x.s | apply sw_I | apply sw_L | apply sw_cp | apply sw_18 | apply sw_21 | apply sw_22 | apply sw_m12 | apply sw_m18)); done) | rfl) only [wp_ite, wp_some, w_jn, wp_r0, wp_r1, wp_b2, wp_nn, w_bc, w_nt, wo_37, wg_37, wi_37, wr_37_37, wl_59, ws_59, w_has3, w_isMan, w_areTwo, w_isHour3, w_in3, w_night, wtM_0, wtM_1, wtM_2, nI_add, nI_1, nI_mul, nI_and, nI_or, nI_sd, nI_sub, l_sub1, l_addm1, l_all, l_1shl, l_or0, l_add0, l_0add, l_m1, l_m1r, l_neg, l_nn, l_eq0, l_le0, l_0lt, l_eq1, l_m1lt, l_m1le, l_m1eq0, l_10, l_00, l_1le, nI_le_l, nI_lt_l, nI_eq_l, bc_nI, nt_nI, bit_nI, b2_ite, b2_ite1, nI_max, nI_min, isR_nI, n_10, n_100, n_1000000000, n_11, n_2, hi_ne, hi_ni, hi_eq, hi_wL, hi_wR, hl_wI, hl_wR, hl_ne, hl_ni, hl_eq, hr_wI, hr_wL, if_true, if_false, if_pos, if_neg, true_and, and_true, not_true_eq_false, not_false_eq_true, x.n, x.h, x.b, x.mo, x.wi, x.ca, x.ro, x.ti, x.il, x.ni, x.ga, x.ri]
      exact ⟨rfl, (by repeat (first | exact ff' | exact (ff').mono rfl | refine Fr.putI ?_ rfl | refine Fr.putL ?_ rfl | refine Fr.putR ?_ rfl)), s1.fr (D := [43]) (F := []) (G := [10]) (by repeat (first | exact Fr.refl | exact (Fr.refl).mono rfl | refine Fr.putI ?_ rfl | refine Fr.putL ?_ rfl | refine Fr.putR ?_ rfl)) rfl, rowM1⟩
  · have hz : infB P (wellN P a) 0 = false := by
      cases hb : infB P (wellN P a) 0
      · rfl
      · obtain ⟨T, h1, h2⟩ := infB_iff.mp hb
        have : T = 0 := by have := sbs_le h1; omega
        rw [this, lackB_zero] at h2
        cases h2
    show _ = (bI (bst fewer (infB P (wellN P a)) (0 + 1)), nI 1)
    rw [bst_step, if_neg (by rw [hz]; simp)]
    rfl
end mbare
