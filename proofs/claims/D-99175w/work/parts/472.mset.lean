/-! PURE 55: the reference: fewest, away, bare -/
theorem bst_ext {bt : Nat → Nat → Bool} {p : Nat → Bool} {m : Nat} : ∀ k, (∀ s, m ≤ s → s < m + k → p s = false) → bst bt p (m + k) = bst bt p m := by
  intro k
  induction k with
  | zero => intro _; rfl
  | succ k ih =>
    intro h
    rw [show m + (k + 1) = (m + k) + 1 by omega, bst_step, if_neg (fun z => by rw [h (m + k) (by omega) (by omega)] at z; cases z.1)]
    exact ih fun s h1 h2 => h s h1 (by omega)
def canB (P : Pk) (a : HS) (s : Nat) : Bool := (lackO P (sd s a.ill)).isNone
theorem fewB_same {P : Pk} {a : HS} {m : Nat} (hm : m ≤ 256) : bst fewer (canB P a) m = bst fewer (fewB P a) m := by
  refine bst_same (fun s hs h => ?_) (fun s hs h => ?_)
  · unfold fewB at h
    rw [Bool.and_eq_true, decide_eq_true_iff] at h
    have : sd s a.ill = s := by unfold sd; rw [h.1, Nat.xor_zero]
    unfold canB
    rw [this]; exact h.2
  · refine ⟨sd s a.ill, sbs_le (sbs_sd _ _), ?_, pop_mono (sbs_sd _ _), fun e => pop_same (sbs_sd _ _) (by omega) (by omega)⟩
    unfold fewB
    rw [Bool.and_eq_true, decide_eq_true_iff]
    exact ⟨sd_and_self _ _, h⟩
theorem lackB_zero {P : Pk} {s : Nat} : lackB P s 0 = false := decide_eq_false (by rw [pop_zero]; omega)
/-- sets that can't be held -/
noncomputable def infB (P : Pk) (s S : Nat) : Bool := @decide (∃ T, sbs T S ∧ lackB P s T = true) (Classical.propDecidable _)
theorem infB_iff {P : Pk} {s S : Nat} : infB P s S = true ↔ ∃ T, sbs T S ∧ lackB P s T = true := @decide_eq_true_iff _ (Classical.propDecidable _)
theorem infB_same {P : Pk} {s m : Nat} (hm : m ≤ 256) : bst fewer (infB P s) m = bst fewer (lackB P s) m := by
  refine bst_same (fun S hS h => infB_iff.mpr ⟨S, sbs_refl S, h⟩) (fun S hS h => ?_)
  obtain ⟨T, h1, h2⟩ := infB_iff.mp h
  exact ⟨T, sbs_le h1, h2, pop_mono h1, fun e => pop_same h1 (by omega) (by omega)⟩
theorem awayB_same {P : Pk} {a : HS} (hi8 : a.ill < 2 ^ P.n) : bst more (fun s => decide (sbs s (wellN P a)) && canB P a (sd (wellN P a) s)) (wellN P a + 1) = bst more (awayB P a) (2 ^ P.n) := by
  have hw : wellN P a < 2 ^ P.n := by
    have := sbs_le (sbs_sd (2 ^ P.n - 1) a.ill)
    have := Nat.two_pow_pos P.n
    unfold wellN
    omega
  have ws : ∀ s, s < 2 ^ P.n → (sbs s (wellN P a) ↔ s &&& a.ill = 0) := fun s hs => by
    unfold wellN
    rw [sbs_sd_iff]
    exact ⟨fun z => z.2, fun z => ⟨sbs_all hs, z⟩⟩
  have eq1 : ∀ s, s < 2 ^ P.n → (decide (sbs s (wellN P a)) && canB P a (sd (wellN P a) s)) = awayB P a s := fun s hs => by
    unfold awayB canB
    have e1 : sd (sd (wellN P a) s) a.ill = sd (wellN P a) s := by
      have : sd (wellN P a) s &&& a.ill = 0 := sbs_mono0 (sbs_sd _ _) (sd_and_self _ _)
      unfold sd at this ⊢
      rw [this, Nat.xor_zero]
    rw [e1, decide_eq_decide.mpr (ws s hs)]
  have h2 := bst_ext (bt := more) (p := awayB P a) (m := wellN P a + 1) (2 ^ P.n - (wellN P a + 1)) (fun s h1 h2 => by
    unfold awayB
    rw [decide_eq_false (fun z => by have := sbs_le ((ws s (by omega)).mpr z); omega)]
    rfl)
  rw [show wellN P a + 1 + (2 ^ P.n - (wellN P a + 1)) = 2 ^ P.n by omega] at h2
  rw [h2]
  exact bst_congr _ fun s hs => eq1 s (by omega)
section mset
variable {σ τ : Hp} {P : Pk} {a : HS}
theorem m_fewest (x : MX σ P a) (s : SM σ) : wp (f_X3_fewest (some 37) σ) (QuM σ (setR (bst fewer (fewB P a) (2 ^ P.n))).1 (setR (bst fewer (fewB P a) (2 ^ P.n))).2) := by
  have n8 := x.n8
  have N8 : 2 ^ P.n ≤ 256 := pow_le8 n8
  have x0 := x
  rw [← fewB_same N8]
  unfold f_X3_fewest
  simp (disch := first | omega | exact x.s | exact hi_eq | ((repeat (first | exact x.s | apply sw_I | apply sw_L | apply sw_cp | apply sw_18 | apply sw_21 | apply sw_22 | apply sw_m12 | apply sw_m18)); done) | rfl) only [wp_ite, wp_some, w_jn, wp_r0, wp_r1, wp_b2, wp_nn, w_bc, w_nt, wo_37, wg_37, wi_37, w_has3, w_isMan, w_areTwo, w_isHour3, w_in3, w_night, wtM_0, wtM_1, wtM_2, nI_add, nI_1, nI_mul, nI_and, nI_or, nI_sd, nI_sub, l_sub1, l_addm1, l_all, l_1shl, l_or0, l_add0, l_0add, l_m1, l_m1r, l_neg, l_nn, l_eq0, l_le0, l_0lt, l_eq1, l_m1lt, l_m1le, l_m1eq0, l_10, l_00, l_1le, nI_le_l, nI_lt_l, nI_eq_l, bc_nI, nt_nI, bit_nI, b2_ite, b2_ite1, nI_max, nI_min, isR_nI, n_10, n_11, n_2, hi_ne, hi_ni, hi_eq, hi_wL, hi_wR, hl_wI, hl_wR, hl_ne, hl_ni, hl_eq, hr_wI, hr_wL, if_true, if_false, if_pos, if_neg, true_and, and_true, not_true_eq_false, not_false_eq_true, x.n, x.h, x.b, x.mo, x.wi, x.ca, x.ro, x.ti, x.il, x.ni, x.ga, x.ri]
  have f0 : Fr [] [] [11] σ (wI σ 37 11 0) := Fr.refl.putI rfl
  rw [wp_bnd]
  refine wp_mono (m_layCanBe (x0.fr f0 rfl) (s.fr f0 rfl)) (fun y τ h => ?_)
  obtain ⟨f, hc⟩ := h
  have ff : Fr [47, 54, 55, 58, 59, 62] [] [11, 12, 13, 14, 15, 16, 21] σ τ := (f0.mono rfl).then f rfl
  have s1 : SM τ := s.fr ff rfl
  replace x := x0.fr ff rfl
  refine wp_up (2 ^ P.n) (fun i y τ' => y = (bI (bst fewer (canB P a) i), nI i) ∧ τ' = τ) (fun ag i y τ' hi' hJ hag => ?_) (fun ag y τ' hJ => ?_) (by omega) ⟨rfl, rfl⟩
  · obtain ⟨rfl, rfl⟩ := hJ
    have p8 := pop_le i
    have st := bst_step (bt := fewer) (p := canB P a) i
    have hci := hc i hi'
    have pb : canB P a i = true ↔ lackO P (sd i a.ill) = none := Option.isNone_iff_eq_none
    have go : ∀ b, bst fewer (canB P a) (i + 1) = b → wp (ag (bI b, nI (i + 1)) τ') (QuM σ (setR (bst fewer (canB P a) (2 ^ P.n))).1 (setR (bst fewer (canB P a) (2 ^ P.n))).2) := fun b h2 => hag _ _ ⟨by rw [h2], rfl⟩
    unfold f_X3_fewest_b13
    by_cases e1 : lackO P (sd i a.ill) = none
    · rw [if_pos e1] at hci
      cases hb : bst fewer (canB P a) i with
      | none =>
        rw [hb, if_pos ⟨pb.mpr e1, Or.inl rfl⟩] at st
        have := go _ st
        unfold bI at this ⊢
        dsimp only at this ⊢
        simp (disch := first | omega | exact x.s | exact hi_eq | ((repeat (first | exact x.s | apply sw_I | apply sw_L | apply sw_cp | apply sw_18 | apply sw_21 | apply sw_22 | apply sw_m12 | apply sw_m18)); done) | rfl) only [wp_ite, wp_some, w_jn, wp_r0, wp_r1, wp_b2, wp_nn, w_bc, w_nt, wo_37, wg_37, wi_37, wr_37_41, wl_62, ws_62, w_has3, w_isMan, w_areTwo, w_isHour3, w_in3, w_night, wtM_0, wtM_1, wtM_2, nI_add, nI_1, nI_mul, nI_and, nI_or, nI_sd, nI_sub, l_sub1, l_addm1, l_all, l_1shl, l_or0, l_add0, l_0add, l_m1, l_m1r, l_neg, l_nn, l_eq0, l_le0, l_0lt, l_eq1, l_m1lt, l_m1le, l_m1eq0, l_10, l_00, l_1le, nI_le_l, nI_lt_l, nI_eq_l, bc_nI, nt_nI, bit_nI, b2_ite, b2_ite1, nI_max, nI_min, isR_nI, n_2, n_3, hi_ne, hi_ni, hi_eq, hi_wL, hi_wR, hl_wI, hl_wR, hl_ne, hl_ni, hl_eq, hr_wI, hr_wL, if_true, if_false, if_pos, if_neg, true_and, and_true, not_true_eq_false, not_false_eq_true, x.n, x.h, x.b, x.mo, x.wi, x.ca, x.ro, x.ti, x.il, x.ni, x.ga, x.ri, hci]
        exact this
      | some b =>
        rw [hb] at st
        have bl := (bst_lt _ _ hb).1
        have q8 := pop_le b
        have fb : fewer i b = true ↔ pop i < pop b := decide_eq_true_iff
        unfold bI
        dsimp only
        simp (disch := first | omega | exact x.s | exact hi_eq | ((repeat (first | exact x.s | apply sw_I | apply sw_L | apply sw_cp | apply sw_18 | apply sw_21 | apply sw_22 | apply sw_m12 | apply sw_m18)); done) | rfl) only [wp_ite, wp_some, w_jn, wp_r0, wp_r1, wp_b2, wp_nn, w_bc, w_nt, wo_37, wg_37, wi_37, wr_37_41, wl_62, ws_62, w_has3, w_isMan, w_areTwo, w_isHour3, w_in3, w_night, wtM_0, wtM_1, wtM_2, nI_add, nI_1, nI_mul, nI_and, nI_or, nI_sd, nI_sub, l_sub1, l_addm1, l_all, l_1shl, l_or0, l_add0, l_0add, l_m1, l_m1r, l_neg, l_nn, l_eq0, l_le0, l_0lt, l_eq1, l_m1lt, l_m1le, l_m1eq0, l_10, l_00, l_1le, nI_le_l, nI_lt_l, nI_eq_l, bc_nI, nt_nI, bit_nI, b2_ite, b2_ite1, nI_max, nI_min, isR_nI, n_2, n_3, hi_ne, hi_ni, hi_eq, hi_wL, hi_wR, hl_wI, hl_wR, hl_ne, hl_ni, hl_eq, hr_wI, hr_wL, if_true, if_false, if_pos, if_neg, true_and, and_true, not_true_eq_false, not_false_eq_true, x.n, x.h, x.b, x.mo, x.wi, x.ca, x.ro, x.ti, x.il, x.ni, x.ga, x.ri, hci]
        split
        · rename_i hx
          rw [if_neg] at st
          · exact go _ st
          · rintro ⟨-, h | ⟨b', h, h'⟩⟩
            · cases h
            · cases h; have := fb.mp h'; omega
        · rename_i hx
          rw [if_pos ⟨pb.mpr e1, Or.inr ⟨b, rfl, fb.mpr (by omega)⟩⟩] at st
          exact go _ st
    · rw [if_neg e1] at hci
      rw [if_neg (fun z => e1 (pb.mp z.1))] at st
      have := go _ st
      generalize bI (bst fewer (canB P a) i) = z at *
      simp (disch := first | omega | exact x.s | exact hi_eq | ((repeat (first | exact x.s | apply sw_I | apply sw_L | apply sw_cp | apply sw_18 | apply sw_21 | apply sw_22 | apply sw_m12 | apply sw_m18)); done) | rfl) only [wp_ite, wp_some, w_jn, wp_r0, wp_r1, wp_b2, wp_nn, w_bc, w_nt, wo_37, wg_37, wi_37, wr_37_41, wl_62, ws_62, w_has3, w_isMan, w_areTwo, w_isHour3, w_in3, w_night, wtM_0, wtM_1, wtM_2, nI_add, nI_1, nI_mul, nI_and, nI_or, nI_sd, nI_sub, l_sub1, l_addm1, l_all, l_1shl, l_or0, l_add0, l_0add, l_m1, l_m1r, l_neg, l_nn, l_eq0, l_le0, l_0lt, l_eq1, l_m1lt, l_m1le, l_m1eq0, l_10, l_00, l_1le, nI_le_l, nI_lt_l, nI_eq_l, bc_nI, nt_nI, bit_nI, b2_ite, b2_ite1, nI_max, nI_min, isR_nI, n_2, n_3, hi_ne, hi_ni, hi_eq, hi_wL, hi_wR, hl_wI, hl_wR, hl_ne, hl_ni, hl_eq, hr_wI, hr_wL, if_true, if_false, if_pos, if_neg, true_and, and_true, not_true_eq_false, not_false_eq_true, x.n, x.h, x.b, x.mo, x.wi, x.ca, x.ro, x.ti, x.il, x.ni, x.ga, x.ri, hci]
      exact this
  · obtain ⟨rfl, rfl⟩ := hJ
    unfold f_X3_fewest_b13
    cases hb : bst fewer (canB P a) (2 ^ P.n) with
    | none =>
      unfold bI
      dsimp only
      simp (disch := first | omega | exact x.s | exact hi_eq | ((repeat (first | exact x.s | apply sw_I | apply sw_L | apply sw_cp | apply sw_18 | apply sw_21 | apply sw_22 | apply sw_m12 | apply sw_m18)); done) | rfl) only [wp_ite, wp_some, w_jn, wp_r0, wp_r1, wp_b2, wp_nn, w_bc, w_nt, wo_37, wg_37, wi_37, wr_37_41, wl_62, ws_62, w_has3, w_isMan, w_areTwo, w_isHour3, w_in3, w_night, wtM_0, wtM_1, wtM_2, nI_add, nI_1, nI_mul, nI_and, nI_or, nI_sd, nI_sub, l_sub1, l_addm1, l_all, l_1shl, l_or0, l_add0, l_0add, l_m1, l_m1r, l_neg, l_nn, l_eq0, l_le0, l_0lt, l_eq1, l_m1lt, l_m1le, l_m1eq0, l_10, l_00, l_1le, nI_le_l, nI_lt_l, nI_eq_l, bc_nI, nt_nI, bit_nI, b2_ite, b2_ite1, nI_max, nI_min, isR_nI, n_10, n_11, n_2, n_3, hi_ne, hi_ni, hi_eq, hi_wL, hi_wR, hl_wI, hl_wR, hl_ne, hl_ni, hl_eq, hr_wI, hr_wL, if_true, if_false, if_pos, if_neg, true_and, and_true, not_true_eq_false, not_false_eq_true, x.n, x.h, x.b, x.mo, x.wi, x.ca, x.ro, x.ti, x.il, x.ni, x.ga, x.ri]
      exact ⟨rfl, ff.mono rfl, s1, RwM.fr ff rfl⟩
    | some b =>
      have bl := (bst_lt _ _ hb).1
      unfold bI
      dsimp only
      simp (disch := first | omega | exact x.s | exact hi_eq | ((repeat (first | exact x.s | apply sw_I | apply sw_L | apply sw_cp | apply sw_18 | apply sw_21 | apply sw_22 | apply sw_m12 | apply sw_m18)); done) | rfl) only [wp_ite, wp_some, w_jn, wp_r0, wp_r1, wp_b2, wp_nn, w_bc, w_nt, wo_37, wg_37, wi_37, wr_37_41, wl_62, ws_62, w_has3, w_isMan, w_areTwo, w_isHour3, w_in3, w_night, wtM_0, wtM_1, wtM_2, nI_add, nI_1, nI_mul, nI_and, nI_or, nI_sd, nI_sub, l_sub1, l_addm1, l_all, l_1shl, l_or0, l_add0, l_0add, l_m1, l_m1r, l_neg, l_nn, l_eq0, l_le0, l_0lt, l_eq1, l_m1lt, l_m1le, l_m1eq0, l_10, l_00, l_1le, nI_le_l, nI_lt_l, nI_eq_l, bc_nI, nt_nI, bit_nI, b2_ite, b2_ite1, nI_max, nI_min, isR_nI, n_10, n_11, n_2, n_3, hi_ne, hi_ni, hi_eq, hi_wL, hi_wR, hl_wI, hl_wR, hl_ne, hl_ni, hl_eq, hr_wI, hr_wL, if_true, if_false, if_pos, if_neg, true_and, and_true, not_true_eq_false, not_false_eq_true, x.n, x.h, x.b, x.mo, x.wi, x.ca, x.ro, x.ti, x.il, x.ni, x.ga, x.ri]
      exact ⟨rfl, (by repeat (first | exact ff | exact (ff).mono rfl | refine Fr.putI ?_ rfl | refine Fr.putL ?_ rfl | refine Fr.putR ?_ rfl)), s1.fr (D := [43]) (F := []) (G := [10]) (by repeat (first | exact Fr.refl | exact (Fr.refl).mono rfl | refine Fr.putI ?_ rfl | refine Fr.putL ?_ rfl | refine Fr.putR ?_ rfl)) rfl, rowM1⟩
theorem m_away (x : MX σ P a) (s : SM σ) : wp (f_X3_away (some 37) σ) (QuM σ (setR (bst more (awayB P a) (2 ^ P.n))).1 (setR (bst more (awayB P a) (2 ^ P.n))).2) := by
  have n8 := x.n8
  have N8 : 2 ^ P.n ≤ 256 := pow_le8 n8
  have x0 := x
  have w8 := wellN_lt (P := P) (a := a) n8
  have wn : wellN P a < 2 ^ P.n := by
    have := sbs_le (sbs_sd (2 ^ P.n - 1) a.ill)
    have := Nat.two_pow_pos P.n
    unfold wellN
    omega
  rw [← awayB_same x.ok.1]
  generalize hQ : QuM σ (setR (bst more (fun s => decide (sbs s (wellN P a)) && canB P a (sd (wellN P a) s)) (wellN P a + 1))).1 (setR (bst more (fun s => decide (sbs s (wellN P a)) && canB P a (sd (wellN P a) s)) (wellN P a + 1))).2 = Q
  obtain ⟨q, hq⟩ : ∃ q, q = (fun s => decide (sbs s (wellN P a)) && canB P a (sd (wellN P a) s)) := ⟨_, rfl⟩
  rw [← hq] at hQ
  have hqb : ∀ i, q i = true ↔ sbs i (wellN P a) ∧ lackO P (sd (sd (wellN P a) i) a.ill) = none := fun i => by
    rw [hq]
    show (decide (sbs i (wellN P a)) && canB P a (sd (wellN P a) i)) = true ↔ _
    unfold canB
    rw [Bool.and_eq_true, decide_eq_true_iff, Option.isNone_iff_eq_none]
  unfold f_X3_away
  simp (disch := first | omega | exact x.s | exact hi_eq | ((repeat (first | exact x.s | apply sw_I | apply sw_L | apply sw_cp | apply sw_18 | apply sw_21 | apply sw_22 | apply sw_m12 | apply sw_m18)); done) | rfl) only [wp_ite, wp_some, w_jn, wp_r0, wp_r1, wp_b2, wp_nn, w_bc, w_nt, wo_37, wg_37, wi_37, wr_37_0, wl_38, ws_38, w_has3, w_isMan, w_areTwo, w_isHour3, w_in3, w_night, wtM_0, wtM_1, wtM_2, nI_add, nI_1, nI_mul, nI_and, nI_or, nI_sd, nI_sub, l_sub1, l_addm1, l_all, l_1shl, l_or0, l_add0, l_0add, l_m1, l_m1r, l_neg, l_nn, l_eq0, l_le0, l_0lt, l_eq1, l_m1lt, l_m1le, l_m1eq0, l_10, l_00, l_1le, nI_le_l, nI_lt_l, nI_eq_l, bc_nI, nt_nI, bit_nI, b2_ite, b2_ite1, nI_max, nI_min, isR_nI, n_10, n_11, n_2, n_3, hi_ne, hi_ni, hi_eq, hi_wL, hi_wR, hl_wI, hl_wR, hl_ne, hl_ni, hl_eq, hr_wI, hr_wL, if_true, if_false, if_pos, if_neg, true_and, and_true, not_true_eq_false, not_false_eq_true, x.n, x.h, x.b, x.mo, x.wi, x.ca, x.ro, x.ti, x.il, x.ni, x.ga, x.ri]
  have f0 : Fr [] [] [11] σ (wI σ 37 11 0) := Fr.refl.putI rfl
  rw [wp_bnd]
  refine wp_mono (m_layCanBe (x0.fr f0 rfl) (s.fr f0 rfl)) (fun y τ h => ?_)
  obtain ⟨f, hc⟩ := h
  have ff : Fr [47, 54, 55, 58, 59, 62] [] [11, 12, 13, 14, 15, 16, 21] σ τ := (f0.mono rfl).then f rfl
  have s1 : SM τ := s.fr ff rfl
  replace x := x0.fr ff rfl
  simp (disch := first | omega | exact x.s | exact hi_eq | ((repeat (first | exact x.s | apply sw_I | apply sw_L | apply sw_cp | apply sw_18 | apply sw_21 | apply sw_22 | apply sw_m12 | apply sw_m18)); done) | rfl) only [wp_ite, wp_some, w_jn, wp_r0, wp_r1, wp_b2, wp_nn, w_bc, w_nt, wo_37, wg_37, wi_37, wr_37_0, wl_38, ws_38, w_has3, w_isMan, w_areTwo, w_isHour3, w_in3, w_night, wtM_0, wtM_1, wtM_2, nI_add, nI_1, nI_mul, nI_and, nI_or, nI_sd, nI_sub, l_sub1, l_addm1, l_all, l_1shl, l_or0, l_add0, l_0add, l_m1, l_m1r, l_neg, l_nn, l_eq0, l_le0, l_0lt, l_eq1, l_m1lt, l_m1le, l_m1eq0, l_10, l_00, l_1le, nI_le_l, nI_lt_l, nI_eq_l, bc_nI, nt_nI, bit_nI, b2_ite, b2_ite1, nI_max, nI_min, isR_nI, n_10, n_11, n_2, n_3, hi_ne, hi_ni, hi_eq, hi_wL, hi_wR, hl_wI, hl_wR, hl_ne, hl_ni, hl_eq, hr_wI, hr_wL, if_true, if_false, if_pos, if_neg, true_and, and_true, not_true_eq_false, not_false_eq_true, x.n, x.h, x.b, x.mo, x.wi, x.ca, x.ro, x.ti, x.il, x.ni, x.ga, x.ri]
  rw [m_illB x, e_bnd]
  simp (disch := first | omega | exact x.s | exact hi_eq | ((repeat (first | exact x.s | apply sw_I | apply sw_L | apply sw_cp | apply sw_18 | apply sw_21 | apply sw_22 | apply sw_m12 | apply sw_m18)); done) | rfl) only [wp_ite, wp_some, w_jn, wp_r0, wp_r1, wp_b2, wp_nn, w_bc, w_nt, wo_37, wg_37, wi_37, wr_37_0, wl_38, ws_38, w_has3, w_isMan, w_areTwo, w_isHour3, w_in3, w_night, wtM_0, wtM_1, wtM_2, nI_add, nI_1, nI_mul, nI_and, nI_or, nI_sd, nI_sub, l_sub1, l_addm1, l_all, l_1shl, l_or0, l_add0, l_0add, l_m1, l_m1r, l_neg, l_nn, l_eq0, l_le0, l_0lt, l_eq1, l_m1lt, l_m1le, l_m1eq0, l_10, l_00, l_1le, nI_le_l, nI_lt_l, nI_eq_l, bc_nI, nt_nI, bit_nI, b2_ite, b2_ite1, nI_max, nI_min, isR_nI, n_10, n_11, n_2, n_3, hi_ne, hi_ni, hi_eq, hi_wL, hi_wR, hl_wI, hl_wR, hl_ne, hl_ni, hl_eq, hr_wI, hr_wL, if_true, if_false, if_pos, if_neg, true_and, and_true, not_true_eq_false, not_false_eq_true, x.n, x.h, x.b, x.mo, x.wi, x.ca, x.ro, x.ti, x.il, x.ni, x.ga, x.ri]
  rw [show sd (2 ^ P.n - 1) a.ill = wellN P a from rfl]
  refine wp_up (wellN P a + 1) (fun i y τ' => y = (bI (bst more q i), nI i) ∧ τ' = τ) (fun ag i y τ' hi' hJ hag => ?_) (fun ag y τ' hJ => ?_) (by omega) ⟨rfl, rfl⟩
  · obtain ⟨rfl, rfl⟩ := hJ
    have p8 := pop_le i
    have st := bst_step (bt := more) (p := q) i
    have sl : sd (wellN P a) i < 2 ^ P.n := by have := sbs_le (sbs_sd (wellN P a) i); omega
    have sl2 : sd i (wellN P a) < 256 := sd_lt _ (by omega)
    have hci := hc (sd (wellN P a) i) sl
    have pb := hqb i
    have go : ∀ b, bst more q (i + 1) = b → wp (ag (bI b, nI (i + 1)) τ') Q := fun b h2 => hag _ _ ⟨by rw [h2], rfl⟩
    unfold f_X3_away_b33
    by_cases e0 : sd i (wellN P a) = 0
    · by_cases e1 : lackO P (sd (sd (wellN P a) i) a.ill) = none
      · rw [if_pos e1] at hci
        cases hb : bst more q i with
        | none =>
          rw [hb, if_pos ⟨pb.mpr ⟨sd_eq0.mp e0, e1⟩, Or.inl rfl⟩] at st
          have := go _ st
          unfold bI at this ⊢
          dsimp only at this ⊢
          simp (disch := first | omega | exact x.s | exact hi_eq | ((repeat (first | exact x.s | apply sw_I | apply sw_L | apply sw_cp | apply sw_18 | apply sw_21 | apply sw_22 | apply sw_m12 | apply sw_m18)); done) | rfl) only [wp_ite, wp_some, w_jn, wp_r0, wp_r1, wp_b2, wp_nn, w_bc, w_nt, wo_37, wg_37, wi_37, wr_37_41, wl_62, ws_62, w_has3, w_isMan, w_areTwo, w_isHour3, w_in3, w_night, wtM_0, wtM_1, wtM_2, nI_add, nI_1, nI_mul, nI_and, nI_or, nI_sd, nI_sub, l_sub1, l_addm1, l_all, l_1shl, l_or0, l_add0, l_0add, l_m1, l_m1r, l_neg, l_nn, l_eq0, l_le0, l_0lt, l_eq1, l_m1lt, l_m1le, l_m1eq0, l_10, l_00, l_1le, nI_le_l, nI_lt_l, nI_eq_l, bc_nI, nt_nI, bit_nI, b2_ite, b2_ite1, nI_max, nI_min, isR_nI, n_2, hi_ne, hi_ni, hi_eq, hi_wL, hi_wR, hl_wI, hl_wR, hl_ne, hl_ni, hl_eq, hr_wI, hr_wL, if_true, if_false, if_pos, if_neg, true_and, and_true, not_true_eq_false, not_false_eq_true, x.n, x.h, x.b, x.mo, x.wi, x.ca, x.ro, x.ti, x.il, x.ni, x.ga, x.ri, e0, hci]
          exact this
        | some b =>
          rw [hb] at st
          have bl := (bst_lt _ _ hb).1
          have q8 := pop_le b
          have fb : more i b = true ↔ pop b < pop i := decide_eq_true_iff
          unfold bI
          dsimp only
          simp (disch := first | omega | exact x.s | exact hi_eq | ((repeat (first | exact x.s | apply sw_I | apply sw_L | apply sw_cp | apply sw_18 | apply sw_21 | apply sw_22 | apply sw_m12 | apply sw_m18)); done) | rfl) only [wp_ite, wp_some, w_jn, wp_r0, wp_r1, wp_b2, wp_nn, w_bc, w_nt, wo_37, wg_37, wi_37, wr_37_41, wl_62, ws_62, w_has3, w_isMan, w_areTwo, w_isHour3, w_in3, w_night, wtM_0, wtM_1, wtM_2, nI_add, nI_1, nI_mul, nI_and, nI_or, nI_sd, nI_sub, l_sub1, l_addm1, l_all, l_1shl, l_or0, l_add0, l_0add, l_m1, l_m1r, l_neg, l_nn, l_eq0, l_le0, l_0lt, l_eq1, l_m1lt, l_m1le, l_m1eq0, l_10, l_00, l_1le, nI_le_l, nI_lt_l, nI_eq_l, bc_nI, nt_nI, bit_nI, b2_ite, b2_ite1, nI_max, nI_min, isR_nI, n_2, hi_ne, hi_ni, hi_eq, hi_wL, hi_wR, hl_wI, hl_wR, hl_ne, hl_ni, hl_eq, hr_wI, hr_wL, if_true, if_false, if_pos, if_neg, true_and, and_true, not_true_eq_false, not_false_eq_true, x.n, x.h, x.b, x.mo, x.wi, x.ca, x.ro, x.ti, x.il, x.ni, x.ga, x.ri, e0, hci]
          split
          · rename_i hx
            rw [if_neg] at st
            · exact go _ st
            · rintro ⟨-, h | ⟨b', h, h'⟩⟩
              · cases h
              · cases h; have := fb.mp h'; omega
          · rename_i hx
            rw [if_pos ⟨pb.mpr ⟨sd_eq0.mp e0, e1⟩, Or.inr ⟨b, rfl, fb.mpr (by omega)⟩⟩] at st
            exact go _ st
      · rw [if_neg e1] at hci
        rw [if_neg (fun z => e1 (pb.mp z.1).2)] at st
        have := go _ st
        generalize bI (bst more q i) = z at *
        simp (disch := first | omega | exact x.s | exact hi_eq | ((repeat (first | exact x.s | apply sw_I | apply sw_L | apply sw_cp | apply sw_18 | apply sw_21 | apply sw_22 | apply sw_m12 | apply sw_m18)); done) | rfl) only [wp_ite, wp_some, w_jn, wp_r0, wp_r1, wp_b2, wp_nn, w_bc, w_nt, wo_37, wg_37, wi_37, wr_37_41, wl_62, ws_62, w_has3, w_isMan, w_areTwo, w_isHour3, w_in3, w_night, wtM_0, wtM_1, wtM_2, nI_add, nI_1, nI_mul, nI_and, nI_or, nI_sd, nI_sub, l_sub1, l_addm1, l_all, l_1shl, l_or0, l_add0, l_0add, l_m1, l_m1r, l_neg, l_nn, l_eq0, l_le0, l_0lt, l_eq1, l_m1lt, l_m1le, l_m1eq0, l_10, l_00, l_1le, nI_le_l, nI_lt_l, nI_eq_l, bc_nI, nt_nI, bit_nI, b2_ite, b2_ite1, nI_max, nI_min, isR_nI, n_2, hi_ne, hi_ni, hi_eq, hi_wL, hi_wR, hl_wI, hl_wR, hl_ne, hl_ni, hl_eq, hr_wI, hr_wL, if_true, if_false, if_pos, if_neg, true_and, and_true, not_true_eq_false, not_false_eq_true, x.n, x.h, x.b, x.mo, x.wi, x.ca, x.ro, x.ti, x.il, x.ni, x.ga, x.ri, e0, hci]
        exact this
    · rw [if_neg (fun z => e0 (sd_eq0.mpr (pb.mp z.1).1))] at st
      have := go _ st
      generalize bI (bst more q i) = z at *
      simp (disch := first | omega | exact x.s | exact hi_eq | ((repeat (first | exact x.s | apply sw_I | apply sw_L | apply sw_cp | apply sw_18 | apply sw_21 | apply sw_22 | apply sw_m12 | apply sw_m18)); done) | rfl) only [wp_ite, wp_some, w_jn, wp_r0, wp_r1, wp_b2, wp_nn, w_bc, w_nt, wo_37, wg_37, wi_37, wr_37_41, wl_62, ws_62, w_has3, w_isMan, w_areTwo, w_isHour3, w_in3, w_night, wtM_0, wtM_1, wtM_2, nI_add, nI_1, nI_mul, nI_and, nI_or, nI_sd, nI_sub, l_sub1, l_addm1, l_all, l_1shl, l_or0, l_add0, l_0add, l_m1, l_m1r, l_neg, l_nn, l_eq0, l_le0, l_0lt, l_eq1, l_m1lt, l_m1le, l_m1eq0, l_10, l_00, l_1le, nI_le_l, nI_lt_l, nI_eq_l, bc_nI, nt_nI, bit_nI, b2_ite, b2_ite1, nI_max, nI_min, isR_nI, n_2, hi_ne, hi_ni, hi_eq, hi_wL, hi_wR, hl_wI, hl_wR, hl_ne, hl_ni, hl_eq, hr_wI, hr_wL, if_true, if_false, if_pos, if_neg, true_and, and_true, not_true_eq_false, not_false_eq_true, x.n, x.h, x.b, x.mo, x.wi, x.ca, x.ro, x.ti, x.il, x.ni, x.ga, x.ri, e0]
      exact this
  · obtain ⟨rfl, rfl⟩ := hJ
    unfold f_X3_away_b33
    rw [← hQ]
    cases hb : bst more q (wellN P a + 1) with
    | none =>
      unfold bI
      dsimp only
      simp (disch := first | omega | exact x.s | exact hi_eq | ((repeat (first | exact x.s | apply sw_I | apply sw_L | apply sw_cp | apply sw_18 | apply sw_21 | apply sw_22 | apply sw_m12 | apply sw_m18)); done) | rfl) only [wp_ite, wp_some, w_jn, wp_r0, wp_r1, wp_b2, wp_nn, w_bc, w_nt, wo_37, wg_37, wi_37, wr_37_0, wr_37_41, wl_38, ws_38, wl_62, ws_62, w_has3, w_isMan, w_areTwo, w_isHour3, w_in3, w_night, wtM_0, wtM_1, wtM_2, nI_add, nI_1, nI_mul, nI_and, nI_or, nI_sd, nI_sub, l_sub1, l_addm1, l_all, l_1shl, l_or0, l_add0, l_0add, l_m1, l_m1r, l_neg, l_nn, l_eq0, l_le0, l_0lt, l_eq1, l_m1lt, l_m1le, l_m1eq0, l_10, l_00, l_1le, nI_le_l, nI_lt_l, nI_eq_l, bc_nI, nt_nI, bit_nI, b2_ite, b2_ite1, nI_max, nI_min, isR_nI, n_10, n_11, n_2, n_3, hi_ne, hi_ni, hi_eq, hi_wL, hi_wR, hl_wI, hl_wR, hl_ne, hl_ni, hl_eq, hr_wI, hr_wL, if_true, if_false, if_pos, if_neg, true_and, and_true, not_true_eq_false, not_false_eq_true, x.n, x.h, x.b, x.mo, x.wi, x.ca, x.ro, x.ti, x.il, x.ni, x.ga, x.ri]
      exact ⟨rfl, ff.mono rfl, s1, RwM.fr ff rfl⟩
    | some b =>
      have bl := (bst_lt _ _ hb).1
      unfold bI
      dsimp only
      simp (disch := first | omega | exact x.s | exact hi_eq | ((repeat (first | exact x.s | apply sw_I | apply sw_L | apply sw_cp | apply sw_18 | apply sw_21 | apply sw_22 | apply sw_m12 | apply sw_m18)); done) | rfl) only [wp_ite, wp_some, w_jn, wp_r0, wp_r1, wp_b2, wp_nn, w_bc, w_nt, wo_37, wg_37, wi_37, wr_37_0, wr_37_41, wl_38, ws_38, wl_62, ws_62, w_has3, w_isMan, w_areTwo, w_isHour3, w_in3, w_night, wtM_0, wtM_1, wtM_2, nI_add, nI_1, nI_mul, nI_and, nI_or, nI_sd, nI_sub, l_sub1, l_addm1, l_all, l_1shl, l_or0, l_add0, l_0add, l_m1, l_m1r, l_neg, l_nn, l_eq0, l_le0, l_0lt, l_eq1, l_m1lt, l_m1le, l_m1eq0, l_10, l_00, l_1le, nI_le_l, nI_lt_l, nI_eq_l, bc_nI, nt_nI, bit_nI, b2_ite, b2_ite1, nI_max, nI_min, isR_nI, n_10, n_11, n_2, n_3, hi_ne, hi_ni, hi_eq, hi_wL, hi_wR, hl_wI, hl_wR, hl_ne, hl_ni, hl_eq, hr_wI, hr_wL, if_true, if_false, if_pos, if_neg, true_and, and_true, not_true_eq_false, not_false_eq_true, x.n, x.h, x.b, x.mo, x.wi, x.ca, x.ro, x.ti, x.il, x.ni, x.ga, x.ri]
      exact ⟨rfl, (by repeat (first | exact ff | exact (ff).mono rfl | refine Fr.putI ?_ rfl | refine Fr.putL ?_ rfl | refine Fr.putR ?_ rfl)), s1.fr (D := [43]) (F := []) (G := [10]) (by repeat (first | exact Fr.refl | exact (Fr.refl).mono rfl | refine Fr.putI ?_ rfl | refine Fr.putL ?_ rfl | refine Fr.putR ?_ rfl)) rfl, rowM1⟩
end mset
