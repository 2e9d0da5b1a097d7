/-! PURE 51: the class: fewest, away -/
def bI (o : Option Nat) : Int32 := match o with
  | none => -1
  | some b => nI b
def fewB (P : Pk) (a : HS) (s : Nat) : Bool := decide (s &&& a.ill = 0) && (lackO P s).isNone
def awayB (P : Pk) (a : HS) (s : Nat) : Bool := decide (s &&& a.ill = 0) && (lackO P (sd (wellN P a) s)).isNone
section cset
variable {σ τ : Hp} {P : Pk} {a : HS}
theorem lackO_lt {s b : Nat} (h : lackO P s = some b) : b < 2 ^ P.hrs := (bst_lt _ _ h).1
theorem c_fewest (x : CX σ P a) (s : SC σ) : wp (f_X1_fewest (some 0) σ) (QuC σ (setR (bst fewer (fewB P a) (2 ^ P.n))).1 (setR (bst fewer (fewB P a) (2 ^ P.n))).2) := by
  have n8 := x.n8
  have h8 := x.h8
  have i8 := x.i8
  have W8 : 2 ^ P.hrs ≤ 256 := pow_le8 h8
  have N8 : 2 ^ P.n ≤ 256 := pow_le8 n8
  have Np : 0 < 2 ^ P.n := Nat.two_pow_pos _
  have w8 := wellN_lt (P := P) (a := a) n8
  unfold f_X1_fewest
  refine wp_up (2 ^ P.n) (fun i y τ => y = (bI (bst fewer (fewB P a) i), nI i) ∧ τ = σ) (fun ag i y τ hi' hJ hag => ?_) (fun ag y τ hJ => ?_) (by omega) ⟨rfl, rfl⟩
  · obtain ⟨rfl, rfl⟩ := hJ
    have p8 := pop_le i
    have il : i &&& a.ill < 256 := and_lt _ (by omega)
    have st := bst_step (bt := fewer) (p := fewB P a) i
    have lk := c_lacking x (s := i) (by first | omega | exact sd_lt _ w8)
    have pb : fewB P a i = true ↔ i &&& a.ill = 0 ∧ lackO P i = none := by
      unfold fewB
      rw [Bool.and_eq_true, decide_eq_true_iff, Option.isNone_iff_eq_none]
    -- set aside
    have no : ∀ b, bst fewer (fewB P a) i = b → bst fewer (fewB P a) (i + 1) = b → wp (ag (bI b, nI (i + 1)) τ) (QuC τ (setR (bst fewer (fewB P a) (2 ^ P.n))).1 (setR (bst fewer (fewB P a) (2 ^ P.n))).2) := fun b h1 h2 => hag _ _ ⟨by rw [h2], rfl⟩
    have yes : bst fewer (fewB P a) (i + 1) = some i → wp (ag (nI i, nI (i + 1)) τ) (QuC τ (setR (bst fewer (fewB P a) (2 ^ P.n))).1 (setR (bst fewer (fewB P a) (2 ^ P.n))).2) := fun h2 => hag _ _ ⟨by rw [h2]; rfl, rfl⟩
    unfold f_X1_fewest_b4
    cases hb : bst fewer (fewB P a) i with
    | none =>
      rw [hb] at st no
      unfold bI at no ⊢
      dsimp only at no ⊢
      simp (disch := first | omega | exact x.s | exact hi_eq | ((repeat (first | exact x.s | apply sw_I | apply sw_L | apply sw_cp | apply sw_18 | apply sw_21 | apply sw_22 | apply sw_m12 | apply sw_m18)); done) | rfl) only [wp_ite, wp_some, w_jn, wp_r0, wp_r1, wp_b2, wp_nn, w_bc, w_nt, wo_0, wg_0, wi_0, wr_0_0, wo_1, wg_1, wi_1, wr_1_0, wr_1_1, wl_2, ws_2, wl_3, ws_3, wo_4, wg_4, wi_4, wr_4_0, wr_4_1, wl_5, ws_5, wl_6, ws_6, w_has, w_isRider, w_isPair, w_isHour, w_in, w_in0, w_in_0_1, w_in_0_10, w_in_0_3, w_in_0_30, w_in_0_60, w_in_0_7, w_in_0_9, w_in_0_999, w_in_1_60, w_in_20_27, w_in_2_40, w_in_48_57, w_whole, w_all, wt_0, wt_1, wt_2, nI_add, nI_1, nI_mul, nI_and, nI_or, nI_sd, nI_sub, l_sub1, l_addm1, l_all, l_1shl, l_or0, l_add0, l_0add, l_m1, l_m1r, l_neg, l_nn, l_eq0, l_le0, l_0lt, l_eq1, l_m1lt, l_m1le, l_m1eq0, l_10, l_00, l_1le, nI_le_l, nI_lt_l, nI_eq_l, bc_nI, nt_nI, bit_nI, b2_ite, b2_ite1, nI_max, nI_min, isR_nI, n_2, hi_ne, hi_ni, hi_eq, hi_wL, hi_wR, hl_wI, hl_wR, hl_ne, hl_ni, hl_eq, hr_wI, hr_wL, if_true, if_false, if_pos, if_neg, true_and, and_true, not_true_eq_false, not_false_eq_true, x.n, x.h, x.b, x.mo, x.wi, x.ca, x.ro, x.ti, x.il, x.ni, x.ga, x.ri]
      by_cases e1 : i &&& a.ill = 0
      · rw [if_pos e1]
        rw [lk, e_bnd]
        cases hl2 : lackO P i with
        | none =>
          simp (disch := first | omega | exact x.s | exact hi_eq | ((repeat (first | exact x.s | apply sw_I | apply sw_L | apply sw_cp | apply sw_18 | apply sw_21 | apply sw_22 | apply sw_m12 | apply sw_m18)); done) | rfl) only [wp_ite, wp_some, w_jn, wp_r0, wp_r1, wp_b2, wp_nn, w_bc, w_nt, wo_0, wg_0, wi_0, wr_0_0, wo_1, wg_1, wi_1, wr_1_0, wr_1_1, wl_2, ws_2, wl_3, ws_3, wo_4, wg_4, wi_4, wr_4_0, wr_4_1, wl_5, ws_5, wl_6, ws_6, w_has, w_isRider, w_isPair, w_isHour, w_in, w_in0, w_in_0_1, w_in_0_10, w_in_0_3, w_in_0_30, w_in_0_60, w_in_0_7, w_in_0_9, w_in_0_999, w_in_1_60, w_in_20_27, w_in_2_40, w_in_48_57, w_whole, w_all, wt_0, wt_1, wt_2, nI_add, nI_1, nI_mul, nI_and, nI_or, nI_sd, nI_sub, l_sub1, l_addm1, l_all, l_1shl, l_or0, l_add0, l_0add, l_m1, l_m1r, l_neg, l_nn, l_eq0, l_le0, l_0lt, l_eq1, l_m1lt, l_m1le, l_m1eq0, l_10, l_00, l_1le, nI_le_l, nI_lt_l, nI_eq_l, bc_nI, nt_nI, bit_nI, b2_ite, b2_ite1, nI_max, nI_min, isR_nI, n_2, hi_ne, hi_ni, hi_eq, hi_wL, hi_wR, hl_wI, hl_wR, hl_ne, hl_ni, hl_eq, hr_wI, hr_wL, if_true, if_false, if_pos, if_neg, true_and, and_true, not_true_eq_false, not_false_eq_true, x.n, x.h, x.b, x.mo, x.wi, x.ca, x.ro, x.ti, x.il, x.ni, x.ga, x.ri, Option.getD_none]
          exact yes (by rw [st, if_pos ⟨pb.mpr ⟨e1, hl2⟩, Or.inl rfl⟩])
        | some b' =>
          have b0 := lackO_pos hl2
          have bl := lackO_lt hl2
          simp (disch := first | omega | exact x.s | exact hi_eq | ((repeat (first | exact x.s | apply sw_I | apply sw_L | apply sw_cp | apply sw_18 | apply sw_21 | apply sw_22 | apply sw_m12 | apply sw_m18)); done) | rfl) only [wp_ite, wp_some, w_jn, wp_r0, wp_r1, wp_b2, wp_nn, w_bc, w_nt, wo_0, wg_0, wi_0, wr_0_0, wo_1, wg_1, wi_1, wr_1_0, wr_1_1, wl_2, ws_2, wl_3, ws_3, wo_4, wg_4, wi_4, wr_4_0, wr_4_1, wl_5, ws_5, wl_6, ws_6, w_has, w_isRider, w_isPair, w_isHour, w_in, w_in0, w_in_0_1, w_in_0_10, w_in_0_3, w_in_0_30, w_in_0_60, w_in_0_7, w_in_0_9, w_in_0_999, w_in_1_60, w_in_20_27, w_in_2_40, w_in_48_57, w_whole, w_all, wt_0, wt_1, wt_2, nI_add, nI_1, nI_mul, nI_and, nI_or, nI_sd, nI_sub, l_sub1, l_addm1, l_all, l_1shl, l_or0, l_add0, l_0add, l_m1, l_m1r, l_neg, l_nn, l_eq0, l_le0, l_0lt, l_eq1, l_m1lt, l_m1le, l_m1eq0, l_10, l_00, l_1le, nI_le_l, nI_lt_l, nI_eq_l, bc_nI, nt_nI, bit_nI, b2_ite, b2_ite1, nI_max, nI_min, isR_nI, n_2, hi_ne, hi_ni, hi_eq, hi_wL, hi_wR, hl_wI, hl_wR, hl_ne, hl_ni, hl_eq, hr_wI, hr_wL, if_true, if_false, if_pos, if_neg, true_and, and_true, not_true_eq_false, not_false_eq_true, x.n, x.h, x.b, x.mo, x.wi, x.ca, x.ro, x.ti, x.il, x.ni, x.ga, x.ri, Option.getD_some]
          exact no none rfl (by rw [st, if_neg (fun z => by rw [hl2] at pb; cases (pb.mp z.1).2)])
      · rw [if_neg e1]
        exact no none rfl (by rw [st, if_neg (fun z => e1 (pb.mp z.1).1)])
    | some b =>
      rw [hb] at st no
      unfold bI at no ⊢
      dsimp only at no ⊢
      have bl := (bst_lt _ _ hb).1
      have q8 := pop_le b
      have fb : fewer i b = true ↔ pop i < pop b := decide_eq_true_iff
      simp (disch := first | omega | exact x.s | exact hi_eq | ((repeat (first | exact x.s | apply sw_I | apply sw_L | apply sw_cp | apply sw_18 | apply sw_21 | apply sw_22 | apply sw_m12 | apply sw_m18)); done) | rfl) only [wp_ite, wp_some, w_jn, wp_r0, wp_r1, wp_b2, wp_nn, w_bc, w_nt, wo_0, wg_0, wi_0, wr_0_0, wo_1, wg_1, wi_1, wr_1_0, wr_1_1, wl_2, ws_2, wl_3, ws_3, wo_4, wg_4, wi_4, wr_4_0, wr_4_1, wl_5, ws_5, wl_6, ws_6, w_has, w_isRider, w_isPair, w_isHour, w_in, w_in0, w_in_0_1, w_in_0_10, w_in_0_3, w_in_0_30, w_in_0_60, w_in_0_7, w_in_0_9, w_in_0_999, w_in_1_60, w_in_20_27, w_in_2_40, w_in_48_57, w_whole, w_all, wt_0, wt_1, wt_2, nI_add, nI_1, nI_mul, nI_and, nI_or, nI_sd, nI_sub, l_sub1, l_addm1, l_all, l_1shl, l_or0, l_add0, l_0add, l_m1, l_m1r, l_neg, l_nn, l_eq0, l_le0, l_0lt, l_eq1, l_m1lt, l_m1le, l_m1eq0, l_10, l_00, l_1le, nI_le_l, nI_lt_l, nI_eq_l, bc_nI, nt_nI, bit_nI, b2_ite, b2_ite1, nI_max, nI_min, isR_nI, n_2, hi_ne, hi_ni, hi_eq, hi_wL, hi_wR, hl_wI, hl_wR, hl_ne, hl_ni, hl_eq, hr_wI, hr_wL, if_true, if_false, if_pos, if_neg, true_and, and_true, not_true_eq_false, not_false_eq_true, x.n, x.h, x.b, x.mo, x.wi, x.ca, x.ro, x.ti, x.il, x.ni, x.ga, x.ri]
      split
      · rename_i hc
        refine no (some b) rfl ?_
        rw [st, if_neg]
        rintro ⟨-, h | ⟨b', h, h'⟩⟩
        · cases h
        · cases h; have := fb.mp h'; omega
      · rename_i hc
        by_cases e1 : i &&& a.ill = 0
        · rw [if_pos e1]
          skip
          rw [lk, e_bnd]
          cases hl2 : lackO P i with
          | none =>
            simp (disch := first | omega | exact x.s | exact hi_eq | ((repeat (first | exact x.s | apply sw_I | apply sw_L | apply sw_cp | apply sw_18 | apply sw_21 | apply sw_22 | apply sw_m12 | apply sw_m18)); done) | rfl) only [wp_ite, wp_some, w_jn, wp_r0, wp_r1, wp_b2, wp_nn, w_bc, w_nt, wo_0, wg_0, wi_0, wr_0_0, wo_1, wg_1, wi_1, wr_1_0, wr_1_1, wl_2, ws_2, wl_3, ws_3, wo_4, wg_4, wi_4, wr_4_0, wr_4_1, wl_5, ws_5, wl_6, ws_6, w_has, w_isRider, w_isPair, w_isHour, w_in, w_in0, w_in_0_1, w_in_0_10, w_in_0_3, w_in_0_30, w_in_0_60, w_in_0_7, w_in_0_9, w_in_0_999, w_in_1_60, w_in_20_27, w_in_2_40, w_in_48_57, w_whole, w_all, wt_0, wt_1, wt_2, nI_add, nI_1, nI_mul, nI_and, nI_or, nI_sd, nI_sub, l_sub1, l_addm1, l_all, l_1shl, l_or0, l_add0, l_0add, l_m1, l_m1r, l_neg, l_nn, l_eq0, l_le0, l_0lt, l_eq1, l_m1lt, l_m1le, l_m1eq0, l_10, l_00, l_1le, nI_le_l, nI_lt_l, nI_eq_l, bc_nI, nt_nI, bit_nI, b2_ite, b2_ite1, nI_max, nI_min, isR_nI, n_2, hi_ne, hi_ni, hi_eq, hi_wL, hi_wR, hl_wI, hl_wR, hl_ne, hl_ni, hl_eq, hr_wI, hr_wL, if_true, if_false, if_pos, if_neg, true_and, and_true, not_true_eq_false, not_false_eq_true, x.n, x.h, x.b, x.mo, x.wi, x.ca, x.ro, x.ti, x.il, x.ni, x.ga, x.ri, Option.getD_none]
            exact yes (by rw [st, if_pos ⟨pb.mpr ⟨e1, hl2⟩, Or.inr ⟨b, rfl, fb.mpr (by omega)⟩⟩])
          | some b' =>
            have b0 := lackO_pos hl2
            have bl := lackO_lt hl2
            simp (disch := first | omega | exact x.s | exact hi_eq | ((repeat (first | exact x.s | apply sw_I | apply sw_L | apply sw_cp | apply sw_18 | apply sw_21 | apply sw_22 | apply sw_m12 | apply sw_m18)); done) | rfl) only [wp_ite, wp_some, w_jn, wp_r0, wp_r1, wp_b2, wp_nn, w_bc, w_nt, wo_0, wg_0, wi_0, wr_0_0, wo_1, wg_1, wi_1, wr_1_0, wr_1_1, wl_2, ws_2, wl_3, ws_3, wo_4, wg_4, wi_4, wr_4_0, wr_4_1, wl_5, ws_5, wl_6, ws_6, w_has, w_isRider, w_isPair, w_isHour, w_in, w_in0, w_in_0_1, w_in_0_10, w_in_0_3, w_in_0_30, w_in_0_60, w_in_0_7, w_in_0_9, w_in_0_999, w_in_1_60, w_in_20_27, w_in_2_40, w_in_48_57, w_whole, w_all, wt_0, wt_1, wt_2, nI_add, nI_1, nI_mul, nI_and, nI_or, nI_sd, nI_sub, l_sub1, l_addm1, l_all, l_1shl, l_or0, l_add0, l_0add, l_m1, l_m1r, l_neg, l_nn, l_eq0, l_le0, l_0lt, l_eq1, l_m1lt, l_m1le, l_m1eq0, l_10, l_00, l_1le, nI_le_l, nI_lt_l, nI_eq_l, bc_nI, nt_nI, bit_nI, b2_ite, b2_ite1, nI_max, nI_min, isR_nI, n_2, hi_ne, hi_ni, hi_eq, hi_wL, hi_wR, hl_wI, hl_wR, hl_ne, hl_ni, hl_eq, hr_wI, hr_wL, if_true, if_false, if_pos, if_neg, true_and, and_true, not_true_eq_false, not_false_eq_true, x.n, x.h, x.b, x.mo, x.wi, x.ca, x.ro, x.ti, x.il, x.ni, x.ga, x.ri, Option.getD_some]
            exact no (some b) rfl (by rw [st, if_neg (fun z => by rw [hl2] at pb; cases (pb.mp z.1).2)])
        · rw [if_neg e1]
          exact no (some b) rfl (by rw [st, if_neg (fun z => e1 (pb.mp z.1).1)])
  · obtain ⟨rfl, rfl⟩ := hJ
    unfold f_X1_fewest_b4
    cases hb : bst fewer (fewB P a) (2 ^ P.n) with
    | none =>
      unfold bI
      dsimp only
      simp (disch := first | omega | exact x.s | exact hi_eq | ((repeat (first | exact x.s | apply sw_I | apply sw_L | apply sw_cp | apply sw_18 | apply sw_21 | apply sw_22 | apply sw_m12 | apply sw_m18)); done) | rfl) only [wp_ite, wp_some, w_jn, wp_r0, wp_r1, wp_b2, wp_nn, w_bc, w_nt, wo_0, wg_0, wi_0, wr_0_0, wo_1, wg_1, wi_1, wr_1_0, wr_1_1, wl_2, ws_2, wl_3, ws_3, wo_4, wg_4, wi_4, wr_4_0, wr_4_1, wl_5, ws_5, wl_6, ws_6, w_has, w_isRider, w_isPair, w_isHour, w_in, w_in0, w_in_0_1, w_in_0_10, w_in_0_3, w_in_0_30, w_in_0_60, w_in_0_7, w_in_0_9, w_in_0_999, w_in_1_60, w_in_20_27, w_in_2_40, w_in_48_57, w_whole, w_all, wt_0, wt_1, wt_2, nI_add, nI_1, nI_mul, nI_and, nI_or, nI_sd, nI_sub, l_sub1, l_addm1, l_all, l_1shl, l_or0, l_add0, l_0add, l_m1, l_m1r, l_neg, l_nn, l_eq0, l_le0, l_0lt, l_eq1, l_m1lt, l_m1le, l_m1eq0, l_10, l_00, l_1le, nI_le_l, nI_lt_l, nI_eq_l, bc_nI, nt_nI, bit_nI, b2_ite, b2_ite1, nI_max, nI_min, isR_nI, n_2, hi_ne, hi_ni, hi_eq, hi_wL, hi_wR, hl_wI, hl_wR, hl_ne, hl_ni, hl_eq, hr_wI, hr_wL, if_true, if_false, if_pos, if_neg, true_and, and_true, not_true_eq_false, not_false_eq_true, x.n, x.h, x.b, x.mo, x.wi, x.ca, x.ro, x.ti, x.il, x.ni, x.ga, x.ri]
      exact ⟨rfl, Fr.refl, s, RwC.fr (D := []) (F := []) (G := []) Fr.refl rfl⟩
    | some b =>
      have bl := (bst_lt _ _ hb).1
      unfold bI
      dsimp only
      simp (disch := first | omega | exact x.s | exact hi_eq | ((repeat (first | exact x.s | apply sw_I | apply sw_L | apply sw_cp | apply sw_18 | apply sw_21 | apply sw_22 | apply sw_m12 | apply sw_m18)); done) | rfl) only [wp_ite, wp_some, w_jn, wp_r0, wp_r1, wp_b2, wp_nn, w_bc, w_nt, wo_0, wg_0, wi_0, wr_0_0, wo_1, wg_1, wi_1, wr_1_0, wr_1_1, wl_2, ws_2, wl_3, ws_3, wo_4, wg_4, wi_4, wr_4_0, wr_4_1, wl_5, ws_5, wl_6, ws_6, w_has, w_isRider, w_isPair, w_isHour, w_in, w_in0, w_in_0_1, w_in_0_10, w_in_0_3, w_in_0_30, w_in_0_60, w_in_0_7, w_in_0_9, w_in_0_999, w_in_1_60, w_in_20_27, w_in_2_40, w_in_48_57, w_whole, w_all, wt_0, wt_1, wt_2, nI_add, nI_1, nI_mul, nI_and, nI_or, nI_sd, nI_sub, l_sub1, l_addm1, l_all, l_1shl, l_or0, l_add0, l_0add, l_m1, l_m1r, l_neg, l_nn, l_eq0, l_le0, l_0lt, l_eq1, l_m1lt, l_m1le, l_m1eq0, l_10, l_00, l_1le, nI_le_l, nI_lt_l, nI_eq_l, bc_nI, nt_nI, bit_nI, b2_ite, b2_ite1, nI_max, nI_min, isR_nI, n_2, hi_ne, hi_ni, hi_eq, hi_wL, hi_wR, hl_wI, hl_wR, hl_ne, hl_ni, hl_eq, hr_wI, hr_wL, if_true, if_false, if_pos, if_neg, true_and, and_true, not_true_eq_false, not_false_eq_true, x.n, x.h, x.b, x.mo, x.wi, x.ca, x.ro, x.ti, x.il, x.ni, x.ga, x.ri]
      exact ⟨rfl, (by repeat (first | exact Fr.refl | exact (Fr.refl).mono rfl | refine Fr.putI ?_ rfl | refine Fr.putL ?_ rfl | refine Fr.putR ?_ rfl)), s.fr (D := [36]) (F := [52]) (G := []) (by repeat (first | exact Fr.refl | exact (Fr.refl).mono rfl | refine Fr.putI ?_ rfl | refine Fr.putL ?_ rfl | refine Fr.putR ?_ rfl)) rfl, row1⟩
theorem c_away (x : CX σ P a) (s : SC σ) : wp (f_X1_away (some 0) σ) (QuC σ (setR (bst more (awayB P a) (2 ^ P.n))).1 (setR (bst more (awayB P a) (2 ^ P.n))).2) := by
  have n8 := x.n8
  have h8 := x.h8
  have i8 := x.i8
  have W8 : 2 ^ P.hrs ≤ 256 := pow_le8 h8
  have N8 : 2 ^ P.n ≤ 256 := pow_le8 n8
  have Np : 0 < 2 ^ P.n := Nat.two_pow_pos _
  have w8 := wellN_lt (P := P) (a := a) n8
  unfold f_X1_away
  refine wp_up (2 ^ P.n) (fun i y τ => y = (bI (bst more (awayB P a) i), nI i) ∧ τ = σ) (fun ag i y τ hi' hJ hag => ?_) (fun ag y τ hJ => ?_) (by omega) ⟨rfl, rfl⟩
  · obtain ⟨rfl, rfl⟩ := hJ
    have p8 := pop_le i
    have il : i &&& a.ill < 256 := and_lt _ (by omega)
    have st := bst_step (bt := more) (p := awayB P a) i
    have lk := c_lacking x (s := (sd (wellN P a) i)) (by first | omega | exact sd_lt _ w8)
    have pb : awayB P a i = true ↔ i &&& a.ill = 0 ∧ lackO P (sd (wellN P a) i) = none := by
      unfold awayB
      rw [Bool.and_eq_true, decide_eq_true_iff, Option.isNone_iff_eq_none]
    -- set aside
    have no : ∀ b, bst more (awayB P a) i = b → bst more (awayB P a) (i + 1) = b → wp (ag (bI b, nI (i + 1)) τ) (QuC τ (setR (bst more (awayB P a) (2 ^ P.n))).1 (setR (bst more (awayB P a) (2 ^ P.n))).2) := fun b h1 h2 => hag _ _ ⟨by rw [h2], rfl⟩
    have yes : bst more (awayB P a) (i + 1) = some i → wp (ag (nI i, nI (i + 1)) τ) (QuC τ (setR (bst more (awayB P a) (2 ^ P.n))).1 (setR (bst more (awayB P a) (2 ^ P.n))).2) := fun h2 => hag _ _ ⟨by rw [h2]; rfl, rfl⟩
    unfold f_X1_away_b4
    cases hb : bst more (awayB P a) i with
    | none =>
      rw [hb] at st no
      unfold bI at no ⊢
      dsimp only at no ⊢
      simp (disch := first | omega | exact x.s | exact hi_eq | ((repeat (first | exact x.s | apply sw_I | apply sw_L | apply sw_cp | apply sw_18 | apply sw_21 | apply sw_22 | apply sw_m12 | apply sw_m18)); done) | rfl) only [wp_ite, wp_some, w_jn, wp_r0, wp_r1, wp_b2, wp_nn, w_bc, w_nt, wo_0, wg_0, wi_0, wr_0_0, wo_1, wg_1, wi_1, wr_1_0, wr_1_1, wl_2, ws_2, wl_3, ws_3, wo_4, wg_4, wi_4, wr_4_0, wr_4_1, wl_5, ws_5, wl_6, ws_6, w_has, w_isRider, w_isPair, w_isHour, w_in, w_in0, w_in_0_1, w_in_0_10, w_in_0_3, w_in_0_30, w_in_0_60, w_in_0_7, w_in_0_9, w_in_0_999, w_in_1_60, w_in_20_27, w_in_2_40, w_in_48_57, w_whole, w_all, wt_0, wt_1, wt_2, nI_add, nI_1, nI_mul, nI_and, nI_or, nI_sd, nI_sub, l_sub1, l_addm1, l_all, l_1shl, l_or0, l_add0, l_0add, l_m1, l_m1r, l_neg, l_nn, l_eq0, l_le0, l_0lt, l_eq1, l_m1lt, l_m1le, l_m1eq0, l_10, l_00, l_1le, nI_le_l, nI_lt_l, nI_eq_l, bc_nI, nt_nI, bit_nI, b2_ite, b2_ite1, nI_max, nI_min, isR_nI, n_2, hi_ne, hi_ni, hi_eq, hi_wL, hi_wR, hl_wI, hl_wR, hl_ne, hl_ni, hl_eq, hr_wI, hr_wL, if_true, if_false, if_pos, if_neg, true_and, and_true, not_true_eq_false, not_false_eq_true, x.n, x.h, x.b, x.mo, x.wi, x.ca, x.ro, x.ti, x.il, x.ni, x.ga, x.ri]
      by_cases e1 : i &&& a.ill = 0
      · rw [if_pos e1]
        rw [c_well x, e_bnd]
        simp (disch := first | omega | exact x.s | exact hi_eq | ((repeat (first | exact x.s | apply sw_I | apply sw_L | apply sw_cp | apply sw_18 | apply sw_21 | apply sw_22 | apply sw_m12 | apply sw_m18)); done) | rfl) only [wp_ite, wp_some, w_jn, wp_r0, wp_r1, wp_b2, wp_nn, w_bc, w_nt, wo_0, wg_0, wi_0, wr_0_0, wo_1, wg_1, wi_1, wr_1_0, wr_1_1, wl_2, ws_2, wl_3, ws_3, wo_4, wg_4, wi_4, wr_4_0, wr_4_1, wl_5, ws_5, wl_6, ws_6, w_has, w_isRider, w_isPair, w_isHour, w_in, w_in0, w_in_0_1, w_in_0_10, w_in_0_3, w_in_0_30, w_in_0_60, w_in_0_7, w_in_0_9, w_in_0_999, w_in_1_60, w_in_20_27, w_in_2_40, w_in_48_57, w_whole, w_all, wt_0, wt_1, wt_2, nI_add, nI_1, nI_mul, nI_and, nI_or, nI_sd, nI_sub, l_sub1, l_addm1, l_all, l_1shl, l_or0, l_add0, l_0add, l_m1, l_m1r, l_neg, l_nn, l_eq0, l_le0, l_0lt, l_eq1, l_m1lt, l_m1le, l_m1eq0, l_10, l_00, l_1le, nI_le_l, nI_lt_l, nI_eq_l, bc_nI, nt_nI, bit_nI, b2_ite, b2_ite1, nI_max, nI_min, isR_nI, n_2, hi_ne, hi_ni, hi_eq, hi_wL, hi_wR, hl_wI, hl_wR, hl_ne, hl_ni, hl_eq, hr_wI, hr_wL, if_true, if_false, if_pos, if_neg, true_and, and_true, not_true_eq_false, not_false_eq_true, x.n, x.h, x.b, x.mo, x.wi, x.ca, x.ro, x.ti, x.il, x.ni, x.ga, x.ri]
        rw [lk, e_bnd]
        cases hl2 : lackO P (sd (wellN P a) i) with
        | none =>
          simp (disch := first | omega | exact x.s | exact hi_eq | ((repeat (first | exact x.s | apply sw_I | apply sw_L | apply sw_cp | apply sw_18 | apply sw_21 | apply sw_22 | apply sw_m12 | apply sw_m18)); done) | rfl) only [wp_ite, wp_some, w_jn, wp_r0, wp_r1, wp_b2, wp_nn, w_bc, w_nt, wo_0, wg_0, wi_0, wr_0_0, wo_1, wg_1, wi_1, wr_1_0, wr_1_1, wl_2, ws_2, wl_3, ws_3, wo_4, wg_4, wi_4, wr_4_0, wr_4_1, wl_5, ws_5, wl_6, ws_6, w_has, w_isRider, w_isPair, w_isHour, w_in, w_in0, w_in_0_1, w_in_0_10, w_in_0_3, w_in_0_30, w_in_0_60, w_in_0_7, w_in_0_9, w_in_0_999, w_in_1_60, w_in_20_27, w_in_2_40, w_in_48_57, w_whole, w_all, wt_0, wt_1, wt_2, nI_add, nI_1, nI_mul, nI_and, nI_or, nI_sd, nI_sub, l_sub1, l_addm1, l_all, l_1shl, l_or0, l_add0, l_0add, l_m1, l_m1r, l_neg, l_nn, l_eq0, l_le0, l_0lt, l_eq1, l_m1lt, l_m1le, l_m1eq0, l_10, l_00, l_1le, nI_le_l, nI_lt_l, nI_eq_l, bc_nI, nt_nI, bit_nI, b2_ite, b2_ite1, nI_max, nI_min, isR_nI, n_2, hi_ne, hi_ni, hi_eq, hi_wL, hi_wR, hl_wI, hl_wR, hl_ne, hl_ni, hl_eq, hr_wI, hr_wL, if_true, if_false, if_pos, if_neg, true_and, and_true, not_true_eq_false, not_false_eq_true, x.n, x.h, x.b, x.mo, x.wi, x.ca, x.ro, x.ti, x.il, x.ni, x.ga, x.ri, Option.getD_none]
          exact yes (by rw [st, if_pos ⟨pb.mpr ⟨e1, hl2⟩, Or.inl rfl⟩])
        | some b' =>
          have b0 := lackO_pos hl2
          have bl := lackO_lt hl2
          simp (disch := first | omega | exact x.s | exact hi_eq | ((repeat (first | exact x.s | apply sw_I | apply sw_L | apply sw_cp | apply sw_18 | apply sw_21 | apply sw_22 | apply sw_m12 | apply sw_m18)); done) | rfl) only [wp_ite, wp_some, w_jn, wp_r0, wp_r1, wp_b2, wp_nn, w_bc, w_nt, wo_0, wg_0, wi_0, wr_0_0, wo_1, wg_1, wi_1, wr_1_0, wr_1_1, wl_2, ws_2, wl_3, ws_3, wo_4, wg_4, wi_4, wr_4_0, wr_4_1, wl_5, ws_5, wl_6, ws_6, w_has, w_isRider, w_isPair, w_isHour, w_in, w_in0, w_in_0_1, w_in_0_10, w_in_0_3, w_in_0_30, w_in_0_60, w_in_0_7, w_in_0_9, w_in_0_999, w_in_1_60, w_in_20_27, w_in_2_40, w_in_48_57, w_whole, w_all, wt_0, wt_1, wt_2, nI_add, nI_1, nI_mul, nI_and, nI_or, nI_sd, nI_sub, l_sub1, l_addm1, l_all, l_1shl, l_or0, l_add0, l_0add, l_m1, l_m1r, l_neg, l_nn, l_eq0, l_le0, l_0lt, l_eq1, l_m1lt, l_m1le, l_m1eq0, l_10, l_00, l_1le, nI_le_l, nI_lt_l, nI_eq_l, bc_nI, nt_nI, bit_nI, b2_ite, b2_ite1, nI_max, nI_min, isR_nI, n_2, hi_ne, hi_ni, hi_eq, hi_wL, hi_wR, hl_wI, hl_wR, hl_ne, hl_ni, hl_eq, hr_wI, hr_wL, if_true, if_false, if_pos, if_neg, true_and, and_true, not_true_eq_false, not_false_eq_true, x.n, x.h, x.b, x.mo, x.wi, x.ca, x.ro, x.ti, x.il, x.ni, x.ga, x.ri, Option.getD_some]
          exact no none rfl (by rw [st, if_neg (fun z => by rw [hl2] at pb; cases (pb.mp z.1).2)])
      · rw [if_neg e1]
        exact no none rfl (by rw [st, if_neg (fun z => e1 (pb.mp z.1).1)])
    | some b =>
      rw [hb] at st no
      unfold bI at no ⊢
      dsimp only at no ⊢
      have bl := (bst_lt _ _ hb).1
      have q8 := pop_le b
      have fb : more i b = true ↔ pop b < pop i := decide_eq_true_iff
      simp (disch := first | omega | exact x.s | exact hi_eq | ((repeat (first | exact x.s | apply sw_I | apply sw_L | apply sw_cp | apply sw_18 | apply sw_21 | apply sw_22 | apply sw_m12 | apply sw_m18)); done) | rfl) only [wp_ite, wp_some, w_jn, wp_r0, wp_r1, wp_b2, wp_nn, w_bc, w_nt, wo_0, wg_0, wi_0, wr_0_0, wo_1, wg_1, wi_1, wr_1_0, wr_1_1, wl_2, ws_2, wl_3, ws_3, wo_4, wg_4, wi_4, wr_4_0, wr_4_1, wl_5, ws_5, wl_6, ws_6, w_has, w_isRider, w_isPair, w_isHour, w_in, w_in0, w_in_0_1, w_in_0_10, w_in_0_3, w_in_0_30, w_in_0_60, w_in_0_7, w_in_0_9, w_in_0_999, w_in_1_60, w_in_20_27, w_in_2_40, w_in_48_57, w_whole, w_all, wt_0, wt_1, wt_2, nI_add, nI_1, nI_mul, nI_and, nI_or, nI_sd, nI_sub, l_sub1, l_addm1, l_all, l_1shl, l_or0, l_add0, l_0add, l_m1, l_m1r, l_neg, l_nn, l_eq0, l_le0, l_0lt, l_eq1, l_m1lt, l_m1le, l_m1eq0, l_10, l_00, l_1le, nI_le_l, nI_lt_l, nI_eq_l, bc_nI, nt_nI, bit_nI, b2_ite, b2_ite1, nI_max, nI_min, isR_nI, n_2, hi_ne, hi_ni, hi_eq, hi_wL, hi_wR, hl_wI, hl_wR, hl_ne, hl_ni, hl_eq, hr_wI, hr_wL, if_true, if_false, if_pos, if_neg, true_and, and_true, not_true_eq_false, not_false_eq_true, x.n, x.h, x.b, x.mo, x.wi, x.ca, x.ro, x.ti, x.il, x.ni, x.ga, x.ri]
      split
      · rename_i hc
        refine no (some b) rfl ?_
        rw [st, if_neg]
        rintro ⟨-, h | ⟨b', h, h'⟩⟩
        · cases h
        · cases h; have := fb.mp h'; omega
      · rename_i hc
        by_cases e1 : i &&& a.ill = 0
        · rw [if_pos e1]
          rw [c_well x, e_bnd]
          simp (disch := first | omega | exact x.s | exact hi_eq | ((repeat (first | exact x.s | apply sw_I | apply sw_L | apply sw_cp | apply sw_18 | apply sw_21 | apply sw_22 | apply sw_m12 | apply sw_m18)); done) | rfl) only [wp_ite, wp_some, w_jn, wp_r0, wp_r1, wp_b2, wp_nn, w_bc, w_nt, wo_0, wg_0, wi_0, wr_0_0, wo_1, wg_1, wi_1, wr_1_0, wr_1_1, wl_2, ws_2, wl_3, ws_3, wo_4, wg_4, wi_4, wr_4_0, wr_4_1, wl_5, ws_5, wl_6, ws_6, w_has, w_isRider, w_isPair, w_isHour, w_in, w_in0, w_in_0_1, w_in_0_10, w_in_0_3, w_in_0_30, w_in_0_60, w_in_0_7, w_in_0_9, w_in_0_999, w_in_1_60, w_in_20_27, w_in_2_40, w_in_48_57, w_whole, w_all, wt_0, wt_1, wt_2, nI_add, nI_1, nI_mul, nI_and, nI_or, nI_sd, nI_sub, l_sub1, l_addm1, l_all, l_1shl, l_or0, l_add0, l_0add, l_m1, l_m1r, l_neg, l_nn, l_eq0, l_le0, l_0lt, l_eq1, l_m1lt, l_m1le, l_m1eq0, l_10, l_00, l_1le, nI_le_l, nI_lt_l, nI_eq_l, bc_nI, nt_nI, bit_nI, b2_ite, b2_ite1, nI_max, nI_min, isR_nI, n_2, hi_ne, hi_ni, hi_eq, hi_wL, hi_wR, hl_wI, hl_wR, hl_ne, hl_ni, hl_eq, hr_wI, hr_wL, if_true, if_false, if_pos, if_neg, true_and, and_true, not_true_eq_false, not_false_eq_true, x.n, x.h, x.b, x.mo, x.wi, x.ca, x.ro, x.ti, x.il, x.ni, x.ga, x.ri]
          rw [lk, e_bnd]
          cases hl2 : lackO P (sd (wellN P a) i) with
          | none =>
            simp (disch := first | omega | exact x.s | exact hi_eq | ((repeat (first | exact x.s | apply sw_I | apply sw_L | apply sw_cp | apply sw_18 | apply sw_21 | apply sw_22 | apply sw_m12 | apply sw_m18)); done) | rfl) only [wp_ite, wp_some, w_jn, wp_r0, wp_r1, wp_b2, wp_nn, w_bc, w_nt, wo_0, wg_0, wi_0, wr_0_0, wo_1, wg_1, wi_1, wr_1_0, wr_1_1, wl_2, ws_2, wl_3, ws_3, wo_4, wg_4, wi_4, wr_4_0, wr_4_1, wl_5, ws_5, wl_6, ws_6, w_has, w_isRider, w_isPair, w_isHour, w_in, w_in0, w_in_0_1, w_in_0_10, w_in_0_3, w_in_0_30, w_in_0_60, w_in_0_7, w_in_0_9, w_in_0_999, w_in_1_60, w_in_20_27, w_in_2_40, w_in_48_57, w_whole, w_all, wt_0, wt_1, wt_2, nI_add, nI_1, nI_mul, nI_and, nI_or, nI_sd, nI_sub, l_sub1, l_addm1, l_all, l_1shl, l_or0, l_add0, l_0add, l_m1, l_m1r, l_neg, l_nn, l_eq0, l_le0, l_0lt, l_eq1, l_m1lt, l_m1le, l_m1eq0, l_10, l_00, l_1le, nI_le_l, nI_lt_l, nI_eq_l, bc_nI, nt_nI, bit_nI, b2_ite, b2_ite1, nI_max, nI_min, isR_nI, n_2, hi_ne, hi_ni, hi_eq, hi_wL, hi_wR, hl_wI, hl_wR, hl_ne, hl_ni, hl_eq, hr_wI, hr_wL, if_true, if_false, if_pos, if_neg, true_and, and_true, not_true_eq_false, not_false_eq_true, x.n, x.h, x.b, x.mo, x.wi, x.ca, x.ro, x.ti, x.il, x.ni, x.ga, x.ri, Option.getD_none]
            exact yes (by rw [st, if_pos ⟨pb.mpr ⟨e1, hl2⟩, Or.inr ⟨b, rfl, fb.mpr (by omega)⟩⟩])
          | some b' =>
            have b0 := lackO_pos hl2
            have bl := lackO_lt hl2
            simp (disch := first | omega | exact x.s | exact hi_eq | ((repeat (first | exact x.s | apply sw_I | apply sw_L | apply sw_cp | apply sw_18 | apply sw_21 | apply sw_22 | apply sw_m12 | apply sw_m18)); done) | rfl) only [wp_ite, wp_some, w_jn, wp_r0, wp_r1, wp_b2, wp_nn, w_bc, w_nt, wo_0, wg_0, wi_0, wr_0_0, wo_1, wg_1, wi_1, wr_1_0, wr_1_1, wl_2, ws_2, wl_3, ws_3, wo_4, wg_4, wi_4, wr_4_0, wr_4_1, wl_5, ws_5, wl_6, ws_6, w_has, w_isRider, w_isPair, w_isHour, w_in, w_in0, w_in_0_1, w_in_0_10, w_in_0_3, w_in_0_30, w_in_0_60, w_in_0_7, w_in_0_9, w_in_0_999, w_in_1_60, w_in_20_27, w_in_2_40, w_in_48_57, w_whole, w_all, wt_0, wt_1, wt_2, nI_add, nI_1, nI_mul, nI_and, nI_or, nI_sd, nI_sub, l_sub1, l_addm1, l_all, l_1shl, l_or0, l_add0, l_0add, l_m1, l_m1r, l_neg, l_nn, l_eq0, l_le0, l_0lt, l_eq1, l_m1lt, l_m1le, l_m1eq0, l_10, l_00, l_1le, nI_le_l, nI_lt_l, nI_eq_l, bc_nI, nt_nI, bit_nI, b2_ite, b2_ite1, nI_max, nI_min, isR_nI, n_2, hi_ne, hi_ni, hi_eq, hi_wL, hi_wR, hl_wI, hl_wR, hl_ne, hl_ni, hl_eq, hr_wI, hr_wL, if_true, if_false, if_pos, if_neg, true_and, and_true, not_true_eq_false, not_false_eq_true, x.n, x.h, x.b, x.mo, x.wi, x.ca, x.ro, x.ti, x.il, x.ni, x.ga, x.ri, Option.getD_some]
            exact no (some b) rfl (by rw [st, if_neg (fun z => by rw [hl2] at pb; cases (pb.mp z.1).2)])
        · rw [if_neg e1]
          exact no (some b) rfl (by rw [st, if_neg (fun z => e1 (pb.mp z.1).1)])
  · obtain ⟨rfl, rfl⟩ := hJ
    unfold f_X1_away_b4
    cases hb : bst more (awayB P a) (2 ^ P.n) with
    | none =>
      unfold bI
      dsimp only
      simp (disch := first | omega | exact x.s | exact hi_eq | ((repeat (first | exact x.s | apply sw_I | apply sw_L | apply sw_cp | apply sw_18 | apply sw_21 | apply sw_22 | apply sw_m12 | apply sw_m18)); done) | rfl) only [wp_ite, wp_some, w_jn, wp_r0, wp_r1, wp_b2, wp_nn, w_bc, w_nt, wo_0, wg_0, wi_0, wr_0_0, wo_1, wg_1, wi_1, wr_1_0, wr_1_1, wl_2, ws_2, wl_3, ws_3, wo_4, wg_4, wi_4, wr_4_0, wr_4_1, wl_5, ws_5, wl_6, ws_6, w_has, w_isRider, w_isPair, w_isHour, w_in, w_in0, w_in_0_1, w_in_0_10, w_in_0_3, w_in_0_30, w_in_0_60, w_in_0_7, w_in_0_9, w_in_0_999, w_in_1_60, w_in_20_27, w_in_2_40, w_in_48_57, w_whole, w_all, wt_0, wt_1, wt_2, nI_add, nI_1, nI_mul, nI_and, nI_or, nI_sd, nI_sub, l_sub1, l_addm1, l_all, l_1shl, l_or0, l_add0, l_0add, l_m1, l_m1r, l_neg, l_nn, l_eq0, l_le0, l_0lt, l_eq1, l_m1lt, l_m1le, l_m1eq0, l_10, l_00, l_1le, nI_le_l, nI_lt_l, nI_eq_l, bc_nI, nt_nI, bit_nI, b2_ite, b2_ite1, nI_max, nI_min, isR_nI, n_2, hi_ne, hi_ni, hi_eq, hi_wL, hi_wR, hl_wI, hl_wR, hl_ne, hl_ni, hl_eq, hr_wI, hr_wL, if_true, if_false, if_pos, if_neg, true_and, and_true, not_true_eq_false, not_false_eq_true, x.n, x.h, x.b, x.mo, x.wi, x.ca, x.ro, x.ti, x.il, x.ni, x.ga, x.ri]
      exact ⟨rfl, Fr.refl, s, RwC.fr (D := []) (F := []) (G := []) Fr.refl rfl⟩
    | some b =>
      have bl := (bst_lt _ _ hb).1
      unfold bI
      dsimp only
      simp (disch := first | omega | exact x.s | exact hi_eq | ((repeat (first | exact x.s | apply sw_I | apply sw_L | apply sw_cp | apply sw_18 | apply sw_21 | apply sw_22 | apply sw_m12 | apply sw_m18)); done) | rfl) only [wp_ite, wp_some, w_jn, wp_r0, wp_r1, wp_b2, wp_nn, w_bc, w_nt, wo_0, wg_0, wi_0, wr_0_0, wo_1, wg_1, wi_1, wr_1_0, wr_1_1, wl_2, ws_2, wl_3, ws_3, wo_4, wg_4, wi_4, wr_4_0, wr_4_1, wl_5, ws_5, wl_6, ws_6, w_has, w_isRider, w_isPair, w_isHour, w_in, w_in0, w_in_0_1, w_in_0_10, w_in_0_3, w_in_0_30, w_in_0_60, w_in_0_7, w_in_0_9, w_in_0_999, w_in_1_60, w_in_20_27, w_in_2_40, w_in_48_57, w_whole, w_all, wt_0, wt_1, wt_2, nI_add, nI_1, nI_mul, nI_and, nI_or, nI_sd, nI_sub, l_sub1, l_addm1, l_all, l_1shl, l_or0, l_add0, l_0add, l_m1, l_m1r, l_neg, l_nn, l_eq0, l_le0, l_0lt, l_eq1, l_m1lt, l_m1le, l_m1eq0, l_10, l_00, l_1le, nI_le_l, nI_lt_l, nI_eq_l, bc_nI, nt_nI, bit_nI, b2_ite, b2_ite1, nI_max, nI_min, isR_nI, n_2, hi_ne, hi_ni, hi_eq, hi_wL, hi_wR, hl_wI, hl_wR, hl_ne, hl_ni, hl_eq, hr_wI, hr_wL, if_true, if_false, if_pos, if_neg, true_and, and_true, not_true_eq_false, not_false_eq_true, x.n, x.h, x.b, x.mo, x.wi, x.ca, x.ro, x.ti, x.il, x.ni, x.ga, x.ri]
      exact ⟨rfl, (by repeat (first | exact Fr.refl | exact (Fr.refl).mono rfl | refine Fr.putI ?_ rfl | refine Fr.putL ?_ rfl | refine Fr.putR ?_ rfl)), s.fr (D := [36]) (F := [52]) (G := []) (by repeat (first | exact Fr.refl | exact (Fr.refl).mono rfl | refine Fr.putI ?_ rfl | refine Fr.putL ?_ rfl | refine Fr.putR ?_ rfl)) rfl, row1⟩
end cset
