/-! PURE 31: the class's least rota -/
theorem low_bit {m : Nat} (h0 : 0 < m) (h : m < 256) : m &&& (m - 1) = sd m (2 ^ ntz m) ∧ m.testBit (ntz m) = true ∧ ntz m < 8 := by
  have : ∀ m, m < 256 → 0 < m → m &&& (m - 1) = sd m (2 ^ ntz m) ∧ m.testBit (ntz m) = true ∧ ntz m < 8 := by decide +kernel
  exact this m h h0
/-- prices by rider and hour -/
def PrC (σ : Hp) (pr : Nat → Nat → Nat) : Prop := ∀ r h, r < 8 → h < 8 → hi σ 26 (8 * r + h) = nI (pr r h)
def LeV (ok : Nat → Nat → Prop) (pr : Nat → Nat → Nat) (τ : Hp) (j S : Nat) : Prop := ∃ v, hi τ 28 S = nI v ∧ IsMin (Tw ok (fun r b => prS (pr r) b) 0 j S) 1000000 v
section cleast
variable {σ τ : Hp} {P : Pk} {a : HS} {may : Nat → Nat} {pr : Nat → Nat → Nat} {lim : Nat}
theorem c_pricesSets (x : CX σ P a) (hz : hi σ 27 0 = 0) {r : Nat} (hr' : r < P.n) (hp : PrC σ pr) : wp (f_X1_pricesSets (some 0) (nI r) σ) (fun _ τ => Fr [27] [] [] σ τ ∧ ∀ b, b < 256 → hi τ 27 b = nI (prS (pr r) b)) := by
  have n8 := x.n8
  have x0 := x
  unfold f_X1_pricesSets
  refine wp_up 255 (fun i y τ => y = nI (i + 1) ∧ Fr [27] [] [] σ τ ∧ ∀ b, b < i + 1 → hi τ 27 b = nI (prS (pr r) b)) (fun ag i y τ hi' hJ hag => ?_) (fun ag y τ hJ => ?_) (by decide) ⟨rfl, Fr.refl, fun b hb => by rw [show b = 0 by omega, hz]; rfl⟩
  · obtain ⟨rfl, f, h1⟩ := hJ
    replace x := x0.fr f rfl
    obtain ⟨l1, l2, l3⟩ := low_bit (m := i + 1) (by omega) (by omega)
    have l4 : (i + 1) &&& i < i + 1 := Nat.lt_of_le_of_lt Nat.and_le_right (by omega)
    have hp' : hi τ 26 (8 * r + ntz (i + 1)) = nI (pr r (ntz (i + 1))) := (f.i rfl).trans (hp r _ (by omega) l3)
    unfold f_X1_pricesSets_b2
    simp (disch := first | omega | exact x.s | exact hi_eq | ((repeat (first | exact x.s | apply sw_I | apply sw_L | apply sw_cp | apply sw_18 | apply sw_21 | apply sw_22 | apply sw_m12 | apply sw_m18)); done) | rfl) only [wp_ite, wp_some, w_jn, wp_r0, wp_r1, wp_b2, wp_nn, w_bc, w_nt, wo_0, wg_0, wi_0, wr_0_37, wr_0_38, wl_26, ws_26, wl_27, ws_27, w_has, w_isRider, w_isPair, w_isHour, w_in, w_in0, w_in_0_1, w_in_0_10, w_in_0_3, w_in_0_30, w_in_0_60, w_in_0_7, w_in_0_9, w_in_0_999, w_in_1_60, w_in_20_27, w_in_2_40, w_in_48_57, w_whole, w_all, wt_0, wt_1, wt_2, nI_add, nI_1, nI_mul, nI_and, nI_or, nI_sd, nI_sub, l_sub1, l_addm1, l_all, l_1shl, l_or0, l_add0, l_0add, l_m1, l_m1r, l_neg, l_nn, l_eq0, l_le0, l_0lt, l_eq1, l_m1lt, l_m1le, l_m1eq0, l_10, l_00, l_1le, nI_le_l, nI_lt_l, nI_eq_l, bc_nI, nt_nI, bit_nI, b2_ite, b2_ite1, nI_max, nI_min, isR_nI, n_100, n_256, n_8, hi_ne, hi_ni, hi_eq, hi_wL, hi_wR, hl_wI, hl_wR, hl_ne, hl_ni, hl_eq, hr_wI, hr_wL, if_true, if_false, if_pos, if_neg, true_and, and_true, not_true_eq_false, not_false_eq_true, x.n, x.h, x.b, x.mo, x.wi, x.ca, x.ro, x.ti, x.il, x.ni, x.ga, x.ri, Nat.add_sub_cancel, h1, hp']
    refine hag _ _ ⟨rfl, (by repeat (first | exact f | exact (f).mono rfl | refine Fr.putI ?_ rfl | refine Fr.putL ?_ rfl | refine Fr.putR ?_ rfl)), fun b hb => ?_⟩
    by_cases e : b = i + 1
    · rw [e, hi_eq, prS_upd (by omega) l2, ← l1, Nat.add_sub_cancel]
    · rw [hi_ni e]; exact h1 b (by omega)
  · obtain ⟨rfl, f, h1⟩ := hJ
    unfold f_X1_pricesSets_b2
    simp (disch := first | omega | exact x.s | exact hi_eq | ((repeat (first | exact x.s | apply sw_I | apply sw_L | apply sw_cp | apply sw_18 | apply sw_21 | apply sw_22 | apply sw_m12 | apply sw_m18)); done) | rfl) only [wp_ite, wp_some, w_jn, wp_r0, wp_r1, wp_b2, wp_nn, w_bc, w_nt, wo_0, wg_0, wi_0, wr_0_37, wr_0_38, wl_26, ws_26, wl_27, ws_27, w_has, w_isRider, w_isPair, w_isHour, w_in, w_in0, w_in_0_1, w_in_0_10, w_in_0_3, w_in_0_30, w_in_0_60, w_in_0_7, w_in_0_9, w_in_0_999, w_in_1_60, w_in_20_27, w_in_2_40, w_in_48_57, w_whole, w_all, wt_0, wt_1, wt_2, nI_add, nI_1, nI_mul, nI_and, nI_or, nI_sd, nI_sub, l_sub1, l_addm1, l_all, l_1shl, l_or0, l_add0, l_0add, l_m1, l_m1r, l_neg, l_nn, l_eq0, l_le0, l_0lt, l_eq1, l_m1lt, l_m1le, l_m1eq0, l_10, l_00, l_1le, nI_le_l, nI_lt_l, nI_eq_l, bc_nI, nt_nI, bit_nI, b2_ite, b2_ite1, nI_max, nI_min, isR_nI, n_100, n_256, n_8, hi_ne, hi_ni, hi_eq, hi_wL, hi_wR, hl_wI, hl_wR, hl_ne, hl_ni, hl_eq, hr_wI, hr_wL, if_true, if_false, if_pos, if_neg, true_and, and_true, not_true_eq_false, not_false_eq_true, x.n, x.h, x.b, x.mo, x.wi, x.ca, x.ro, x.ti, x.il, x.ni, x.ga, x.ri]
    exact ⟨f, h1⟩
theorem c_laysLeast (x : CX σ P a) (hm : AI σ 24 8 may) (hml : ∀ r, sbs (may r) (2 ^ P.hrs - 1)) (hp : PrC σ pr) (hpl : ∀ r h, pr r h ≤ 999) (hl' : hi σ 0 42 = nI lim) (hlim : lim ≤ 1000000) (hz : hi σ 27 0 = 0) : wp (f_X1_laysLeast (some 0) σ) (fun v τ => v = nI ((lstO P may lim pr).getD 1000000) ∧ Fr [27, 28] [] [] σ τ ∧ hi τ 27 0 = 0) := by
  have n8 := x.n8
  have h8 := x.h8
  have x0 := x
  have W8 : 2 ^ P.hrs ≤ 256 := pow_le8 h8
  have Wp : 0 < 2 ^ P.hrs := Nat.two_pow_pos _
  obtain ⟨ok, hok⟩ : ∃ ok, ok = okC P.most may lim pr := ⟨_, rfl⟩
  have okb : ∀ r b, ok r b ↔ sbs b (may r) ∧ pop b ≤ P.most r ∧ prS (pr r) b ≤ lim := fun r b => by rw [hok]; exact Iff.rfl
  have ok0 : ∀ r, ok r 0 := fun r => (okb r 0).mpr ⟨sbs_zero _, by rw [pop_zero]; exact Nat.zero_le _, by rw [show prS (pr r) 0 = 0 from sumN_zero fun i _ => by rw [Nat.zero_testBit]; rfl]; exact Nat.zero_le _⟩
  have pr0 : ∀ r, prS (pr r) 0 = 0 := fun r => sumN_zero fun i _ => by rw [Nat.zero_testBit]; rfl
  have prl : ∀ r b, prS (pr r) b ≤ 7992 := fun r b => by have := prS_le (b := b) (hpl r); have := pop_le b; omega
  have twl : ∀ j S c, Tw ok (fun r b => prS (pr r) b) 0 j S c → c ≤ 7992 := fun j S c h => by
    have := Tw.bound (m := 999) _ _ _ (fun r b _ _ _ => prS_le (hpl r)) h
    have := pop_le S
    omega
  have tw0 : ∀ j S c, Tw ok (fun r b => prS (pr r) b) 0 j S c → Tw ok (fun r b => prS (pr r) b) 0 (j + 1) S c := fun j S c h => ⟨0, c, ok0 _, sbs_zero _, by rw [sd_zero]; exact h, by show c = c + prS (pr (0 + j)) 0; rw [pr0]; rfl⟩
  unfold f_X1_laysLeast
  refine wp_up 256 (fun i y τ => y = nI i ∧ Fr [27, 28] [] [] σ τ ∧ hi τ 27 0 = 0 ∧ ∀ S, S < i → LeV ok pr τ 0 S) (fun ag i y τ hi' hJ hag => ?_) (fun ag y τ hJ => ?_) (by decide) ⟨rfl, Fr.refl, hz, fun S hS => absurd hS (Nat.not_lt_zero _)⟩
  · obtain ⟨rfl, f, z, h1⟩ := hJ
    replace x := x0.fr f rfl
    have fin : ∀ v, IsMin (Tw ok (fun r b => prS (pr r) b) 0 0 i) 1000000 v → wp (ag (nI (i + 1)) (wI τ 28 i (nI v))) (fun v τ => v = nI ((lstO P may lim pr).getD 1000000) ∧ Fr [27, 28] [] [] σ τ ∧ hi τ 27 0 = 0) := fun v hv =>
      hag _ _ ⟨rfl, f.putI rfl, z, fun S hS => by
        by_cases e : S = i
        · rw [e]; exact ⟨v, hi_eq, hv⟩
        · obtain ⟨w, g1, g2⟩ := h1 S (by omega)
          exact ⟨w, by rw [hi_ni e]; exact g1, g2⟩⟩
    unfold f_X1_laysLeast_b2
    simp (disch := first | omega | exact x.s | exact hi_eq | ((repeat (first | exact x.s | apply sw_I | apply sw_L | apply sw_cp | apply sw_18 | apply sw_21 | apply sw_22 | apply sw_m12 | apply sw_m18)); done) | rfl) only [wp_ite, wp_some, w_jn, wp_r0, wp_r1, wp_b2, wp_nn, w_bc, w_nt, wo_0, wg_0, wi_0, wr_0_39, wl_28, ws_28, w_has, w_isRider, w_isPair, w_isHour, w_in, w_in0, w_in_0_1, w_in_0_10, w_in_0_3, w_in_0_30, w_in_0_60, w_in_0_7, w_in_0_9, w_in_0_999, w_in_1_60, w_in_20_27, w_in_2_40, w_in_48_57, w_whole, w_all, wt_0, wt_1, wt_2, nI_add, nI_1, nI_mul, nI_and, nI_or, nI_sd, nI_sub, l_sub1, l_addm1, l_all, l_1shl, l_or0, l_add0, l_0add, l_m1, l_m1r, l_neg, l_nn, l_eq0, l_le0, l_0lt, l_eq1, l_m1lt, l_m1le, l_m1eq0, l_10, l_00, l_1le, nI_le_l, nI_lt_l, nI_eq_l, bc_nI, nt_nI, bit_nI, b2_ite, b2_ite1, nI_max, nI_min, isR_nI, n_1000000, n_256, hi_ne, hi_ni, hi_eq, hi_wL, hi_wR, hl_wI, hl_wR, hl_ne, hl_ni, hl_eq, hr_wI, hr_wL, if_true, if_false, if_pos, if_neg, true_and, and_true, not_true_eq_false, not_false_eq_true, x.n, x.h, x.b, x.mo, x.wi, x.ca, x.ro, x.ti, x.il, x.ni, x.ga, x.ri]
    split
    · rename_i e
      exact fin 0 (Or.inr ⟨by decide, ⟨e, rfl⟩, fun c _ => Nat.zero_le _⟩)
    · rename_i e
      exact fin 1000000 (Or.inl ⟨rfl, fun c hc => e hc.1⟩)
  · obtain ⟨rfl, f, z, h1⟩ := hJ
    unfold f_X1_laysLeast_b2
    simp (disch := first | omega | exact x.s | exact hi_eq | ((repeat (first | exact x.s | apply sw_I | apply sw_L | apply sw_cp | apply sw_18 | apply sw_21 | apply sw_22 | apply sw_m12 | apply sw_m18)); done) | rfl) only [wp_ite, wp_some, w_jn, wp_r0, wp_r1, wp_b2, wp_nn, w_bc, w_nt, wo_0, wg_0, wi_0, wr_0_39, wl_28, ws_28, w_has, w_isRider, w_isPair, w_isHour, w_in, w_in0, w_in_0_1, w_in_0_10, w_in_0_3, w_in_0_30, w_in_0_60, w_in_0_7, w_in_0_9, w_in_0_999, w_in_1_60, w_in_20_27, w_in_2_40, w_in_48_57, w_whole, w_all, wt_0, wt_1, wt_2, nI_add, nI_1, nI_mul, nI_and, nI_or, nI_sd, nI_sub, l_sub1, l_addm1, l_all, l_1shl, l_or0, l_add0, l_0add, l_m1, l_m1r, l_neg, l_nn, l_eq0, l_le0, l_0lt, l_eq1, l_m1lt, l_m1le, l_m1eq0, l_10, l_00, l_1le, nI_le_l, nI_lt_l, nI_eq_l, bc_nI, nt_nI, bit_nI, b2_ite, b2_ite1, nI_max, nI_min, isR_nI, n_1000000, n_256, hi_ne, hi_ni, hi_eq, hi_wL, hi_wR, hl_wI, hl_wR, hl_ne, hl_ni, hl_eq, hr_wI, hr_wL, if_true, if_false, if_pos, if_neg, true_and, and_true, not_true_eq_false, not_false_eq_true, x.n, x.h, x.b, x.mo, x.wi, x.ca, x.ro, x.ti, x.il, x.ni, x.ga, x.ri]
    refine wp_up P.n (fun r y τ => y = nI r ∧ Fr [27, 28] [] [] σ τ ∧ hi τ 27 0 = 0 ∧ ∀ S, S < 2 ^ P.hrs → LeV ok pr τ r S) (fun ag r y τ hr' hJ hag => ?_) (fun ag y τ hJ => ?_) (by omega) ⟨rfl, f, z, fun S hS => h1 S (by omega)⟩
    · obtain ⟨rfl, f, z, h1⟩ := hJ
      replace x := x0.fr f rfl
      unfold f_X1_laysLeast_b33
      simp (disch := first | omega | exact x.s | exact hi_eq | ((repeat (first | exact x.s | apply sw_I | apply sw_L | apply sw_cp | apply sw_18 | apply sw_21 | apply sw_22 | apply sw_m12 | apply sw_m18)); done) | rfl) only [wp_ite, wp_some, w_jn, wp_r0, wp_r1, wp_b2, wp_nn, w_bc, w_nt, wo_0, wg_0, wi_0, w_has, w_isRider, w_isPair, w_isHour, w_in, w_in0, w_in_0_1, w_in_0_10, w_in_0_3, w_in_0_30, w_in_0_60, w_in_0_7, w_in_0_9, w_in_0_999, w_in_1_60, w_in_20_27, w_in_2_40, w_in_48_57, w_whole, w_all, wt_0, wt_1, wt_2, nI_add, nI_1, nI_mul, nI_and, nI_or, nI_sd, nI_sub, l_sub1, l_addm1, l_all, l_1shl, l_or0, l_add0, l_0add, l_m1, l_m1r, l_neg, l_nn, l_eq0, l_le0, l_0lt, l_eq1, l_m1lt, l_m1le, l_m1eq0, l_10, l_00, l_1le, nI_le_l, nI_lt_l, nI_eq_l, bc_nI, nt_nI, bit_nI, b2_ite, b2_ite1, nI_max, nI_min, isR_nI, n_5, hi_ne, hi_ni, hi_eq, hi_wL, hi_wR, hl_wI, hl_wR, hl_ne, hl_ni, hl_eq, hr_wI, hr_wL, if_true, if_false, if_pos, if_neg, true_and, and_true, not_true_eq_false, not_false_eq_true, x.n, x.h, x.b, x.mo, x.wi, x.ca, x.ro, x.ti, x.il, x.ni, x.ga, x.ri]
      rw [wp_bnd]
      refine wp_mono (c_pricesSets x z hr' (fun r h a1 a2 => (f.i rfl).trans (hp r h a1 a2))) (fun _ τ' h => ?_)
      obtain ⟨f', h2⟩ := h
      have h1' : ∀ S, S < 2 ^ P.hrs → LeV ok pr τ' r S := fun S hS => by
        obtain ⟨v, g1, g2⟩ := h1 S hS
        exact ⟨v, by rw [f'.i rfl]; exact g1, g2⟩
      replace f := f.trans (f'.mono (D' := [27, 28]) (F' := []) (G' := []) rfl)
      clear h1 f' z
      replace x := x0.fr f rfl
      simp (disch := first | omega | exact x.s | exact hi_eq | ((repeat (first | exact x.s | apply sw_I | apply sw_L | apply sw_cp | apply sw_18 | apply sw_21 | apply sw_22 | apply sw_m12 | apply sw_m18)); done) | rfl) only [wp_ite, wp_some, w_jn, wp_r0, wp_r1, wp_b2, wp_nn, w_bc, w_nt, wo_0, wg_0, wi_0, w_has, w_isRider, w_isPair, w_isHour, w_in, w_in0, w_in_0_1, w_in_0_10, w_in_0_3, w_in_0_30, w_in_0_60, w_in_0_7, w_in_0_9, w_in_0_999, w_in_1_60, w_in_20_27, w_in_2_40, w_in_48_57, w_whole, w_all, wt_0, wt_1, wt_2, nI_add, nI_1, nI_mul, nI_and, nI_or, nI_sd, nI_sub, l_sub1, l_addm1, l_all, l_1shl, l_or0, l_add0, l_0add, l_m1, l_m1r, l_neg, l_nn, l_eq0, l_le0, l_0lt, l_eq1, l_m1lt, l_m1le, l_m1eq0, l_10, l_00, l_1le, nI_le_l, nI_lt_l, nI_eq_l, bc_nI, nt_nI, bit_nI, b2_ite, b2_ite1, nI_max, nI_min, isR_nI, n_5, hi_ne, hi_ni, hi_eq, hi_wL, hi_wR, hl_wI, hl_wR, hl_ne, hl_ni, hl_eq, hr_wI, hr_wL, if_true, if_false, if_pos, if_neg, true_and, and_true, not_true_eq_false, not_false_eq_true, x.n, x.h, x.b, x.mo, x.wi, x.ca, x.ro, x.ti, x.il, x.ni, x.ga, x.ri]
      have W1 : 2 ^ P.hrs - 1 < 256 := by omega
      refine wp_up (2 ^ P.hrs - 1) (fun i y τ => y = nI (2 ^ P.hrs - 1 - i) ∧ Fr [27, 28] [] [] σ τ ∧ (∀ b, b < 256 → hi τ 27 b = nI (prS (pr r) b)) ∧ (∀ S, S < 2 ^ P.hrs → 2 ^ P.hrs - 1 - i < S → LeV ok pr τ (r + 1) S) ∧ ∀ S, S ≤ 2 ^ P.hrs - 1 - i → LeV ok pr τ r S) (fun ag i y τ hi' hJ hag' => ?_) (fun ag y τ hJ => ?_) (by omega) ⟨rfl, f, h2, fun S hS hS' => by omega, fun S hS => h1' S (by omega)⟩
      · obtain ⟨rfl, f, h2, h3, h4⟩ := hJ
        replace x := x0.fr f rfl
        have hm' : AI τ 24 8 may := hm.fr f rfl (by decide) (by decide)
        have ml := hml r
        obtain ⟨set, hset⟩ : ∃ set, 2 ^ P.hrs - 1 - i = set := ⟨_, rfl⟩
        rw [hset] at h3 h4 ⊢
        have s1 : 0 < set := by omega
        have s2 : set < 256 := by omega
        have sm : set &&& may r < 256 := and_lt _ s2
        have hmr := hm' r (by omega)
        unfold f_X1_laysLeast_b51
        simp (disch := first | omega | exact x.s | exact hi_eq | ((repeat (first | exact x.s | apply sw_I | apply sw_L | apply sw_cp | apply sw_18 | apply sw_21 | apply sw_22 | apply sw_m12 | apply sw_m18)); done) | rfl) only [wp_ite, wp_some, w_jn, wp_r0, wp_r1, wp_b2, wp_nn, w_bc, w_nt, wo_0, wg_0, wi_0, wr_0_35, wl_24, ws_24, w_has, w_isRider, w_isPair, w_isHour, w_in, w_in0, w_in_0_1, w_in_0_10, w_in_0_3, w_in_0_30, w_in_0_60, w_in_0_7, w_in_0_9, w_in_0_999, w_in_1_60, w_in_20_27, w_in_2_40, w_in_48_57, w_whole, w_all, wt_0, wt_1, wt_2, nI_add, nI_1, nI_mul, nI_and, nI_or, nI_sd, nI_sub, l_sub1, l_addm1, l_all, l_1shl, l_or0, l_add0, l_0add, l_m1, l_m1r, l_neg, l_nn, l_eq0, l_le0, l_0lt, l_eq1, l_m1lt, l_m1le, l_m1eq0, l_10, l_00, l_1le, nI_le_l, nI_lt_l, nI_eq_l, bc_nI, nt_nI, bit_nI, b2_ite, b2_ite1, nI_max, nI_min, isR_nI, n_100, hi_ne, hi_ni, hi_eq, hi_wL, hi_wR, hl_wI, hl_wR, hl_ne, hl_ni, hl_eq, hr_wI, hr_wL, if_true, if_false, if_pos, if_neg, true_and, and_true, not_true_eq_false, not_false_eq_true, x.n, x.h, x.b, x.mo, x.wi, x.ca, x.ro, x.ti, x.il, x.ni, x.ga, x.ri, hmr]
        have step0 : ∀ c, (Tw ok (fun r b => prS (pr r) b) 0 r set c ∨ ∃ b c', 0 < b ∧ ok r b ∧ sbs b set ∧ Tw ok (fun r b => prS (pr r) b) 0 r (sd set b) c' ∧ c = c' + prS (pr r) b) ↔ Tw ok (fun r b => prS (pr r) b) 0 (r + 1) set c := by
          intro c
          constructor
          · rintro (h | ⟨b, c', -, g1, g2, g3, g4⟩)
            · exact tw0 _ _ _ h
            · exact ⟨b, c', by rw [Nat.zero_add]; exact g1, g2, g3, by rw [Nat.zero_add]; exact g4⟩
          · rintro ⟨b, c', g1, g2, g3, g4⟩
            rw [Nat.zero_add] at g1 g4
            dsimp only at g4
            by_cases hb : b = 0
            · subst hb
              rw [sd_zero] at g3
              rw [pr0, Nat.add_zero] at g4
              rw [g4]; exact Or.inl g3
            · exact Or.inr ⟨b, c', by omega, g1, g2, g3, g4⟩
        refine wp_lp (fun y τ' => ∃ sub, y = nI sub ∧ sbs sub (set &&& may r) ∧ Fr [27, 28] [] [] σ τ' ∧ (∀ b, hi τ' 27 b = hi τ 27 b) ∧ (∀ S, S ≠ set → hi τ' 28 S = hi τ 28 S) ∧ ∃ v, hi τ' 28 set = nI v ∧ IsMin (fun c => Tw ok (fun r b => prS (pr r) b) 0 r set c ∨ ∃ b c', sub < b ∧ ok r b ∧ sbs b set ∧ Tw ok (fun r b => prS (pr r) b) 0 r (sd set b) c' ∧ c = c' + prS (pr r) b) 1000000 v) (fun y _ => ix y) (fun ag'' y τ' hI hag'' => ?_) 2000 _ _ ⟨set &&& may r, rfl, sbs_refl _, f, fun _ => rfl, fun _ _ => rfl, ?_⟩ ?_
        · obtain ⟨sub, rfl, k1, f', k2, k3, v, k4, k5⟩ := hI
          replace x := x0.fr f' rfl
          have sb8 : sub < 256 := sbs_lt k1 sm
          have p8 := pop_le sub
          have m4 := x.m4 r
          have kv := k5.le
          have q1 : hi τ' 27 sub = nI (prS (pr r) sub) := (k2 sub).trans (h2 sub sb8)
          have q2 := prl r sub
          have q3 : hi τ' 0 42 = nI lim := (f'.i rfl).trans hl'
          unfold f_X1_laysLeast_b67
          simp (disch := first | omega | exact x.s | exact hi_eq | ((repeat (first | exact x.s | apply sw_I | apply sw_L | apply sw_cp | apply sw_18 | apply sw_21 | apply sw_22 | apply sw_m12 | apply sw_m18)); done) | rfl) only [wp_ite, wp_some, w_jn, wp_r0, wp_r1, wp_b2, wp_nn, w_bc, w_nt, wo_0, wg_0, wi_0, wr_0_2, wr_0_38, wr_0_39, wl_7, ws_7, wl_27, ws_27, wl_28, ws_28, w_has, w_isRider, w_isPair, w_isHour, w_in, w_in0, w_in_0_1, w_in_0_10, w_in_0_3, w_in_0_30, w_in_0_60, w_in_0_7, w_in_0_9, w_in_0_999, w_in_1_60, w_in_20_27, w_in_2_40, w_in_48_57, w_whole, w_all, wt_0, wt_1, wt_2, nI_add, nI_1, nI_mul, nI_and, nI_or, nI_sd, nI_sub, l_sub1, l_addm1, l_all, l_1shl, l_or0, l_add0, l_0add, l_m1, l_m1r, l_neg, l_nn, l_eq0, l_le0, l_0lt, l_eq1, l_m1lt, l_m1le, l_m1eq0, l_10, l_00, l_1le, nI_le_l, nI_lt_l, nI_eq_l, bc_nI, nt_nI, bit_nI, b2_ite, b2_ite1, nI_max, nI_min, isR_nI, n_100, n_2, hi_ne, hi_ni, hi_eq, hi_wL, hi_wR, hl_wI, hl_wR, hl_ne, hl_ni, hl_eq, hr_wI, hr_wL, if_true, if_false, if_pos, if_neg, true_and, and_true, not_true_eq_false, not_false_eq_true, x.n, x.h, x.b, x.mo, x.wi, x.ca, x.ro, x.ti, x.il, x.ni, x.ga, x.ri, q1, q3]
          split
          · rename_i hs0
            subst hs0
            refine hag' _ _ ⟨by rw [show 2 ^ P.hrs - 1 - (i + 1) = set - 1 by omega], f', fun b hb => (k2 b).trans (h2 b hb), fun S hS hS' => ?_, fun S hS => ?_⟩
            · by_cases e : S = set
              · rw [e]; exact ⟨v, k4, k5.congr step0⟩
              · obtain ⟨w, g1, g2⟩ := h3 S hS (by omega)
                exact ⟨w, by rw [k3 S e]; exact g1, g2⟩
            · obtain ⟨w, g1, g2⟩ := h4 S (by omega)
              exact ⟨w, by rw [k3 S (by omega)]; exact g1, g2⟩
          · rename_i hs0
            have nx := sub_next_lt (some := set &&& may r) (show 0 < sub by omega)
            have nxs : sbs ((sub - 1) &&& (set &&& may r)) (set &&& may r) := sbs_and_r _ _
            have sks : sbs sub set := sbs_trans k1 (sbs_and_l _ _)
            have skm : sbs sub (may r) := sbs_trans k1 (sbs_and_r _ _)
            have bsm : ∀ b, ok r b → sbs b set → sbs b (set &&& may r) := fun b g1 g2 => sbs_and g2 ((okb r b).mp g1).1
            have skip : ¬ ok r sub → wp (ag'' (nI ((sub - 1) &&& (set &&& may r))) τ') (fun v τ => v = nI ((lstO P may lim pr).getD 1000000) ∧ Fr [27, 28] [] [] σ τ ∧ hi τ 27 0 = 0) := fun hno =>
              hag'' _ _ ⟨_, rfl, nxs, f', k2, k3, v, k4, k5.congr fun c => or_congr_right (exists_congr fun b => exists_congr fun c' => ⟨fun g => ⟨(sub_cut k1 (bsm b g.2.1 g.2.2.1) (by omega)).mpr (Or.inl g.1), g.2⟩, fun g => ⟨by
                rcases (sub_cut k1 (bsm b g.2.1 g.2.2.1) (by omega)).mp g.1 with h | h
                · exact h
                · subst h; exact absurd g.2.1 hno, g.2⟩⟩)⟩ (by rw [ix_nI (by omega), ix_nI (by omega)]; exact nx)
            split
            · rename_i hq
              exact skip fun h => by have := ((okb r sub).mp h).2.1; omega
            · split
              · rename_i hq
                exact skip fun h => by have := ((okb r sub).mp h).2.2; omega
              · rename_i hq1 hq2
                have oks : ok r sub := (okb r sub).mpr ⟨skm, by omega, by omega⟩
                have sdl : sd set sub < set := by
                  have h1 := sbs_le (sbs_sd set sub)
                  have h2 : sd set sub ≠ set := fun e => by
                    have h3 := sd_and_self set sub
                    rw [e] at h3
                    have h4 : sub &&& set = sub := sks
                    rw [Nat.and_comm, h3] at h4
                    omega
                  omega
                obtain ⟨w, g1, g2⟩ := h4 (sd set sub) (by omega)
                have g1' : hi τ' 28 (sd set sub) = nI w := by rw [k3 _ (by omega)]; exact g1
                have gw := g2.le
                simp (disch := first | omega | exact x.s | exact hi_eq | ((repeat (first | exact x.s | apply sw_I | apply sw_L | apply sw_cp | apply sw_18 | apply sw_21 | apply sw_22 | apply sw_m12 | apply sw_m18)); done) | rfl) only [wp_ite, wp_some, w_jn, wp_r0, wp_r1, wp_b2, wp_nn, w_bc, w_nt, wo_0, wg_0, wi_0, wr_0_2, wr_0_38, wr_0_39, wl_7, ws_7, wl_27, ws_27, wl_28, ws_28, w_has, w_isRider, w_isPair, w_isHour, w_in, w_in0, w_in_0_1, w_in_0_10, w_in_0_3, w_in_0_30, w_in_0_60, w_in_0_7, w_in_0_9, w_in_0_999, w_in_1_60, w_in_20_27, w_in_2_40, w_in_48_57, w_whole, w_all, wt_0, wt_1, wt_2, nI_add, nI_1, nI_mul, nI_and, nI_or, nI_sd, nI_sub, l_sub1, l_addm1, l_all, l_1shl, l_or0, l_add0, l_0add, l_m1, l_m1r, l_neg, l_nn, l_eq0, l_le0, l_0lt, l_eq1, l_m1lt, l_m1le, l_m1eq0, l_10, l_00, l_1le, nI_le_l, nI_lt_l, nI_eq_l, bc_nI, nt_nI, bit_nI, b2_ite, b2_ite1, nI_max, nI_min, isR_nI, n_100, n_2, hi_ne, hi_ni, hi_eq, hi_wL, hi_wR, hl_wI, hl_wR, hl_ne, hl_ni, hl_eq, hr_wI, hr_wL, if_true, if_false, if_pos, if_neg, true_and, and_true, not_true_eq_false, not_false_eq_true, x.n, x.h, x.b, x.mo, x.wi, x.ca, x.ro, x.ti, x.il, x.ni, x.ga, x.ri, g1', k4, q1]
                refine hag'' _ _ ⟨_, rfl, nxs, f'.putI rfl, fun b => by rw [hi_ne (by decide)]; exact k2 b, fun S hS => by rw [hi_ni hS]; exact k3 S hS, min v (w + prS (pr r) sub), hi_eq, ?_⟩ (by rw [ix_nI (by omega), ix_nI (by omega)]; exact nx)
                have hmin := k5.or2 (g2.add (prS (pr r) sub) (fun c hc => by have := twl _ _ _ hc; omega))
                rw [show min v (w + prS (pr r) sub) = min v (min 1000000 (w + prS (pr r) sub)) by omega]
                refine hmin.congr fun c => ⟨fun g => ?_, fun g => ?_⟩
                · rcases g with (g | ⟨b, c', g⟩) | ⟨c', g⟩
                  · exact Or.inl g
                  · exact Or.inr ⟨b, c', (sub_cut k1 (bsm b g.2.1 g.2.2.1) (by omega)).mpr (Or.inl g.1), g.2⟩
                  · exact Or.inr ⟨sub, c', nx, oks, sks, g.1, g.2⟩
                · rcases g with g | ⟨b, c', g⟩
                  · exact Or.inl (Or.inl g)
                  · rcases (sub_cut k1 (bsm b g.2.1 g.2.2.1) (by omega)).mp g.1 with h | h
                    · exact Or.inl (Or.inr ⟨b, c', h, g.2⟩)
                    · subst h
                      exact Or.inr ⟨c', g.2.2.2.1, g.2.2.2.2⟩
        · obtain ⟨v, g1, g2⟩ := h4 set (Nat.le_refl _)
          refine ⟨v, g1, g2.congr fun c => ⟨fun g => Or.inl g, fun g => ?_⟩⟩
          rcases g with g | ⟨b, c', g, g', g'', -⟩
          · exact g
          · have := sbs_le (sbs_and g'' ((okb r b).mp g').1)
            omega
        · rw [ix_nI (by omega)]; omega
      · obtain ⟨rfl, f, h2, h3, h4⟩ := hJ
        replace x := x0.fr f rfl
        rw [Nat.sub_self] at *
        unfold f_X1_laysLeast_b51
        simp (disch := first | omega | exact x.s | exact hi_eq | ((repeat (first | exact x.s | apply sw_I | apply sw_L | apply sw_cp | apply sw_18 | apply sw_21 | apply sw_22 | apply sw_m12 | apply sw_m18)); done) | rfl) only [wp_ite, wp_some, w_jn, wp_r0, wp_r1, wp_b2, wp_nn, w_bc, w_nt, wo_0, wg_0, wi_0, wr_0_35, wl_24, ws_24, w_has, w_isRider, w_isPair, w_isHour, w_in, w_in0, w_in_0_1, w_in_0_10, w_in_0_3, w_in_0_30, w_in_0_60, w_in_0_7, w_in_0_9, w_in_0_999, w_in_1_60, w_in_20_27, w_in_2_40, w_in_48_57, w_whole, w_all, wt_0, wt_1, wt_2, nI_add, nI_1, nI_mul, nI_and, nI_or, nI_sd, nI_sub, l_sub1, l_addm1, l_all, l_1shl, l_or0, l_add0, l_0add, l_m1, l_m1r, l_neg, l_nn, l_eq0, l_le0, l_0lt, l_eq1, l_m1lt, l_m1le, l_m1eq0, l_10, l_00, l_1le, nI_le_l, nI_lt_l, nI_eq_l, bc_nI, nt_nI, bit_nI, b2_ite, b2_ite1, nI_max, nI_min, isR_nI, n_100, hi_ne, hi_ni, hi_eq, hi_wL, hi_wR, hl_wI, hl_wR, hl_ne, hl_ni, hl_eq, hr_wI, hr_wL, if_true, if_false, if_pos, if_neg, true_and, and_true, not_true_eq_false, not_false_eq_true, x.n, x.h, x.b, x.mo, x.wi, x.ca, x.ro, x.ti, x.il, x.ni, x.ga, x.ri]
        refine hag _ _ ⟨rfl, f, (h2 0 (by decide)).trans (by rw [pr0]; rfl), fun S hS => ?_⟩
        by_cases e : S = 0
        · obtain ⟨v, g1, g2⟩ := h4 0 (Nat.le_refl _)
          rw [e]
          refine ⟨v, g1, g2.congr fun c => ⟨tw0 _ _ _, ?_⟩⟩
          rintro ⟨b, c', q1, q2, q3, q4⟩
          obtain rfl : b = 0 := by have := sbs_le q2; omega
          rw [sd_zero] at q3
          dsimp only at q4
          rw [pr0, Nat.add_zero] at q4
          rw [q4]; exact q3
        · exact h3 S hS (by omega)
    · obtain ⟨rfl, f, z, h1⟩ := hJ
      replace x := x0.fr f rfl
      obtain ⟨v, g1, g2⟩ := h1 (2 ^ P.hrs - 1) (by omega)
      have gv := g2.le
      unfold f_X1_laysLeast_b33
      simp (disch := first | omega | exact x.s | exact hi_eq | ((repeat (first | exact x.s | apply sw_I | apply sw_L | apply sw_cp | apply sw_18 | apply sw_21 | apply sw_22 | apply sw_m12 | apply sw_m18)); done) | rfl) only [wp_ite, wp_some, w_jn, wp_r0, wp_r1, wp_b2, wp_nn, w_bc, w_nt, wo_0, wg_0, wi_0, wr_0_39, wl_28, ws_28, w_has, w_isRider, w_isPair, w_isHour, w_in, w_in0, w_in_0_1, w_in_0_10, w_in_0_3, w_in_0_30, w_in_0_60, w_in_0_7, w_in_0_9, w_in_0_999, w_in_1_60, w_in_20_27, w_in_2_40, w_in_48_57, w_whole, w_all, wt_0, wt_1, wt_2, nI_add, nI_1, nI_mul, nI_and, nI_or, nI_sd, nI_sub, l_sub1, l_addm1, l_all, l_1shl, l_or0, l_add0, l_0add, l_m1, l_m1r, l_neg, l_nn, l_eq0, l_le0, l_0lt, l_eq1, l_m1lt, l_m1le, l_m1eq0, l_10, l_00, l_1le, nI_le_l, nI_lt_l, nI_eq_l, bc_nI, nt_nI, bit_nI, b2_ite, b2_ite1, nI_max, nI_min, isR_nI, n_100, n_1000000, n_5, hi_ne, hi_ni, hi_eq, hi_wL, hi_wR, hl_wI, hl_wR, hl_ne, hl_ni, hl_eq, hr_wI, hr_wL, if_true, if_false, if_pos, if_neg, true_and, and_true, not_true_eq_false, not_false_eq_true, x.n, x.h, x.b, x.mo, x.wi, x.ca, x.ro, x.ti, x.il, x.ni, x.ga, x.ri, g1]
      have := (minO_of g2).1
      refine ⟨?_, f, z⟩
      rw [show min 1000000 v = v by omega, this, hok]
      rfl
end cleast
