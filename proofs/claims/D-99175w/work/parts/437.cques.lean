/-! PURE 35: the class asked for rotas, more -/
theorem lg0 {k : Nat} (h : k < 2 ^ 63) : lg_cmp (nL k) 0 = 0 ↔ k = 0 := by
  rw [lg_cmp_eq]
  constructor
  · intro e
    have : (nL k).toInt = (0 : Int64).toInt := by rw [e]
    rw [show (nL k).toInt = (k : Int) from Int64.toInt_ofNat_of_lt h] at this
    have h0 : (0 : Int64).toInt = 0 := rfl
    omega
  · intro e; rw [e]; rfl
theorem nL_i {k : Nat} : Int64.toInt32 (nL k) = nI k := Int64.toInt32_ofNat'
/-- rotas counted, the first told -/
noncomputable def wayW (P : Pk) (may : Nat → Nat) : List Int64 := if cntW P may = 0 then [] else lineO P may prZ 0
section cques2
variable {σ τ : Hp} {P : Pk} {a : HS} {may : Nat → Nat} {pr : Nat → Nat → Nat} {lim v : Nat} {D F G : List Nat}
theorem cntW_le (h8 : P.hrs ≤ 8) (n8 : P.n ≤ 8) : cntW P may ≤ 16777216 := Tc.le8 n8 (all_lt h8)
theorem cntW_pos (h8 : P.hrs ≤ 8) : cntW P may ≠ 0 ↔ lstO P may 1000000 prZ = some 0 := by
  have z : ∀ r b, prS (prZ r) b = 0 := fun r b => prS_zero
  have e1 : ∀ c, Tw (fun r b => okW P may r b = true) (fun r b => prS (prZ r) b) 0 P.n (2 ^ P.hrs - 1) c ↔ Rq P may 1000000 prZ (2 ^ P.hrs - 1) c := fun c => by
    constructor
    · exact Tw.mono _ _ _ (fun r b _ _ _ h => ⟨⟨(okW_iff.mp h).1, (okW_iff.mp h).2, by rw [z]; exact Nat.zero_le _⟩, rfl⟩)
    · exact Tw.mono _ _ _ (fun r b _ _ _ h => ⟨okW_iff.mpr ⟨h.1, h.2.1⟩, rfl⟩)
  have e2 := Tc.pos (ok := okW P may) (pr := fun r b => prS (prZ r) b) (i := 0) P.n (2 ^ P.hrs - 1) (all_lt h8)
  constructor
  · intro h
    obtain ⟨c, hc⟩ := e2.mp (Nat.pos_of_ne_zero h)
    have hc' := (e1 c).mp hc
    have c0 := Tw.bound (m := 0) _ _ _ (fun r b _ _ _ => by rw [z]; exact Nat.zero_le _) hc'
    rw [Nat.zero_mul] at c0
    rw [show c = 0 by omega] at hc'
    exact minO_some.mpr ⟨hc', fun _ _ => Nat.zero_le _⟩
  · intro h
    have := e2.mpr ⟨0, (e1 0).mpr (minO_some.mp h).1⟩
    exact fun e => by unfold cntW at e; omega
theorem c_tellsWays (x : CX σ P a) (ld : LdC σ may prZ 1000000) (mk : MayOK P may) : wp (f_X1_tellsWays (some 0) σ) (fun y τ => y = nI (cntW P may) ∧ Fr [24, 25, 27, 28, 29, 30, 36] [52] [] σ τ ∧ SC τ ∧ RowC τ (wayW P may)) := by
  have x0 := x
  have cl := cntW_le (may := may) x.h8 x.n8
  unfold f_X1_tellsWays
  simp (disch := first | omega | exact x.s | exact hi_eq | ((repeat (first | exact x.s | apply sw_I | apply sw_L | apply sw_cp | apply sw_18 | apply sw_21 | apply sw_22 | apply sw_m12 | apply sw_m18)); done) | rfl) only [wp_ite, wp_some, w_jn, wp_r0, wp_r1, wp_b2, wp_nn, w_bc, w_nt, wo_0, wg_0, wi_0, w_has, w_isRider, w_isPair, w_isHour, w_in, w_in0, w_in_0_1, w_in_0_10, w_in_0_3, w_in_0_30, w_in_0_60, w_in_0_7, w_in_0_9, w_in_0_999, w_in_1_60, w_in_20_27, w_in_2_40, w_in_48_57, w_whole, w_all, wt_0, wt_1, wt_2, nI_add, nI_1, nI_mul, nI_and, nI_or, nI_sd, nI_sub, l_sub1, l_addm1, l_all, l_1shl, l_or0, l_add0, l_0add, l_m1, l_m1r, l_neg, l_nn, l_eq0, l_le0, l_0lt, l_eq1, l_m1lt, l_m1le, l_m1eq0, l_10, l_00, l_1le, nI_le_l, nI_lt_l, nI_eq_l, bc_nI, nt_nI, bit_nI, b2_ite, b2_ite1, nI_max, nI_min, isR_nI, hi_ne, hi_ni, hi_eq, hi_wL, hi_wR, hl_wI, hl_wR, hl_ne, hl_ni, hl_eq, hr_wI, hr_wL, if_true, if_false, if_pos, if_neg, true_and, and_true, not_true_eq_false, not_false_eq_true, x.n, x.h, x.b, x.mo, x.wi, x.ca, x.ro, x.ti, x.il, x.ni, x.ga, x.ri]
  rw [wp_bnd]
  refine wp_mono (c_laysWays x ld.1) (fun y τ h => ?_)
  obtain ⟨rfl, f⟩ := h
  have f0 : Fr [24, 25, 27, 28, 29, 30, 36] [52] [] σ (wI τ 0 52 0) := (f.mono rfl).putI rfl
  have ld' : LdC (wI τ 0 52 0) may prZ 1000000 := (ld.fr f rfl).fr (D := []) (F := [52]) (G := []) (Fr.refl.putI rfl) rfl
  replace x := x0.fr f rfl
  rw [wi_0 x.s]
  replace x := x0.fr f0 rfl
  simp (disch := first | omega | exact x.s | exact hi_eq | ((repeat (first | exact x.s | apply sw_I | apply sw_L | apply sw_cp | apply sw_18 | apply sw_21 | apply sw_22 | apply sw_m12 | apply sw_m18)); done) | rfl) only [wp_ite, wp_some, w_jn, wp_r0, wp_r1, wp_b2, wp_nn, w_bc, w_nt, wo_0, wg_0, wi_0, w_has, w_isRider, w_isPair, w_isHour, w_in, w_in0, w_in_0_1, w_in_0_10, w_in_0_3, w_in_0_30, w_in_0_60, w_in_0_7, w_in_0_9, w_in_0_999, w_in_1_60, w_in_20_27, w_in_2_40, w_in_48_57, w_whole, w_all, wt_0, wt_1, wt_2, nI_add, nI_1, nI_mul, nI_and, nI_or, nI_sd, nI_sub, l_sub1, l_addm1, l_all, l_1shl, l_or0, l_add0, l_0add, l_m1, l_m1r, l_neg, l_nn, l_eq0, l_le0, l_0lt, l_eq1, l_m1lt, l_m1le, l_m1eq0, l_10, l_00, l_1le, nI_le_l, nI_lt_l, nI_eq_l, bc_nI, nt_nI, bit_nI, b2_ite, b2_ite1, nI_max, nI_min, isR_nI, hi_ne, hi_ni, hi_eq, hi_wL, hi_wR, hl_wI, hl_wR, hl_ne, hl_ni, hl_eq, hr_wI, hr_wL, if_true, if_false, if_pos, if_neg, true_and, and_true, not_true_eq_false, not_false_eq_true, x.n, x.h, x.b, x.mo, x.wi, x.ca, x.ro, x.ti, x.il, x.ni, x.ga, x.ri, lg0]
  by_cases h0 : cntW P may = 0
  · rw [if_pos h0, h0]
    refine ⟨rfl, f0, ld'.sc, ?_⟩
    unfold wayW
    rw [if_pos h0]
    exact row0
  · rw [if_neg h0]
    refine c_turnTold x ld' mk (fun _ _ => Nat.zero_le _) ((cntW_pos x.h8).mp h0) (fun τ' f' s' hr' => ?_)
    rw [wp_some, nL_i]
    refine ⟨rfl, f0.then f' rfl, s', ?_⟩
    unfold wayW
    rw [if_neg h0]
    exact hr'
theorem c_rotas (x : CX σ P a) (s : SC σ) : wp (f_X1_rotas (some 0) σ) (QuC σ (nI (cntW P (mayOf P a 0))) (some (wayW P (mayOf P a 0)))) := by
  have x0 := x
  unfold f_X1_rotas
  simp (disch := first | omega | exact x.s | exact hi_eq | ((repeat (first | exact x.s | apply sw_I | apply sw_L | apply sw_cp | apply sw_18 | apply sw_21 | apply sw_22 | apply sw_m12 | apply sw_m18)); done) | rfl) only [wp_ite, wp_some, w_jn, wp_r0, wp_r1, wp_b2, wp_nn, w_bc, w_nt, wo_0, wg_0, wi_0, w_has, w_isRider, w_isPair, w_isHour, w_in, w_in0, w_in_0_1, w_in_0_10, w_in_0_3, w_in_0_30, w_in_0_60, w_in_0_7, w_in_0_9, w_in_0_999, w_in_1_60, w_in_20_27, w_in_2_40, w_in_48_57, w_whole, w_all, wt_0, wt_1, wt_2, nI_add, nI_1, nI_mul, nI_and, nI_or, nI_sd, nI_sub, l_sub1, l_addm1, l_all, l_1shl, l_or0, l_add0, l_0add, l_m1, l_m1r, l_neg, l_nn, l_eq0, l_le0, l_0lt, l_eq1, l_m1lt, l_m1le, l_m1eq0, l_10, l_00, l_1le, nI_le_l, nI_lt_l, nI_eq_l, bc_nI, nt_nI, bit_nI, b2_ite, b2_ite1, nI_max, nI_min, isR_nI, hi_ne, hi_ni, hi_eq, hi_wL, hi_wR, hl_wI, hl_wR, hl_ne, hl_ni, hl_eq, hr_wI, hr_wL, if_true, if_false, if_pos, if_neg, true_and, and_true, not_true_eq_false, not_false_eq_true, x.n, x.h, x.b, x.mo, x.wi, x.ca, x.ro, x.ti, x.il, x.ni, x.ga, x.ri]
  rw [wp_bnd]
  refine wp_mono (c_opens x (w := 0) (by decide)) (fun y τ h => ?_)
  obtain ⟨f, h1, h2⟩ := h
  replace x := x0.fr f rfl
  simp (disch := first | omega | exact x.s | exact hi_eq | ((repeat (first | exact x.s | apply sw_I | apply sw_L | apply sw_cp | apply sw_18 | apply sw_21 | apply sw_22 | apply sw_m12 | apply sw_m18)); done) | rfl) only [wp_ite, wp_some, w_jn, wp_r0, wp_r1, wp_b2, wp_nn, w_bc, w_nt, wo_0, wg_0, wi_0, w_has, w_isRider, w_isPair, w_isHour, w_in, w_in0, w_in_0_1, w_in_0_10, w_in_0_3, w_in_0_30, w_in_0_60, w_in_0_7, w_in_0_9, w_in_0_999, w_in_1_60, w_in_20_27, w_in_2_40, w_in_48_57, w_whole, w_all, wt_0, wt_1, wt_2, nI_add, nI_1, nI_mul, nI_and, nI_or, nI_sd, nI_sub, l_sub1, l_addm1, l_all, l_1shl, l_or0, l_add0, l_0add, l_m1, l_m1r, l_neg, l_nn, l_eq0, l_le0, l_0lt, l_eq1, l_m1lt, l_m1le, l_m1eq0, l_10, l_00, l_1le, nI_le_l, nI_lt_l, nI_eq_l, bc_nI, nt_nI, bit_nI, b2_ite, b2_ite1, nI_max, nI_min, isR_nI, hi_ne, hi_ni, hi_eq, hi_wL, hi_wR, hl_wI, hl_wR, hl_ne, hl_ni, hl_eq, hr_wI, hr_wL, if_true, if_false, if_pos, if_neg, true_and, and_true, not_true_eq_false, not_false_eq_true, x.n, x.h, x.b, x.mo, x.wi, x.ca, x.ro, x.ti, x.il, x.ni, x.ga, x.ri]
  rw [wp_bnd]
  refine wp_mono (c_tellsWays x ⟨h1, fun r h a1 a2 => h2 _ (by omega), (f.i rfl).trans s.1, (f.i rfl).trans s.2⟩ mayOf_ok) (fun y τ' h => ?_)
  obtain ⟨rfl, f', s', hr'⟩ := h
  rw [wp_some]
  exact ⟨rfl, (f.mono rfl).trans (f'.mono rfl), s', hr'⟩
theorem c_mended (x : CX σ P a) (s : SC σ) {r : Nat} (hr' : r < P.n) : wp (f_X1_mended (some 0) (nI r) σ) (QuC σ (lstR P (mayOf P a (2 ^ r)) (prO P a)) (lstW P (mayOf P a (2 ^ r)) (prO P a))) := by
  have n8 := x.n8
  have h8 := x.h8
  have x0 := x
  unfold f_X1_mended
  simp (disch := first | omega | exact x.s | exact hi_eq | ((repeat (first | exact x.s | apply sw_I | apply sw_L | apply sw_cp | apply sw_18 | apply sw_21 | apply sw_22 | apply sw_m12 | apply sw_m18)); done) | rfl) only [wp_ite, wp_some, w_jn, wp_r0, wp_r1, wp_b2, wp_nn, w_bc, w_nt, wo_0, wg_0, wi_0, w_has, w_isRider, w_isPair, w_isHour, w_in, w_in0, w_in_0_1, w_in_0_10, w_in_0_3, w_in_0_30, w_in_0_60, w_in_0_7, w_in_0_9, w_in_0_999, w_in_1_60, w_in_20_27, w_in_2_40, w_in_48_57, w_whole, w_all, wt_0, wt_1, wt_2, nI_add, nI_1, nI_mul, nI_and, nI_or, nI_sd, nI_sub, l_sub1, l_addm1, l_all, l_1shl, l_or0, l_add0, l_0add, l_m1, l_m1r, l_neg, l_nn, l_eq0, l_le0, l_0lt, l_eq1, l_m1lt, l_m1le, l_m1eq0, l_10, l_00, l_1le, nI_le_l, nI_lt_l, nI_eq_l, bc_nI, nt_nI, bit_nI, b2_ite, b2_ite1, nI_max, nI_min, isR_nI, n_1000000, n_2, hi_ne, hi_ni, hi_eq, hi_wL, hi_wR, hl_wI, hl_wR, hl_ne, hl_ni, hl_eq, hr_wI, hr_wL, if_true, if_false, if_pos, if_neg, true_and, and_true, not_true_eq_false, not_false_eq_true, x.n, x.h, x.b, x.mo, x.wi, x.ca, x.ro, x.ti, x.il, x.ni, x.ga, x.ri]
  rw [wp_bnd]
  refine wp_mono (c_opens x (w := 2 ^ r) (pow_lt8 (by omega))) (fun y τ h => ?_)
  obtain ⟨f, h1, h2⟩ := h
  refine wp_up P.n (fun i y τ' => y = nI i ∧ Fr [26] [] [] τ τ' ∧ ∀ q h, q < 8 → h < 8 → hi τ' 26 (8 * q + h) = if q < i then nI (prO P a q h) else 0) (fun ag i y τ' hi' hJ hag => ?_) (fun ag y τ' hJ => ?_) (by omega) ⟨rfl, Fr.refl, fun q h hq hh => by rw [if_neg (by omega)]; exact h2 _ (by omega)⟩
  · obtain ⟨rfl, f1, h3⟩ := hJ
    replace x := x0.fr ((f.mono (D' := [24, 26]) (F' := []) (G' := []) rfl).then f1 rfl) rfl
    unfold f_X1_mended_b19
    simp (disch := first | omega | exact x.s | exact hi_eq | ((repeat (first | exact x.s | apply sw_I | apply sw_L | apply sw_cp | apply sw_18 | apply sw_21 | apply sw_22 | apply sw_m12 | apply sw_m18)); done) | rfl) only [wp_ite, wp_some, w_jn, wp_r0, wp_r1, wp_b2, wp_nn, w_bc, w_nt, wo_0, wg_0, wi_0, w_has, w_isRider, w_isPair, w_isHour, w_in, w_in0, w_in_0_1, w_in_0_10, w_in_0_3, w_in_0_30, w_in_0_60, w_in_0_7, w_in_0_9, w_in_0_999, w_in_1_60, w_in_20_27, w_in_2_40, w_in_48_57, w_whole, w_all, wt_0, wt_1, wt_2, nI_add, nI_1, nI_mul, nI_and, nI_or, nI_sd, nI_sub, l_sub1, l_addm1, l_all, l_1shl, l_or0, l_add0, l_0add, l_m1, l_m1r, l_neg, l_nn, l_eq0, l_le0, l_0lt, l_eq1, l_m1lt, l_m1le, l_m1eq0, l_10, l_00, l_1le, nI_le_l, nI_lt_l, nI_eq_l, bc_nI, nt_nI, bit_nI, b2_ite, b2_ite1, nI_max, nI_min, isR_nI, n_5, hi_ne, hi_ni, hi_eq, hi_wL, hi_wR, hl_wI, hl_wR, hl_ne, hl_ni, hl_eq, hr_wI, hr_wL, if_true, if_false, if_pos, if_neg, true_and, and_true, not_true_eq_false, not_false_eq_true, x.n, x.h, x.b, x.mo, x.wi, x.ca, x.ro, x.ti, x.il, x.ni, x.ga, x.ri]
    refine wp_up P.hrs (fun j y τ' => y = nI j ∧ Fr [26] [] [] τ τ' ∧ ∀ q h, q < 8 → h < 8 → hi τ' 26 (8 * q + h) = if q < i ∨ (q = i ∧ h < j) then nI (prO P a q h) else 0) (fun ag j y τ' hj hJ hag' => ?_) (fun ag y τ' hJ => ?_) (by omega) ⟨rfl, f1, fun q h hq hh => by rw [h3 q h hq hh]; congr 1; exact propext (by omega)⟩
    · obtain ⟨rfl, f1, h3⟩ := hJ
      replace x := x0.fr ((f.mono (D' := [24, 26]) (F' := []) (G' := []) rfl).then f1 rfl) rfl
      have fin : ∀ v, v = nI (prO P a i j) → wp (ag (nI (j + 1)) (wI τ' 26 (8 * i + j) v)) (QuC σ (lstR P (mayOf P a (2 ^ r)) (prO P a)) (lstW P (mayOf P a (2 ^ r)) (prO P a))) := fun v hv =>
        hag' _ _ ⟨rfl, f1.putI rfl, fun q h hq hh => by
          by_cases e : 8 * q + h = 8 * i + j
          · obtain rfl : q = i := by omega
            obtain rfl : h = j := by omega
            rw [hi_eq, if_pos (by omega), hv]
          · rw [hi_ni e, h3 q h hq hh]
            congr 1
            exact propext (by omega)⟩
      unfold f_X1_mended_b29
      simp (disch := first | omega | exact x.s | exact hi_eq | ((repeat (first | exact x.s | apply sw_I | apply sw_L | apply sw_cp | apply sw_18 | apply sw_21 | apply sw_22 | apply sw_m12 | apply sw_m18)); done) | rfl) only [wp_ite, wp_some, w_jn, wp_r0, wp_r1, wp_b2, wp_nn, w_bc, w_nt, wo_0, wg_0, wi_0, wr_0_0, wr_0_37, wo_1, wg_1, wi_1, wr_1_0, wr_1_1, wl_2, ws_2, wl_3, ws_3, wo_4, wg_4, wi_4, wr_4_0, wr_4_1, wl_5, ws_5, wl_6, ws_6, wl_26, ws_26, w_has, w_isRider, w_isPair, w_isHour, w_in, w_in0, w_in_0_1, w_in_0_10, w_in_0_3, w_in_0_30, w_in_0_60, w_in_0_7, w_in_0_9, w_in_0_999, w_in_1_60, w_in_20_27, w_in_2_40, w_in_48_57, w_whole, w_all, wt_0, wt_1, wt_2, nI_add, nI_1, nI_mul, nI_and, nI_or, nI_sd, nI_sub, l_sub1, l_addm1, l_all, l_1shl, l_or0, l_add0, l_0add, l_m1, l_m1r, l_neg, l_nn, l_eq0, l_le0, l_0lt, l_eq1, l_m1lt, l_m1le, l_m1eq0, l_10, l_00, l_1le, nI_le_l, nI_lt_l, nI_eq_l, bc_nI, nt_nI, bit_nI, b2_ite, b2_ite1, nI_max, nI_min, isR_nI, n_100, n_6, n_8, hi_ne, hi_ni, hi_eq, hi_wL, hi_wR, hl_wI, hl_wR, hl_ne, hl_ni, hl_eq, hr_wI, hr_wL, if_true, if_false, if_pos, if_neg, true_and, and_true, not_true_eq_false, not_false_eq_true, x.n, x.h, x.b, x.mo, x.wi, x.ca, x.ro, x.ti, x.il, x.ni, x.ga, x.ri]
      split
      · rename_i e
        exact fin 0 (by unfold prO; rw [if_neg (fun z => z.2.2 e)]; rfl)
      · rename_i e
        exact fin 1 (by unfold prO; rw [if_pos ⟨hi', hj, e⟩]; rfl)
    · obtain ⟨rfl, f1, h3⟩ := hJ
      replace x := x0.fr ((f.mono (D' := [24, 26]) (F' := []) (G' := []) rfl).then f1 rfl) rfl
      unfold f_X1_mended_b29
      simp (disch := first | omega | exact x.s | exact hi_eq | ((repeat (first | exact x.s | apply sw_I | apply sw_L | apply sw_cp | apply sw_18 | apply sw_21 | apply sw_22 | apply sw_m12 | apply sw_m18)); done) | rfl) only [wp_ite, wp_some, w_jn, wp_r0, wp_r1, wp_b2, wp_nn, w_bc, w_nt, wo_0, wg_0, wi_0, wr_0_0, wr_0_37, wo_1, wg_1, wi_1, wr_1_0, wr_1_1, wl_2, ws_2, wl_3, ws_3, wo_4, wg_4, wi_4, wr_4_0, wr_4_1, wl_5, ws_5, wl_6, ws_6, wl_26, ws_26, w_has, w_isRider, w_isPair, w_isHour, w_in, w_in0, w_in_0_1, w_in_0_10, w_in_0_3, w_in_0_30, w_in_0_60, w_in_0_7, w_in_0_9, w_in_0_999, w_in_1_60, w_in_20_27, w_in_2_40, w_in_48_57, w_whole, w_all, wt_0, wt_1, wt_2, nI_add, nI_1, nI_mul, nI_and, nI_or, nI_sd, nI_sub, l_sub1, l_addm1, l_all, l_1shl, l_or0, l_add0, l_0add, l_m1, l_m1r, l_neg, l_nn, l_eq0, l_le0, l_0lt, l_eq1, l_m1lt, l_m1le, l_m1eq0, l_10, l_00, l_1le, nI_le_l, nI_lt_l, nI_eq_l, bc_nI, nt_nI, bit_nI, b2_ite, b2_ite1, nI_max, nI_min, isR_nI, n_100, n_6, n_8, hi_ne, hi_ni, hi_eq, hi_wL, hi_wR, hl_wI, hl_wR, hl_ne, hl_ni, hl_eq, hr_wI, hr_wL, if_true, if_false, if_pos, if_neg, true_and, and_true, not_true_eq_false, not_false_eq_true, x.n, x.h, x.b, x.mo, x.wi, x.ca, x.ro, x.ti, x.il, x.ni, x.ga, x.ri]
      refine hag _ _ ⟨rfl, f1, fun q h hq hh => ?_⟩
      rw [h3 q h hq hh]
      by_cases e : q < i ∨ (q = i ∧ h < P.hrs)
      · rw [if_pos e, if_pos (by omega)]
      · rw [if_neg e]
        by_cases e2 : q < i + 1
        · rw [if_pos e2]; unfold prO; rw [if_neg (by omega)]; rfl
        · rw [if_neg e2]
  · obtain ⟨rfl, f1, h3⟩ := hJ
    have ff : Fr [24, 26] [] [] σ τ' := (f.mono rfl).then f1 rfl
    replace x := x0.fr ff rfl
    have ld : LdC τ' (mayOf P a (2 ^ r)) (prO P a) 1000000 := ⟨h1.fr f1 rfl (by decide) (by decide), fun q h hq hh => by
      rw [h3 q h hq hh]
      by_cases e : q < P.n
      · rw [if_pos e]
      · rw [if_neg e]; unfold prO; rw [if_neg (fun z => e z.1)]; rfl, (ff.i rfl).trans s.1, (ff.i rfl).trans s.2⟩
    unfold f_X1_mended_b19
    simp (disch := first | omega | exact x.s | exact hi_eq | ((repeat (first | exact x.s | apply sw_I | apply sw_L | apply sw_cp | apply sw_18 | apply sw_21 | apply sw_22 | apply sw_m12 | apply sw_m18)); done) | rfl) only [wp_ite, wp_some, w_jn, wp_r0, wp_r1, wp_b2, wp_nn, w_bc, w_nt, wo_0, wg_0, wi_0, w_has, w_isRider, w_isPair, w_isHour, w_in, w_in0, w_in_0_1, w_in_0_10, w_in_0_3, w_in_0_30, w_in_0_60, w_in_0_7, w_in_0_9, w_in_0_999, w_in_1_60, w_in_20_27, w_in_2_40, w_in_48_57, w_whole, w_all, wt_0, wt_1, wt_2, nI_add, nI_1, nI_mul, nI_and, nI_or, nI_sd, nI_sub, l_sub1, l_addm1, l_all, l_1shl, l_or0, l_add0, l_0add, l_m1, l_m1r, l_neg, l_nn, l_eq0, l_le0, l_0lt, l_eq1, l_m1lt, l_m1le, l_m1eq0, l_10, l_00, l_1le, nI_le_l, nI_lt_l, nI_eq_l, bc_nI, nt_nI, bit_nI, b2_ite, b2_ite1, nI_max, nI_min, isR_nI, n_1000000, n_2, n_5, hi_ne, hi_ni, hi_eq, hi_wL, hi_wR, hl_wI, hl_wR, hl_ne, hl_ni, hl_eq, hr_wI, hr_wL, if_true, if_false, if_pos, if_neg, true_and, and_true, not_true_eq_false, not_false_eq_true, x.n, x.h, x.b, x.mo, x.wi, x.ca, x.ro, x.ti, x.il, x.ni, x.ga, x.ri]
    rw [wp_bnd]
    refine wp_mono (c_least x ld mayOf_ok (prO_le P a) (Nat.le_refl _)) (fun y τ'' h => ?_)
    obtain ⟨rfl, f2, ld2⟩ := h
    have ff2 : Fr CD CF [] σ τ'' := (ff.mono rfl).then f2 rfl
    replace x := x0.fr ff2 rfl
    unfold lstR lstW
    cases hl2 : lstO P (mayOf P a (2 ^ r)) 1000000 (prO P a) with
    | none =>
      simp (disch := first | omega | exact x.s | exact hi_eq | ((repeat (first | exact x.s | apply sw_I | apply sw_L | apply sw_cp | apply sw_18 | apply sw_21 | apply sw_22 | apply sw_m12 | apply sw_m18)); done) | rfl) only [wp_ite, wp_some, w_jn, wp_r0, wp_r1, wp_b2, wp_nn, w_bc, w_nt, wo_0, wg_0, wi_0, w_has, w_isRider, w_isPair, w_isHour, w_in, w_in0, w_in_0_1, w_in_0_10, w_in_0_3, w_in_0_30, w_in_0_60, w_in_0_7, w_in_0_9, w_in_0_999, w_in_1_60, w_in_20_27, w_in_2_40, w_in_48_57, w_whole, w_all, wt_0, wt_1, wt_2, nI_add, nI_1, nI_mul, nI_and, nI_or, nI_sd, nI_sub, l_sub1, l_addm1, l_all, l_1shl, l_or0, l_add0, l_0add, l_m1, l_m1r, l_neg, l_nn, l_eq0, l_le0, l_0lt, l_eq1, l_m1lt, l_m1le, l_m1eq0, l_10, l_00, l_1le, nI_le_l, nI_lt_l, nI_eq_l, bc_nI, nt_nI, bit_nI, b2_ite, b2_ite1, nI_max, nI_min, isR_nI, n_1000000, n_2, n_5, hi_ne, hi_ni, hi_eq, hi_wL, hi_wR, hl_wI, hl_wR, hl_ne, hl_ni, hl_eq, hr_wI, hr_wL, if_true, if_false, if_pos, if_neg, true_and, and_true, not_true_eq_false, not_false_eq_true, x.n, x.h, x.b, x.mo, x.wi, x.ca, x.ro, x.ti, x.il, x.ni, x.ga, x.ri, Option.getD_none]
      exact ⟨rfl, ff2, ld2.sc, RwC.fr ((ff.mono (D' := [24, 26, 27, 28]) (F' := []) (G' := []) rfl).then f2 rfl) rfl⟩
    | some v =>
      have v8 := lst_le (prO_le P a) hl2
      simp (disch := first | omega | exact x.s | exact hi_eq | ((repeat (first | exact x.s | apply sw_I | apply sw_L | apply sw_cp | apply sw_18 | apply sw_21 | apply sw_22 | apply sw_m12 | apply sw_m18)); done) | rfl) only [wp_ite, wp_some, w_jn, wp_r0, wp_r1, wp_b2, wp_nn, w_bc, w_nt, wo_0, wg_0, wi_0, w_has, w_isRider, w_isPair, w_isHour, w_in, w_in0, w_in_0_1, w_in_0_10, w_in_0_3, w_in_0_30, w_in_0_60, w_in_0_7, w_in_0_9, w_in_0_999, w_in_1_60, w_in_20_27, w_in_2_40, w_in_48_57, w_whole, w_all, wt_0, wt_1, wt_2, nI_add, nI_1, nI_mul, nI_and, nI_or, nI_sd, nI_sub, l_sub1, l_addm1, l_all, l_1shl, l_or0, l_add0, l_0add, l_m1, l_m1r, l_neg, l_nn, l_eq0, l_le0, l_0lt, l_eq1, l_m1lt, l_m1le, l_m1eq0, l_10, l_00, l_1le, nI_le_l, nI_lt_l, nI_eq_l, bc_nI, nt_nI, bit_nI, b2_ite, b2_ite1, nI_max, nI_min, isR_nI, n_1000000, n_2, n_5, hi_ne, hi_ni, hi_eq, hi_wL, hi_wR, hl_wI, hl_wR, hl_ne, hl_ni, hl_eq, hr_wI, hr_wL, if_true, if_false, if_pos, if_neg, true_and, and_true, not_true_eq_false, not_false_eq_true, x.n, x.h, x.b, x.mo, x.wi, x.ca, x.ro, x.ti, x.il, x.ni, x.ga, x.ri, Option.getD_some]
      refine c_turnTold x ld2 mayOf_ok (prO_le P a) hl2 (fun τ' f' s' hr' => ?_)
      rw [wp_some]
      exact ⟨rfl, ff2.then f' rfl, s', hr'⟩
end cques2
