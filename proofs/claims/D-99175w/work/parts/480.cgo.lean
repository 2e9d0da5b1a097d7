/-! PURE 60: a horse copied; nights go (the class) -/
def HO (σ : Hp) (t : Nat) : Prop := Ok σ t 1 ∧ hr σ t 0 = some (t + 1) ∧ hr σ t 1 = some (t + 2) ∧ Ok σ (t + 1) 100 ∧ (hk σ (t + 1)).2 = 8 ∧ Ok σ (t + 2) 100 ∧ (hk σ (t + 2)).2 = 8
/-- only the numbers of a horse's three cells have changed -/
def Bec (σ τ : Hp) (t : Nat) : Prop := hn τ = hn σ ∧ hu τ = hu σ ∧ hk τ = hk σ ∧ hr τ = hr σ ∧ hl τ = hl σ ∧ ∀ c, c ≠ t → c ≠ t + 1 → c ≠ t + 2 → hi τ c = hi σ c
section cbec
variable {σ τ : Hp} {P : Pk} {a : HS} {s t : Nat}
theorem CH.ho (h : CH σ s a) : HO σ s := h.1
theorem ho_1 (h : Sh σ) : HO σ 1 := ⟨so_1 h, sp_1_0 h, sp_1_1 h, so_2 h, sl_2 h, so_3 h, sl_3 h⟩
theorem ho_4 (h : Sh σ) : HO σ 4 := ⟨so_4 h, sp_4_0 h, sp_4_1 h, so_5 h, sl_5 h, so_6 h, sl_6 h⟩
theorem ho_15 (h : Sh σ) : HO σ 15 := ⟨so_15 h, sp_15_0 h, sp_15_1 h, so_16 h, sl_16 h, so_17 h, sl_17 h⟩
theorem c_becomes (ho : HO σ t) (ha : CH σ s a) (hst : s + 2 < t ∨ t + 2 < s) : wp (f_X2_becomes (some t) (some s) σ) (fun _ τ => Bec σ τ t ∧ CH τ t a) := by
  obtain ⟨⟨q1, q2, q3, q4, q5, q6, q7⟩, q8, q9, q10, q11, q12, q13⟩ := ha
  obtain ⟨p1, p2, p3, p4, p5, p6, p7⟩ := ho
  unfold f_X2_becomes
  rw [wp_gR, q2]
  refine ⟨q1, ?_⟩
  rw [wp_gR, p2]
  refine ⟨p1, ?_⟩
  rw [show (8 : Int32) = nI 8 from rfl, w_cp q4 p4 (by omega) (by omega), wp_gR, hr_cp, q3]
  refine ⟨q1, ?_⟩
  rw [wp_gR, hr_cp, p3]
  refine ⟨p1, ?_⟩
  rw [w_cp (σ := cpI σ (s + 1) 0 (t + 1) 0 8) q6 p6 (by rw [hk_cp]; omega) (by rw [hk_cp]; omega)]
  generalize hυ : cpI (cpI σ (s + 1) 0 (t + 1) 0 8) (s + 2) 0 (t + 2) 0 8 = υ
  have o1 : Ok υ s 1 := by rw [← hυ]; exact q1
  have o2 : Ok υ t 1 := by rw [← hυ]; exact p1
  have e0 : hi υ s = hi σ s := by rw [← hυ, cp_ne (by omega), cp_ne (by omega)]
  have et : hi υ t = hi σ t := by rw [← hυ, cp_ne (by omega), cp_ne (by omega)]
  have e1 : ∀ h, h < 8 → hi υ (t + 1) h = a.rota h := fun h hh => by rw [← hυ, cp_ne (by omega), cp_eq hh]; exact q8 h hh
  have e2 : ∀ h, h < 8 → hi υ (t + 2) h = a.tired h := fun h hh => by rw [← hυ, cp_eq hh, cp_ne (by omega)]; exact q9 h hh
  have e3 : ∀ c, c ≠ t → c ≠ t + 1 → c ≠ t + 2 → hi υ c = hi σ c := fun c h1 h2 h3 => by rw [← hυ, cp_ne h3, cp_ne h2]
  have r0 : hr υ = hr σ := by rw [← hυ]; rfl
  have l0 : hl υ = hl σ := by rw [← hυ]; rfl
  have k0 : hk υ = hk σ := by rw [← hυ]; rfl
  have n0 : hn υ = hn σ := by rw [← hυ]; rfl
  have u0 : hu υ = hu σ := by rw [← hυ]; rfl
  have hne : s ≠ t := by omega
  simp (disch := omega) only [wp_gI, wp_pI, okv0, wp_some, o1, o2, Ok_wI, true_and, hi_ne, e0, q10, q11, q12, q13]
  refine ⟨⟨n0, u0, k0, r0, l0, fun c h1 h2 h3 => ?_⟩, ⟨⟨by rw [Ok_wI, Ok_wI, Ok_wI, Ok_wI]; exact o2, ?_, ?_, ?_, ?_, ?_, ?_⟩, fun h hh => ?_, fun h hh => ?_, ?_, ?_, ?_, ?_⟩⟩
  · rw [hi_ne h1, hi_ne h1, hi_ne h1, hi_ne h1]; exact e3 c h1 h2 h3
  · show hr υ t 0 = _; rw [r0]; exact p2
  · show hr υ t 1 = _; rw [r0]; exact p3
  · show Ok υ (t + 1) 100; unfold Ok; rw [n0, k0]; exact p4
  · show (hk υ (t + 1)).2 = 8; rw [k0]; exact p5
  · show Ok υ (t + 2) 100; unfold Ok; rw [n0, k0]; exact p6
  · show (hk υ (t + 2)).2 = 8; rw [k0]; exact p7
  · rw [hi_ne (by omega), hi_ne (by omega), hi_ne (by omega), hi_ne (by omega)]; exact e1 h hh
  · rw [hi_ne (by omega), hi_ne (by omega), hi_ne (by omega), hi_ne (by omega)]; exact e2 h hh
  · rw [hi_ni (by decide), hi_ni (by decide), hi_ni (by decide), hi_eq]
  · rw [hi_ni (by decide), hi_ni (by decide), hi_eq]
  · rw [hi_ni (by decide), hi_eq]
  · rw [hi_eq]
theorem Bec.fr4 (h : Bec σ τ 4) : Fr [4, 5, 6] [] [] σ τ := by
  obtain ⟨h1, h2, h3, h4, h5, h6⟩ := h
  refine ⟨h1, h2, h3, fun c i => ⟨fun q => ?_, fun _ => by rw [h4]⟩⟩
  rw [h5]
  refine ⟨?_, rfl⟩
  by_cases e4 : c = 4
  · subst e4; cases (show false = true from q)
  · by_cases e5 : c = 5
    · subst e5; cases (show false = true from q)
    · by_cases e6 : c = 6
      · subst e6; cases (show false = true from q)
      · rw [h6 c e4 e5 e6]
/-- nights, one behind another -/
def goI (P : Pk) (a : HS) : Nat → HS
  | 0 => a
  | k + 1 => goN P (goI P a k)
theorem goI_ok (h : HOK P.n a) : ∀ k, HOK P.n (goI P a k) := by
  intro k
  induction k with
  | zero => exact h
  | succ k ih => exact goN_ok ih
theorem c_nightsGo {k : Nat} (x : CY σ P) (ha : CH σ s a) (hok : HOK P.n a) (hs1 : s = 1 ∨ s = 4) (hk' : k ≤ 60) : wp (f_X1_nightsGo (some 0) (some s) (nI k) σ) (fun _ τ => Fr [18, 19, s, s + 2] [18, 19, 20, 28, 29] [] σ τ ∧ CH τ s (goI P a k)) := by
  have x0 := x
  unfold f_X1_nightsGo
  refine wp_up k (fun i y τ => y = nI i ∧ Fr [18, 19, s, s + 2] [18, 19, 20, 28, 29] [] σ τ ∧ CH τ s (goI P a i)) (fun ag i y τ hi' hJ hag => ?_) (fun ag y τ hJ => ?_) (by omega) ⟨rfl, Fr.refl, ha⟩
  · obtain ⟨rfl, f, h1⟩ := hJ
    have x : CY τ P := by rcases hs1 with rfl | rfl <;> exact x0.fr f rfl
    unfold f_X1_nightsGo_b2
    simp (disch := first | omega | exact x.s | exact hi_eq | ((repeat (first | exact x.s | apply sw_I | apply sw_L | apply sw_cp | apply sw_18 | apply sw_21 | apply sw_22 | apply sw_m12 | apply sw_m18)); done) | rfl) only [wp_ite, wp_some, y_jn, wp_r0, wp_r1, wp_b2, y_nn, w_bc, w_nt, wo_0, wg_0, wi_0, w_has, w_isRider, w_isPair, w_isHour, w_in, w_in0, w_in_0_1, w_in_0_10, w_in_0_3, w_in_0_30, w_in_0_60, w_in_0_7, w_in_0_9, w_in_0_999, w_in_1_60, w_in_20_27, w_in_2_40, w_in_48_57, w_whole, w_all, wt_0, wt_1, wt_2, nI_add, nI_1, nI_mul, nI_and, nI_or, nI_sd, nI_sub, l_sub1, l_addm1, l_all, l_1shl, l_or0, l_add0, l_0add, l_m1, l_m1r, l_neg, l_nn, l_eq0, l_le0, l_0lt, l_eq1, l_m1lt, l_m1le, l_m1eq0, l_10, l_00, l_1le, nI_le_l, nI_lt_l, nI_eq_l, bc_nI, nt_nI, bit_nI, b2_ite, b2_ite1, nI_max, nI_min, isR_nI, hi_ne, hi_ni, hi_eq, y_iL, y_iR, y_lI, y_lR, hl_ne, hl_ni, hl_eq, y_rI, y_rL, if_true, if_false, if_pos, if_neg, true_and, and_true, not_true_eq_false, not_false_eq_true, x.n, x.h, x.b, x.mo, x.wi, x.ca]
    rw [wp_bnd]
    refine wp_mono (c_nightGoes x.s x.2.1 x.pk h1 (goI_ok hok i) hs1) (fun _ τ' h => ?_)
    exact hag _ _ ⟨rfl, f.trans h.1, h.2.1⟩
  · obtain ⟨rfl, f, h1⟩ := hJ
    unfold f_X1_nightsGo_b2
    simp (disch := first | omega | exact x0.s | exact hi_eq | ((repeat (first | exact x0.s | apply sw_I | apply sw_L | apply sw_cp | apply sw_18 | apply sw_21 | apply sw_22 | apply sw_m12 | apply sw_m18)); done) | rfl) only [wp_ite, wp_some, y_jn, wp_r0, wp_r1, wp_b2, y_nn, w_bc, w_nt, wo_0, wg_0, wi_0, w_has, w_isRider, w_isPair, w_isHour, w_in, w_in0, w_in_0_1, w_in_0_10, w_in_0_3, w_in_0_30, w_in_0_60, w_in_0_7, w_in_0_9, w_in_0_999, w_in_1_60, w_in_20_27, w_in_2_40, w_in_48_57, w_whole, w_all, wt_0, wt_1, wt_2, nI_add, nI_1, nI_mul, nI_and, nI_or, nI_sd, nI_sub, l_sub1, l_addm1, l_all, l_1shl, l_or0, l_add0, l_0add, l_m1, l_m1r, l_neg, l_nn, l_eq0, l_le0, l_0lt, l_eq1, l_m1lt, l_m1le, l_m1eq0, l_10, l_00, l_1le, nI_le_l, nI_lt_l, nI_eq_l, bc_nI, nt_nI, bit_nI, b2_ite, b2_ite1, nI_max, nI_min, isR_nI, hi_ne, hi_ni, hi_eq, y_iL, y_iR, y_lI, y_lR, hl_ne, hl_ni, hl_eq, y_rI, y_rL, if_true, if_false, if_pos, if_neg, true_and, and_true, not_true_eq_false, not_false_eq_true, x0.n, x0.h, x0.b, x0.mo, x0.wi, x0.ca]
    exact ⟨f, h1⟩
def wrsI (t : Nat → Int32) : Nat → Int32
  | 0 => 0
  | n + 1 => imax (wrsI t n) (t n)
def firR (P : Pk) (a : HS) (n : Nat) : Int32 × Option (List Int64) := match fstN (fun k => decide (gapN P (goI P a k) ≠ 0)) n with
  | none => (-2, none)
  | some k => (nI k, some [(nI (ntz (gapN P (goI P a k)))).toInt64])
/-- the longest run without gaps: how long, where it begins, the run now -/
def vigI (P : Pk) (a : HS) : Nat → Int32 × Int32 × Int32
  | 0 => (0, -1, 0)
  | k + 1 => (imax (vigI P a k).1 (if gapN P (goI P a k) = 0 then (vigI P a k).2.2 + 1 else 0), (if (if gapN P (goI P a k) = 0 then (vigI P a k).2.2 + 1 else 0) ≤ (vigI P a k).1 then (vigI P a k).2.1 else nI k - (if gapN P (goI P a k) = 0 then (vigI P a k).2.2 + 1 else 0) + 1), (if gapN P (goI P a k) = 0 then (vigI P a k).2.2 + 1 else 0))
theorem c_gaps (x : CX σ P a) (s : SC σ) : wp (f_X1_gaps (some 0) σ) (QuC σ (nI (gapN P a)) (some [(nI (pop (gapN P a))).toInt64, (nI (ridN P a)).toInt64])) := by
  have x0 := x
  have g8 := gapN_lt x.pk x.ok
  generalize hQ : QuC σ (nI (gapN P a)) (some [(nI (pop (gapN P a))).toInt64, (nI (ridN P a)).toInt64]) = Q
  unfold f_X1_gaps
  simp (disch := first | omega | exact x.s | exact hi_eq | ((repeat (first | exact x.s | apply sw_I | apply sw_L | apply sw_cp | apply sw_18 | apply sw_21 | apply sw_22 | apply sw_m12 | apply sw_m18)); done) | rfl) only [wp_ite, wp_some, y_jn, wp_r0, wp_r1, wp_b2, y_nn, w_bc, w_nt, wo_0, wg_0, wi_0, wr_0_0, wo_1, wg_1, wi_1, wr_1_0, wr_1_1, wl_2, ws_2, wl_3, ws_3, w_has, w_isRider, w_isPair, w_isHour, w_in, w_in0, w_in_0_1, w_in_0_10, w_in_0_3, w_in_0_30, w_in_0_60, w_in_0_7, w_in_0_9, w_in_0_999, w_in_1_60, w_in_20_27, w_in_2_40, w_in_48_57, w_whole, w_all, wt_0, wt_1, wt_2, nI_add, nI_1, nI_mul, nI_and, nI_or, nI_sd, nI_sub, l_sub1, l_addm1, l_all, l_1shl, l_or0, l_add0, l_0add, l_m1, l_m1r, l_neg, l_nn, l_eq0, l_le0, l_0lt, l_eq1, l_m1lt, l_m1le, l_m1eq0, l_10, l_00, l_1le, nI_le_l, nI_lt_l, nI_eq_l, bc_nI, nt_nI, bit_nI, b2_ite, b2_ite1, nI_max, nI_min, isR_nI, hi_ne, hi_ni, hi_eq, y_iL, y_iR, y_lI, y_lR, hl_ne, hl_ni, hl_eq, y_rI, y_rL, if_true, if_false, if_pos, if_neg, true_and, and_true, not_true_eq_false, not_false_eq_true, x.n, x.h, x.b, x.mo, x.wi, x.ca, x.ro, x.ti, x.il, x.ni, x.ga, x.ri]
  rw [wp_bnd]
  refine wp_mono (c_rides x.s x.2.1 x.pk x.2.2.2.1 x.ok (Or.inl rfl)) (fun _ τ h => ?_)
  obtain ⟨f, h1, h2, -⟩ := h
  replace x := x0.fr f rfl
  simp (disch := first | omega | exact x.s | exact hi_eq | ((repeat (first | exact x.s | apply sw_I | apply sw_L | apply sw_cp | apply sw_18 | apply sw_21 | apply sw_22 | apply sw_m12 | apply sw_m18)); done) | rfl) only [wp_ite, wp_some, y_jn, wp_r0, wp_r1, wp_b2, y_nn, w_bc, w_nt, wo_0, wg_0, wi_0, wr_0_0, wo_1, wg_1, wi_1, wr_1_0, wr_1_1, wl_2, ws_2, wl_3, ws_3, w_has, w_isRider, w_isPair, w_isHour, w_in, w_in0, w_in_0_1, w_in_0_10, w_in_0_3, w_in_0_30, w_in_0_60, w_in_0_7, w_in_0_9, w_in_0_999, w_in_1_60, w_in_20_27, w_in_2_40, w_in_48_57, w_whole, w_all, wt_0, wt_1, wt_2, nI_add, nI_1, nI_mul, nI_and, nI_or, nI_sd, nI_sub, l_sub1, l_addm1, l_all, l_1shl, l_or0, l_add0, l_0add, l_m1, l_m1r, l_neg, l_nn, l_eq0, l_le0, l_0lt, l_eq1, l_m1lt, l_m1le, l_m1eq0, l_10, l_00, l_1le, nI_le_l, nI_lt_l, nI_eq_l, bc_nI, nt_nI, bit_nI, b2_ite, b2_ite1, nI_max, nI_min, isR_nI, hi_ne, hi_ni, hi_eq, y_iL, y_iR, y_lI, y_lR, hl_ne, hl_ni, hl_eq, y_rI, y_rL, if_true, if_false, if_pos, if_neg, true_and, and_true, not_true_eq_false, not_false_eq_true, x.n, x.h, x.b, x.mo, x.wi, x.ca, x.ro, x.ti, x.il, x.ni, x.ga, x.ri, h1, h2]
  rw [← hQ]
  exact ⟨rfl, (by repeat (first | exact f | exact (f).mono rfl | refine Fr.putI ?_ rfl | refine Fr.putL ?_ rfl | refine Fr.putR ?_ rfl)), s.fr (D := [18, 19, 36]) (F := [18, 19, 20, 28, 29, 52]) (G := []) (by repeat (first | exact f | exact (f).mono rfl | refine Fr.putI ?_ rfl | refine Fr.putL ?_ rfl | refine Fr.putR ?_ rfl)) rfl, row2⟩
theorem c_first (x : CX σ P a) (s : SC σ) {n : Nat} (h1n : 1 ≤ n) (hn' : n ≤ 60) : wp (f_X1_first (some 0) (nI n) σ) (QuC σ (firR P a n).1 (firR P a n).2) := by
  have x0 := x
  have hin : ((1 : Int32) ≤ nI n ∧ nI n ≤ nI 60) := ⟨by rw [l_1le (by omega)]; exact h1n, by rw [nI_le_l (by omega) (by decide)]; exact hn'⟩
  unfold f_X1_first
  simp (disch := first | omega | exact x.s | exact hi_eq | ((repeat (first | exact x.s | apply sw_I | apply sw_L | apply sw_cp | apply sw_18 | apply sw_21 | apply sw_22 | apply sw_m12 | apply sw_m18)); done) | rfl) only [wp_ite, wp_some, y_jn, wp_r0, wp_r1, wp_b2, y_nn, w_bc, w_nt, wo_0, wg_0, wi_0, wr_0_0, wr_0_1, wo_1, wg_1, wi_1, wr_1_0, wr_1_1, wl_2, ws_2, wl_3, ws_3, wo_4, wg_4, wi_4, wr_4_0, wr_4_1, wl_5, ws_5, wl_6, ws_6, w_has, w_isRider, w_isPair, w_isHour, w_in, w_in0, w_in_0_1, w_in_0_10, w_in_0_3, w_in_0_30, w_in_0_60, w_in_0_7, w_in_0_9, w_in_0_999, w_in_1_60, w_in_20_27, w_in_2_40, w_in_48_57, w_whole, w_all, wt_0, wt_1, wt_2, nI_add, nI_1, nI_mul, nI_and, nI_or, nI_sd, nI_sub, l_sub1, l_addm1, l_all, l_1shl, l_or0, l_add0, l_0add, l_m1, l_m1r, l_neg, l_nn, l_eq0, l_le0, l_0lt, l_eq1, l_m1lt, l_m1le, l_m1eq0, l_10, l_00, l_1le, nI_le_l, nI_lt_l, nI_eq_l, bc_nI, nt_nI, bit_nI, b2_ite, b2_ite1, nI_max, nI_min, isR_nI, n_2, n_60, hi_ne, hi_ni, hi_eq, y_iL, y_iR, y_lI, y_lR, hl_ne, hl_ni, hl_eq, y_rI, y_rL, if_true, if_false, if_pos, if_neg, true_and, and_true, not_true_eq_false, not_false_eq_true, x.n, x.h, x.b, x.mo, x.wi, x.ca, x.ro, x.ti, x.il, x.ni, x.ga, x.ri, hin]
  rw [wp_bnd]
  refine wp_mono (c_becomes (ho_4 x.s) x.2.2.2.1 (Or.inl (by decide))) (fun _ τ h => ?_)
  obtain ⟨hb, hc⟩ := h
  have f := hb.fr4
  generalize hQ : QuC σ (firR P a n).1 (firR P a n).2 = Q
  refine wp_up n (fun i y τ' => y = nI i ∧ Fr [4, 5, 6, 18, 19] [18, 19, 20, 28, 29] [] σ τ' ∧ CH τ' 4 (goI P a i) ∧ ∀ k, k < i → gapN P (goI P a k) = 0) (fun ag i y τ' hi' hJ hag => ?_) (fun ag y τ' hJ => ?_) (by omega) ⟨rfl, f.mono rfl, hc, fun k hk' => absurd hk' (Nat.not_lt_zero _)⟩
  · obtain ⟨rfl, f1, k1, k2⟩ := hJ
    replace x := x0.fr f1 rfl
    have g8 := gapN_lt x.pk (goI_ok x.ok i)
    unfold f_X1_first_b27
    simp (disch := first | omega | exact x.s | exact hi_eq | ((repeat (first | exact x.s | apply sw_I | apply sw_L | apply sw_cp | apply sw_18 | apply sw_21 | apply sw_22 | apply sw_m12 | apply sw_m18)); done) | rfl) only [wp_ite, wp_some, y_jn, wp_r0, wp_r1, wp_b2, y_nn, w_bc, w_nt, wo_0, wg_0, wi_0, wr_0_1, wo_4, wg_4, wi_4, wr_4_0, wr_4_1, wl_5, ws_5, wl_6, ws_6, w_has, w_isRider, w_isPair, w_isHour, w_in, w_in0, w_in_0_1, w_in_0_10, w_in_0_3, w_in_0_30, w_in_0_60, w_in_0_7, w_in_0_9, w_in_0_999, w_in_1_60, w_in_20_27, w_in_2_40, w_in_48_57, w_whole, w_all, wt_0, wt_1, wt_2, nI_add, nI_1, nI_mul, nI_and, nI_or, nI_sd, nI_sub, l_sub1, l_addm1, l_all, l_1shl, l_or0, l_add0, l_0add, l_m1, l_m1r, l_neg, l_nn, l_eq0, l_le0, l_0lt, l_eq1, l_m1lt, l_m1le, l_m1eq0, l_10, l_00, l_1le, nI_le_l, nI_lt_l, nI_eq_l, bc_nI, nt_nI, bit_nI, b2_ite, b2_ite1, nI_max, nI_min, isR_nI, hi_ne, hi_ni, hi_eq, y_iL, y_iR, y_lI, y_lR, hl_ne, hl_ni, hl_eq, y_rI, y_rL, if_true, if_false, if_pos, if_neg, true_and, and_true, not_true_eq_false, not_false_eq_true, x.n, x.h, x.b, x.mo, x.wi, x.ca, x.ro, x.ti, x.il, x.ni, x.ga, x.ri]
    rw [wp_bnd]
    refine wp_mono (c_nightGoes x.s x.2.1 x.pk k1 (goI_ok x.ok i) (Or.inr rfl)) (fun _ τ2 h => ?_)
    obtain ⟨f2, k3, k4⟩ := h
    have f3 := f1.then f2 rfl
    replace x := x0.fr f3 rfl
    simp (disch := first | omega | exact x.s | exact hi_eq | ((repeat (first | exact x.s | apply sw_I | apply sw_L | apply sw_cp | apply sw_18 | apply sw_21 | apply sw_22 | apply sw_m12 | apply sw_m18)); done) | rfl) only [wp_ite, wp_some, y_jn, wp_r0, wp_r1, wp_b2, y_nn, w_bc, w_nt, wo_0, wg_0, wi_0, wr_0_1, wo_4, wg_4, wi_4, wr_4_0, wr_4_1, wl_5, ws_5, wl_6, ws_6, w_has, w_isRider, w_isPair, w_isHour, w_in, w_in0, w_in_0_1, w_in_0_10, w_in_0_3, w_in_0_30, w_in_0_60, w_in_0_7, w_in_0_9, w_in_0_999, w_in_1_60, w_in_20_27, w_in_2_40, w_in_48_57, w_whole, w_all, wt_0, wt_1, wt_2, nI_add, nI_1, nI_mul, nI_and, nI_or, nI_sd, nI_sub, l_sub1, l_addm1, l_all, l_1shl, l_or0, l_add0, l_0add, l_m1, l_m1r, l_neg, l_nn, l_eq0, l_le0, l_0lt, l_eq1, l_m1lt, l_m1le, l_m1eq0, l_10, l_00, l_1le, nI_le_l, nI_lt_l, nI_eq_l, bc_nI, nt_nI, bit_nI, b2_ite, b2_ite1, nI_max, nI_min, isR_nI, hi_ne, hi_ni, hi_eq, y_iL, y_iR, y_lI, y_lR, hl_ne, hl_ni, hl_eq, y_rI, y_rL, if_true, if_false, if_pos, if_neg, true_and, and_true, not_true_eq_false, not_false_eq_true, x.n, x.h, x.b, x.mo, x.wi, x.ca, x.ro, x.ti, x.il, x.ni, x.ga, x.ri, k4]
    split
    · rename_i e
      exact hag _ _ ⟨rfl, f3, k3, fun k hk' => by
        by_cases ek : k = i
        · rw [ek]; exact e
        · exact k2 k (by omega)⟩
    · rename_i e
      rw [← hQ]
      unfold firR
      rw [fstN_eq (f := fun k => decide (gapN P (goI P a k) ≠ 0)) hi' (decide_eq_true e) (fun q hq => decide_eq_false (fun z => z (k2 q hq)))]
      exact ⟨rfl, (by repeat (first | exact f3 | exact (f3).mono rfl | refine Fr.putI ?_ rfl | refine Fr.putL ?_ rfl | refine Fr.putR ?_ rfl)), s.fr (D := [4, 5, 6, 18, 19, 36]) (F := [18, 19, 20, 28, 29, 52]) (G := []) (by repeat (first | exact f3 | exact (f3).mono rfl | refine Fr.putI ?_ rfl | refine Fr.putL ?_ rfl | refine Fr.putR ?_ rfl)) rfl, row1⟩
  · obtain ⟨rfl, f1, k1, k2⟩ := hJ
    replace x := x0.fr f1 rfl
    unfold f_X1_first_b27
    simp (disch := first | omega | exact x.s | exact hi_eq | ((repeat (first | exact x.s | apply sw_I | apply sw_L | apply sw_cp | apply sw_18 | apply sw_21 | apply sw_22 | apply sw_m12 | apply sw_m18)); done) | rfl) only [wp_ite, wp_some, y_jn, wp_r0, wp_r1, wp_b2, y_nn, w_bc, w_nt, wo_0, wg_0, wi_0, wr_0_1, wo_4, wg_4, wi_4, wr_4_0, wr_4_1, wl_5, ws_5, wl_6, ws_6, w_has, w_isRider, w_isPair, w_isHour, w_in, w_in0, w_in_0_1, w_in_0_10, w_in_0_3, w_in_0_30, w_in_0_60, w_in_0_7, w_in_0_9, w_in_0_999, w_in_1_60, w_in_20_27, w_in_2_40, w_in_48_57, w_whole, w_all, wt_0, wt_1, wt_2, nI_add, nI_1, nI_mul, nI_and, nI_or, nI_sd, nI_sub, l_sub1, l_addm1, l_all, l_1shl, l_or0, l_add0, l_0add, l_m1, l_m1r, l_neg, l_nn, l_eq0, l_le0, l_0lt, l_eq1, l_m1lt, l_m1le, l_m1eq0, l_10, l_00, l_1le, nI_le_l, nI_lt_l, nI_eq_l, bc_nI, nt_nI, bit_nI, b2_ite, b2_ite1, nI_max, nI_min, isR_nI, hi_ne, hi_ni, hi_eq, y_iL, y_iR, y_lI, y_lR, hl_ne, hl_ni, hl_eq, y_rI, y_rL, if_true, if_false, if_pos, if_neg, true_and, and_true, not_true_eq_false, not_false_eq_true, x.n, x.h, x.b, x.mo, x.wi, x.ca, x.ro, x.ti, x.il, x.ni, x.ga, x.ri]
    rw [← hQ]
    have : fstN (fun k => decide (gapN P (goI P a k) ≠ 0)) n = none := by
      cases hf : fstN (fun k => decide (gapN P (goI P a k) ≠ 0)) n with
      | none => rfl
      | some q =>
        obtain ⟨a1, a2, -⟩ := fstN_some hf
        exact absurd (k2 q a1) (of_decide_eq_true a2)
    unfold firR
    rw [this]
    exact ⟨rfl, f1.mono rfl, s.fr f1 rfl, RwC.fr f1 rfl⟩
theorem c_later (x : CX σ P a) (s : SC σ) {n : Nat} (hn' : n ≤ 60) : wp (f_X1_later (some 0) (nI n) σ) (QuC σ ((goI P a n).gaps - a.gaps) (some [(sumI (goI P a n).tired P.n).toInt64, (wrsI (goI P a n).tired P.n).toInt64])) := by
  have x0 := x
  have n8 := x.n8
  have hin : ((0 : Int32) ≤ nI n ∧ nI n ≤ nI 60) := ⟨by rw [l_nn (by omega)]; trivial, by rw [nI_le_l (by omega) (by decide)]; exact hn'⟩
  generalize hQ : QuC σ ((goI P a n).gaps - a.gaps) (some [(sumI (goI P a n).tired P.n).toInt64, (wrsI (goI P a n).tired P.n).toInt64]) = Q
  unfold f_X1_later
  simp (disch := first | omega | exact x.s | exact hi_eq | ((repeat (first | exact x.s | apply sw_I | apply sw_L | apply sw_cp | apply sw_18 | apply sw_21 | apply sw_22 | apply sw_m12 | apply sw_m18)); done) | rfl) only [wp_ite, wp_some, y_jn, wp_r0, wp_r1, wp_b2, y_nn, w_bc, w_nt, wo_0, wg_0, wi_0, wr_0_0, wr_0_1, wo_1, wg_1, wi_1, wr_1_0, wr_1_1, wl_2, ws_2, wl_3, ws_3, wo_4, wg_4, wi_4, wr_4_0, wr_4_1, wl_5, ws_5, wl_6, ws_6, w_has, w_isRider, w_isPair, w_isHour, w_in, w_in0, w_in_0_1, w_in_0_10, w_in_0_3, w_in_0_30, w_in_0_60, w_in_0_7, w_in_0_9, w_in_0_999, w_in_1_60, w_in_20_27, w_in_2_40, w_in_48_57, w_whole, w_all, wt_0, wt_1, wt_2, nI_add, nI_1, nI_mul, nI_and, nI_or, nI_sd, nI_sub, l_sub1, l_addm1, l_all, l_1shl, l_or0, l_add0, l_0add, l_m1, l_m1r, l_neg, l_nn, l_eq0, l_le0, l_0lt, l_eq1, l_m1lt, l_m1le, l_m1eq0, l_10, l_00, l_1le, nI_le_l, nI_lt_l, nI_eq_l, bc_nI, nt_nI, bit_nI, b2_ite, b2_ite1, nI_max, nI_min, isR_nI, n_4, n_60, hi_ne, hi_ni, hi_eq, y_iL, y_iR, y_lI, y_lR, hl_ne, hl_ni, hl_eq, y_rI, y_rL, if_true, if_false, if_pos, if_neg, true_and, and_true, not_true_eq_false, not_false_eq_true, x.n, x.h, x.b, x.mo, x.wi, x.ca, x.ro, x.ti, x.il, x.ni, x.ga, x.ri, hin]
  rw [wp_bnd]
  refine wp_mono (c_becomes (ho_4 x.s) x.2.2.2.1 (Or.inl (by decide))) (fun _ τ h => ?_)
  obtain ⟨hb, hc⟩ := h
  have f := hb.fr4
  replace x := x0.fr f rfl
  simp (disch := first | omega | exact x.s | exact hi_eq | ((repeat (first | exact x.s | apply sw_I | apply sw_L | apply sw_cp | apply sw_18 | apply sw_21 | apply sw_22 | apply sw_m12 | apply sw_m18)); done) | rfl) only [wp_ite, wp_some, y_jn, wp_r0, wp_r1, wp_b2, y_nn, w_bc, w_nt, wo_0, wg_0, wi_0, wr_0_0, wr_0_1, wo_1, wg_1, wi_1, wr_1_0, wr_1_1, wl_2, ws_2, wl_3, ws_3, wo_4, wg_4, wi_4, wr_4_0, wr_4_1, wl_5, ws_5, wl_6, ws_6, w_has, w_isRider, w_isPair, w_isHour, w_in, w_in0, w_in_0_1, w_in_0_10, w_in_0_3, w_in_0_30, w_in_0_60, w_in_0_7, w_in_0_9, w_in_0_999, w_in_1_60, w_in_20_27, w_in_2_40, w_in_48_57, w_whole, w_all, wt_0, wt_1, wt_2, nI_add, nI_1, nI_mul, nI_and, nI_or, nI_sd, nI_sub, l_sub1, l_addm1, l_all, l_1shl, l_or0, l_add0, l_0add, l_m1, l_m1r, l_neg, l_nn, l_eq0, l_le0, l_0lt, l_eq1, l_m1lt, l_m1le, l_m1eq0, l_10, l_00, l_1le, nI_le_l, nI_lt_l, nI_eq_l, bc_nI, nt_nI, bit_nI, b2_ite, b2_ite1, nI_max, nI_min, isR_nI, n_4, n_60, hi_ne, hi_ni, hi_eq, y_iL, y_iR, y_lI, y_lR, hl_ne, hl_ni, hl_eq, y_rI, y_rL, if_true, if_false, if_pos, if_neg, true_and, and_true, not_true_eq_false, not_false_eq_true, x.n, x.h, x.b, x.mo, x.wi, x.ca, x.ro, x.ti, x.il, x.ni, x.ga, x.ri]
  rw [wp_bnd]
  refine wp_mono (c_nightsGo x.y hc x.ok (Or.inr rfl) hn') (fun _ τ' h => ?_)
  obtain ⟨f', hd⟩ := h
  have ff : Fr [4, 5, 6, 18, 19] [18, 19, 20, 28, 29] [] σ τ' := (f.mono rfl).then f' rfl
  replace x := x0.fr ff rfl
  obtain ⟨⟨q1, q2, q3, q4, q5, q6, q7⟩, q8, q9, q10, q11, q12, q13⟩ := hd
  refine wp_up P.n (fun i y τ2 => y = (wrsI (goI P a n).tired i, nI i) ∧ τ2 = τ') (fun ag i y τ2 hi' hJ hag => ?_) (fun ag y τ2 hJ => ?_) (by omega) ⟨rfl, rfl⟩
  · obtain ⟨rfl, rfl⟩ := hJ
    have h6 := q9 i (by omega)
    unfold f_X1_later_b38
    simp (disch := first | omega | exact x.s | exact hi_eq | ((repeat (first | exact x.s | apply sw_I | apply sw_L | apply sw_cp | apply sw_18 | apply sw_21 | apply sw_22 | apply sw_m12 | apply sw_m18)); done) | rfl) only [wp_ite, wp_some, y_jn, wp_r0, wp_r1, wp_b2, y_nn, w_bc, w_nt, wo_0, wg_0, wi_0, wr_0_1, wo_1, wg_1, wi_1, wr_1_0, wr_1_1, wl_2, ws_2, wl_3, ws_3, wo_4, wg_4, wi_4, wr_4_0, wr_4_1, wl_5, ws_5, wl_6, ws_6, w_has, w_isRider, w_isPair, w_isHour, w_in, w_in0, w_in_0_1, w_in_0_10, w_in_0_3, w_in_0_30, w_in_0_60, w_in_0_7, w_in_0_9, w_in_0_999, w_in_1_60, w_in_20_27, w_in_2_40, w_in_48_57, w_whole, w_all, wt_0, wt_1, wt_2, nI_add, nI_1, nI_mul, nI_and, nI_or, nI_sd, nI_sub, l_sub1, l_addm1, l_all, l_1shl, l_or0, l_add0, l_0add, l_m1, l_m1r, l_neg, l_nn, l_eq0, l_le0, l_0lt, l_eq1, l_m1lt, l_m1le, l_m1eq0, l_10, l_00, l_1le, nI_le_l, nI_lt_l, nI_eq_l, bc_nI, nt_nI, bit_nI, b2_ite, b2_ite1, nI_max, nI_min, isR_nI, n_100, n_5, hi_ne, hi_ni, hi_eq, y_iL, y_iR, y_lI, y_lR, hl_ne, hl_ni, hl_eq, y_rI, y_rL, if_true, if_false, if_pos, if_neg, true_and, and_true, not_true_eq_false, not_false_eq_true, x.n, x.h, x.b, x.mo, x.wi, x.ca, x.ro, x.ti, x.il, x.ni, x.ga, x.ri, h6]
    exact hag _ _ ⟨rfl, rfl⟩
  · obtain ⟨rfl, rfl⟩ := hJ
    have hsum : ∀ (τ : Hp) (hs : Sh τ), hi τ 0 5 = nI P.n → hi τ 6 = hi τ2 6 → f_X1_sumOf (some 0) (some 6) τ = some (sumI (goI P a n).tired P.n, τ) := fun τ hs h5 h6 => by
      rw [c_sumOf hs h5 n8 (so_6 hs) (sl_6 hs)]
      have : ∀ m, m ≤ 8 → sumI (hi τ 6) m = sumI (goI P a n).tired m := by
        intro m
        induction m with
        | zero => intro _; rfl
        | succ m ih =>
          intro hm
          show sumI (hi τ 6) m + hi τ 6 m = sumI _ m + _
          rw [ih (by omega), h6, q9 m (by omega)]
      rw [this P.n n8]
    unfold f_X1_later_b38
    simp (disch := first | omega | exact x.s | exact hi_eq | ((repeat (first | exact x.s | apply sw_I | apply sw_L | apply sw_cp | apply sw_18 | apply sw_21 | apply sw_22 | apply sw_m12 | apply sw_m18)); done) | rfl) only [wp_ite, wp_some, y_jn, wp_r0, wp_r1, wp_b2, y_nn, w_bc, w_nt, wo_0, wg_0, wi_0, wr_0_0, wr_0_1, wo_1, wg_1, wi_1, wr_1_0, wr_1_1, wl_2, ws_2, wl_3, ws_3, wo_4, wg_4, wi_4, wr_4_0, wr_4_1, wl_5, ws_5, wl_6, ws_6, w_has, w_isRider, w_isPair, w_isHour, w_in, w_in0, w_in_0_1, w_in_0_10, w_in_0_3, w_in_0_30, w_in_0_60, w_in_0_7, w_in_0_9, w_in_0_999, w_in_1_60, w_in_20_27, w_in_2_40, w_in_48_57, w_whole, w_all, wt_0, wt_1, wt_2, nI_add, nI_1, nI_mul, nI_and, nI_or, nI_sd, nI_sub, l_sub1, l_addm1, l_all, l_1shl, l_or0, l_add0, l_0add, l_m1, l_m1r, l_neg, l_nn, l_eq0, l_le0, l_0lt, l_eq1, l_m1lt, l_m1le, l_m1eq0, l_10, l_00, l_1le, nI_le_l, nI_lt_l, nI_eq_l, bc_nI, nt_nI, bit_nI, b2_ite, b2_ite1, nI_max, nI_min, isR_nI, n_100, n_4, n_5, n_60, hi_ne, hi_ni, hi_eq, y_iL, y_iR, y_lI, y_lR, hl_ne, hl_ni, hl_eq, y_rI, y_rL, if_true, if_false, if_pos, if_neg, true_and, and_true, not_true_eq_false, not_false_eq_true, x.n, x.h, x.b, x.mo, x.wi, x.ca, x.ro, x.ti, x.il, x.ni, x.ga, x.ri]
    have f1 : Fr [4, 5, 6, 18, 19] [18, 19, 20, 28, 29, 52] [] σ (wI τ2 0 52 0) := (ff.mono rfl).putI rfl
    rw [hsum _ (x0.fr f1 rfl).s (by rw [hi_ni (by decide)]; exact x.n) (hi_ne (by decide)), e_bnd]
    simp (disch := first | omega | exact x.s | exact hi_eq | ((repeat (first | exact x.s | apply sw_I | apply sw_L | apply sw_cp | apply sw_18 | apply sw_21 | apply sw_22 | apply sw_m12 | apply sw_m18)); done) | rfl) only [wp_ite, wp_some, y_jn, wp_r0, wp_r1, wp_b2, y_nn, w_bc, w_nt, wo_0, wg_0, wi_0, wr_0_0, wr_0_1, wo_1, wg_1, wi_1, wr_1_0, wr_1_1, wl_2, ws_2, wl_3, ws_3, wo_4, wg_4, wi_4, wr_4_0, wr_4_1, wl_5, ws_5, wl_6, ws_6, w_has, w_isRider, w_isPair, w_isHour, w_in, w_in0, w_in_0_1, w_in_0_10, w_in_0_3, w_in_0_30, w_in_0_60, w_in_0_7, w_in_0_9, w_in_0_999, w_in_1_60, w_in_20_27, w_in_2_40, w_in_48_57, w_whole, w_all, wt_0, wt_1, wt_2, nI_add, nI_1, nI_mul, nI_and, nI_or, nI_sd, nI_sub, l_sub1, l_addm1, l_all, l_1shl, l_or0, l_add0, l_0add, l_m1, l_m1r, l_neg, l_nn, l_eq0, l_le0, l_0lt, l_eq1, l_m1lt, l_m1le, l_m1eq0, l_10, l_00, l_1le, nI_le_l, nI_lt_l, nI_eq_l, bc_nI, nt_nI, bit_nI, b2_ite, b2_ite1, nI_max, nI_min, isR_nI, n_100, n_4, n_5, n_60, hi_ne, hi_ni, hi_eq, y_iL, y_iR, y_lI, y_lR, hl_ne, hl_ni, hl_eq, y_rI, y_rL, if_true, if_false, if_pos, if_neg, true_and, and_true, not_true_eq_false, not_false_eq_true, x.n, x.h, x.b, x.mo, x.wi, x.ca, x.ro, x.ti, x.il, x.ni, x.ga, x.ri, q12]
    rw [← hQ]
    exact ⟨rfl, (by repeat (first | exact f1 | exact (f1).mono rfl | refine Fr.putI ?_ rfl | refine Fr.putL ?_ rfl | refine Fr.putR ?_ rfl)), s.fr (D := [4, 5, 6, 18, 19, 36]) (F := [18, 19, 20, 28, 29, 52]) (G := []) (by repeat (first | exact f1 | exact (f1).mono rfl | refine Fr.putI ?_ rfl | refine Fr.putL ?_ rfl | refine Fr.putR ?_ rfl)) rfl, row2⟩
theorem c_vigil (x : CX σ P a) (s : SC σ) {n : Nat} (hn' : n ≤ 60) : wp (f_X1_vigil (some 0) (nI n) σ) (QuC σ (vigI P a n).1 (some [(vigI P a n).2.1.toInt64])) := by
  have x0 := x
  have hin : ((0 : Int32) ≤ nI n ∧ nI n ≤ nI 60) := ⟨by rw [l_nn (by omega)]; trivial, by rw [nI_le_l (by omega) (by decide)]; exact hn'⟩
  generalize hQ : QuC σ (vigI P a n).1 (some [(vigI P a n).2.1.toInt64]) = Q
  unfold f_X1_vigil
  simp (disch := first | omega | exact x.s | exact hi_eq | ((repeat (first | exact x.s | apply sw_I | apply sw_L | apply sw_cp | apply sw_18 | apply sw_21 | apply sw_22 | apply sw_m12 | apply sw_m18)); done) | rfl) only [wp_ite, wp_some, y_jn, wp_r0, wp_r1, wp_b2, y_nn, w_bc, w_nt, wo_0, wg_0, wi_0, wr_0_0, wr_0_1, wo_1, wg_1, wi_1, wr_1_0, wr_1_1, wl_2, ws_2, wl_3, ws_3, wo_4, wg_4, wi_4, wr_4_0, wr_4_1, wl_5, ws_5, wl_6, ws_6, w_has, w_isRider, w_isPair, w_isHour, w_in, w_in0, w_in_0_1, w_in_0_10, w_in_0_3, w_in_0_30, w_in_0_60, w_in_0_7, w_in_0_9, w_in_0_999, w_in_1_60, w_in_20_27, w_in_2_40, w_in_48_57, w_whole, w_all, wt_0, wt_1, wt_2, nI_add, nI_1, nI_mul, nI_and, nI_or, nI_sd, nI_sub, l_sub1, l_addm1, l_all, l_1shl, l_or0, l_add0, l_0add, l_m1, l_m1r, l_neg, l_nn, l_eq0, l_le0, l_0lt, l_eq1, l_m1lt, l_m1le, l_m1eq0, l_10, l_00, l_1le, nI_le_l, nI_lt_l, nI_eq_l, bc_nI, nt_nI, bit_nI, b2_ite, b2_ite1, nI_max, nI_min, isR_nI, n_60, hi_ne, hi_ni, hi_eq, y_iL, y_iR, y_lI, y_lR, hl_ne, hl_ni, hl_eq, y_rI, y_rL, if_true, if_false, if_pos, if_neg, true_and, and_true, not_true_eq_false, not_false_eq_true, x.n, x.h, x.b, x.mo, x.wi, x.ca, x.ro, x.ti, x.il, x.ni, x.ga, x.ri, hin]
  rw [wp_bnd]
  refine wp_mono (c_becomes (ho_4 x.s) x.2.2.2.1 (Or.inl (by decide))) (fun _ τ h => ?_)
  obtain ⟨hb, hc⟩ := h
  have f := hb.fr4
  refine wp_up n (fun i y τ' => y = ((vigI P a i).1, (vigI P a i).2.1, (vigI P a i).2.2, nI i) ∧ Fr [4, 5, 6, 18, 19] [18, 19, 20, 28, 29] [] σ τ' ∧ CH τ' 4 (goI P a i)) (fun ag i y τ' hi' hJ hag => ?_) (fun ag y τ' hJ => ?_) (by omega) ⟨rfl, f.mono rfl, hc⟩
  · obtain ⟨rfl, f1, k1⟩ := hJ
    replace x := x0.fr f1 rfl
    have g8 := gapN_lt x.pk (goI_ok x.ok i)
    have st : vigI P a (i + 1) = (imax (vigI P a i).1 (if gapN P (goI P a i) = 0 then (vigI P a i).2.2 + 1 else 0), (if (if gapN P (goI P a i) = 0 then (vigI P a i).2.2 + 1 else 0) ≤ (vigI P a i).1 then (vigI P a i).2.1 else nI i - (if gapN P (goI P a i) = 0 then (vigI P a i).2.2 + 1 else 0) + 1), (if gapN P (goI P a i) = 0 then (vigI P a i).2.2 + 1 else 0)) := rfl
    rw [st] at hag
    generalize vigI P a i = V at *
    unfold f_X1_vigil_b35
    simp (disch := first | omega | exact x.s | exact hi_eq | ((repeat (first | exact x.s | apply sw_I | apply sw_L | apply sw_cp | apply sw_18 | apply sw_21 | apply sw_22 | apply sw_m12 | apply sw_m18)); done) | rfl) only [wp_ite, wp_some, y_jn, wp_r0, wp_r1, wp_b2, y_nn, w_bc, w_nt, wo_0, wg_0, wi_0, wr_0_1, wo_4, wg_4, wi_4, wr_4_0, wr_4_1, wl_5, ws_5, wl_6, ws_6, w_has, w_isRider, w_isPair, w_isHour, w_in, w_in0, w_in_0_1, w_in_0_10, w_in_0_3, w_in_0_30, w_in_0_60, w_in_0_7, w_in_0_9, w_in_0_999, w_in_1_60, w_in_20_27, w_in_2_40, w_in_48_57, w_whole, w_all, wt_0, wt_1, wt_2, nI_add, nI_1, nI_mul, nI_and, nI_or, nI_sd, nI_sub, l_sub1, l_addm1, l_all, l_1shl, l_or0, l_add0, l_0add, l_m1, l_m1r, l_neg, l_nn, l_eq0, l_le0, l_0lt, l_eq1, l_m1lt, l_m1le, l_m1eq0, l_10, l_00, l_1le, nI_le_l, nI_lt_l, nI_eq_l, bc_nI, nt_nI, bit_nI, b2_ite, b2_ite1, nI_max, nI_min, isR_nI, hi_ne, hi_ni, hi_eq, y_iL, y_iR, y_lI, y_lR, hl_ne, hl_ni, hl_eq, y_rI, y_rL, if_true, if_false, if_pos, if_neg, true_and, and_true, not_true_eq_false, not_false_eq_true, x.n, x.h, x.b, x.mo, x.wi, x.ca, x.ro, x.ti, x.il, x.ni, x.ga, x.ri]
    rw [wp_bnd]
    refine wp_mono (c_nightGoes x.s x.2.1 x.pk k1 (goI_ok x.ok i) (Or.inr rfl)) (fun _ τ2 h => ?_)
    obtain ⟨f2, k3, k4⟩ := h
    have f3 := f1.then f2 rfl
    replace x := x0.fr f3 rfl
    generalize hg : gapN P (goI P a i) = g at *
    simp (disch := first | omega | exact x.s | exact hi_eq | ((repeat (first | exact x.s | apply sw_I | apply sw_L | apply sw_cp | apply sw_18 | apply sw_21 | apply sw_22 | apply sw_m12 | apply sw_m18)); done) | rfl) only [wp_ite, wp_some, y_jn, wp_r0, wp_r1, wp_b2, y_nn, w_bc, w_nt, wo_0, wg_0, wi_0, wr_0_1, wo_4, wg_4, wi_4, wr_4_0, wr_4_1, wl_5, ws_5, wl_6, ws_6, w_has, w_isRider, w_isPair, w_isHour, w_in, w_in0, w_in_0_1, w_in_0_10, w_in_0_3, w_in_0_30, w_in_0_60, w_in_0_7, w_in_0_9, w_in_0_999, w_in_1_60, w_in_20_27, w_in_2_40, w_in_48_57, w_whole, w_all, wt_0, wt_1, wt_2, nI_add, nI_1, nI_mul, nI_and, nI_or, nI_sd, nI_sub, l_sub1, l_addm1, l_all, l_1shl, l_or0, l_add0, l_0add, l_m1, l_m1r, l_neg, l_nn, l_eq0, l_le0, l_0lt, l_eq1, l_m1lt, l_m1le, l_m1eq0, l_10, l_00, l_1le, nI_le_l, nI_lt_l, nI_eq_l, bc_nI, nt_nI, bit_nI, b2_ite, b2_ite1, nI_max, nI_min, isR_nI, hi_ne, hi_ni, hi_eq, y_iL, y_iR, y_lI, y_lR, hl_ne, hl_ni, hl_eq, y_rI, y_rL, if_true, if_false, if_pos, if_neg, true_and, and_true, not_true_eq_false, not_false_eq_true, x.n, x.h, x.b, x.mo, x.wi, x.ca, x.ro, x.ti, x.il, x.ni, x.ga, x.ri, k4]
    by_cases e : g = 0
    · simp only [if_pos e] at hag ⊢
      by_cases e2 : V.2.2 + 1 ≤ V.1
      · rw [if_pos e2] at hag ⊢
        exact hag _ _ ⟨rfl, f3, k3⟩
      · rw [if_neg e2] at hag ⊢
        exact hag _ _ ⟨rfl, f3, k3⟩
    · simp only [if_neg e] at hag ⊢
      by_cases e2 : 0 ≤ V.1
      · rw [if_pos e2] at hag ⊢
        exact hag _ _ ⟨rfl, f3, k3⟩
      · rw [if_neg e2] at hag ⊢
        exact hag _ _ ⟨rfl, f3, k3⟩
  · obtain ⟨rfl, f1, k1⟩ := hJ
    replace x := x0.fr f1 rfl
    unfold f_X1_vigil_b35
    simp (disch := first | omega | exact x.s | exact hi_eq | ((repeat (first | exact x.s | apply sw_I | apply sw_L | apply sw_cp | apply sw_18 | apply sw_21 | apply sw_22 | apply sw_m12 | apply sw_m18)); done) | rfl) only [wp_ite, wp_some, y_jn, wp_r0, wp_r1, wp_b2, y_nn, w_bc, w_nt, wo_0, wg_0, wi_0, wr_0_0, wr_0_1, wo_1, wg_1, wi_1, wr_1_0, wr_1_1, wl_2, ws_2, wl_3, ws_3, wo_4, wg_4, wi_4, wr_4_0, wr_4_1, wl_5, ws_5, wl_6, ws_6, w_has, w_isRider, w_isPair, w_isHour, w_in, w_in0, w_in_0_1, w_in_0_10, w_in_0_3, w_in_0_30, w_in_0_60, w_in_0_7, w_in_0_9, w_in_0_999, w_in_1_60, w_in_20_27, w_in_2_40, w_in_48_57, w_whole, w_all, wt_0, wt_1, wt_2, nI_add, nI_1, nI_mul, nI_and, nI_or, nI_sd, nI_sub, l_sub1, l_addm1, l_all, l_1shl, l_or0, l_add0, l_0add, l_m1, l_m1r, l_neg, l_nn, l_eq0, l_le0, l_0lt, l_eq1, l_m1lt, l_m1le, l_m1eq0, l_10, l_00, l_1le, nI_le_l, nI_lt_l, nI_eq_l, bc_nI, nt_nI, bit_nI, b2_ite, b2_ite1, nI_max, nI_min, isR_nI, n_60, hi_ne, hi_ni, hi_eq, y_iL, y_iR, y_lI, y_lR, hl_ne, hl_ni, hl_eq, y_rI, y_rL, if_true, if_false, if_pos, if_neg, true_and, and_true, not_true_eq_false, not_false_eq_true, x.n, x.h, x.b, x.mo, x.wi, x.ca, x.ro, x.ti, x.il, x.ni, x.ga, x.ri]
    rw [← hQ]
    exact ⟨rfl, (by repeat (first | exact f1 | exact (f1).mono rfl | refine Fr.putI ?_ rfl | refine Fr.putL ?_ rfl | refine Fr.putR ?_ rfl)), s.fr (D := [4, 5, 6, 18, 19, 36]) (F := [18, 19, 20, 28, 29, 52]) (G := []) (by repeat (first | exact f1 | exact (f1).mono rfl | refine Fr.putI ?_ rfl | refine Fr.putL ?_ rfl | refine Fr.putR ?_ rfl)) rfl, row1⟩
end cbec
