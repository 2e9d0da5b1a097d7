/-! PURE 34: the class asked for rotas -/
theorem nI_div {a b : Nat} (ha : a < 2 ^ 31) (hb : b < 2 ^ 31) : nI a / nI b = nI (a / b) := (Int32.ofNat_div ha hb).symm
def hardN (P : Pk) (a : HS) (r h : Nat) : Nat := ix (hardI P a r h)
theorem hardN_le (P : Pk) (a : HS) (r h : Nat) : hardN P a r h ≤ 999 := by
  obtain ⟨k, h1, h2⟩ := hard_nI P a r h
  unfold hardN
  rw [h2, ix_nI (by omega)]; exact h1
theorem hardN_eq (P : Pk) (a : HS) (r h : Nat) : hardI P a r h = nI (hardN P a r h) := by
  obtain ⟨k, h1, h2⟩ := hard_nI P a r h
  unfold hardN
  rw [h2, ix_nI (by omega)]
/-- what it costs: hardness -/
def prH (P : Pk) (a : HS) (r h : Nat) : Nat := if r < P.n ∧ h < P.hrs then hardN P a r h else 0
theorem prH_le (P : Pk) (a : HS) (r h : Nat) : prH P a r h ≤ 999 := by
  unfold prH
  split
  · exact hardN_le P a r h
  · exact Nat.zero_le _
/-- what it costs: one for each hour that was another's -/
def prO (P : Pk) (a : HS) (r h : Nat) : Nat := if r < P.n ∧ h < P.hrs ∧ ¬ a.rota h = nI r then 1 else 0
theorem prO_le (P : Pk) (a : HS) (r h : Nat) : prO P a r h ≤ 999 := by
  unfold prO
  split <;> omega
def prZ (_ _ : Nat) : Nat := 0
/-- a row of riders, told -/
def rowL (t : Nat → Nat) (n : Nat) : List Int64 := (List.range n).map (fun h => (nI (t h)).toInt64)
theorem rowL_len (t : Nat → Nat) (n : Nat) : (rowL t n).length = n := by unfold rowL; rw [List.length_map, List.length_range]
theorem rowL_succ (t : Nat → Nat) (n : Nat) : rowL t (n + 1) = rowL t n ++ [(nI (t n)).toInt64] := by unfold rowL; rw [List.range_succ, List.map_append]; rfl
theorem rowL_congr {t u : Nat → Nat} {n : Nat} (h : ∀ k, k < n → t k = u k) : rowL t n = rowL u n := by
  unfold rowL
  exact List.map_congr_left fun k hk' => by rw [h k (List.mem_range.mp hk')]
def LdC (τ : Hp) (may : Nat → Nat) (pr : Nat → Nat → Nat) (lim : Nat) : Prop := AI τ 24 8 may ∧ PrC τ pr ∧ hi τ 0 42 = nI lim ∧ hi τ 27 0 = 0
noncomputable def lineO (P : Pk) (may : Nat → Nat) (pr : Nat → Nat → Nat) (v : Nat) : List Int64 := rowL (layS P 1000000 pr v may P.hrs).2 P.hrs
noncomputable def lstR (P : Pk) (may : Nat → Nat) (pr : Nat → Nat → Nat) : Int32 := match lstO P may 1000000 pr with
  | none => -2
  | some v => nI v
noncomputable def lstW (P : Pk) (may : Nat → Nat) (pr : Nat → Nat → Nat) : Option (List Int64) := match lstO P may 1000000 pr with
  | none => none
  | some v => some (lineO P may pr v)
section cques
variable {σ τ : Hp} {P : Pk} {a : HS} {may : Nat → Nat} {pr : Nat → Nat → Nat} {lim v : Nat} {D F G : List Nat}
theorem LdC.fr (h : LdC σ may pr lim) (f : Fr D F G σ τ) (q : (dn D F G 0 42 && !D.contains 24 && !D.contains 26 && !D.contains 27) = true) : LdC τ may pr lim := by
  simp only [Bool.and_eq_true, Bool.not_eq_true'] at q
  obtain ⟨⟨⟨q1, q2⟩, q3⟩, q4⟩ := q
  exact ⟨h.1.fr f q2 (by decide) (by decide), fun r i a1 a2 => (f.i (dn_out q3 (by decide) (by decide))).trans (h.2.1 r i a1 a2), (f.i q1).trans h.2.2.1, (f.i (dn_out q4 (by decide) (by decide))).trans h.2.2.2⟩
theorem LdC.sc (h : LdC σ may pr 1000000) : SC σ := ⟨h.2.2.1, h.2.2.2⟩
theorem c_least (x : CX σ P a) (ld : LdC σ may pr lim) (mk : MayOK P may) (hpl : ∀ r h, pr r h ≤ 999) (hlim : lim ≤ 1000000) : wp (f_X1_laysLeast (some 0) σ) (fun v τ => v = nI ((lstO P may lim pr).getD 1000000) ∧ Fr [27, 28] [] [] σ τ ∧ LdC τ may pr lim) := by
  refine wp_mono (c_laysLeast x ld.1 mk.2 ld.2.1 hpl ld.2.2.1 hlim ld.2.2.2) (fun w τ h => ?_)
  obtain ⟨h1, f, z⟩ := h
  exact ⟨h1, f, ld.1.fr f rfl (by decide) (by decide), fun r i a1 a2 => (f.i rfl).trans (ld.2.1 r i a1 a2), (f.i rfl).trans ld.2.2.1, z⟩
theorem c_tellsTurn (x : CX σ P a) {t : Nat → Nat} (ht : ∀ k, k < P.hrs → hi σ 29 k = nI (t k)) : wp (f_X1_tellsTurn (some 0) σ) (fun _ τ => Fr [36] [52] [] σ τ ∧ RowC τ (rowL t P.hrs)) := by
  have h8 := x.h8
  have x0 := x
  unfold f_X1_tellsTurn
  simp (disch := first | omega | exact x.s | exact hi_eq | ((repeat (first | exact x.s | apply sw_I | apply sw_L | apply sw_cp | apply sw_18 | apply sw_21 | apply sw_22 | apply sw_m12 | apply sw_m18)); done) | rfl) only [wp_ite, wp_some, w_jn, wp_r0, wp_r1, wp_b2, wp_nn, w_bc, w_nt, wo_0, wg_0, wi_0, w_has, w_isRider, w_isPair, w_isHour, w_in, w_in0, w_in_0_1, w_in_0_10, w_in_0_3, w_in_0_30, w_in_0_60, w_in_0_7, w_in_0_9, w_in_0_999, w_in_1_60, w_in_20_27, w_in_2_40, w_in_48_57, w_whole, w_all, wt_0, wt_1, wt_2, nI_add, nI_1, nI_mul, nI_and, nI_or, nI_sd, nI_sub, l_sub1, l_addm1, l_all, l_1shl, l_or0, l_add0, l_0add, l_m1, l_m1r, l_neg, l_nn, l_eq0, l_le0, l_0lt, l_eq1, l_m1lt, l_m1le, l_m1eq0, l_10, l_00, l_1le, nI_le_l, nI_lt_l, nI_eq_l, bc_nI, nt_nI, bit_nI, b2_ite, b2_ite1, nI_max, nI_min, isR_nI, hi_ne, hi_ni, hi_eq, hi_wL, hi_wR, hl_wI, hl_wR, hl_ne, hl_ni, hl_eq, hr_wI, hr_wL, if_true, if_false, if_pos, if_neg, true_and, and_true, not_true_eq_false, not_false_eq_true, x.n, x.h, x.b, x.mo, x.wi, x.ca, x.ro, x.ti, x.il, x.ni, x.ga, x.ri]
  refine wp_up P.hrs (fun i y τ => y = nI i ∧ Fr [36] [52] [] σ τ ∧ RowC τ (rowL t i)) (fun ag i y τ hi' hJ hag => ?_) (fun ag y τ hJ => ?_) (by omega) ⟨rfl, Fr.refl.putI rfl, row0⟩
  · obtain ⟨rfl, f, h1⟩ := hJ
    replace x := x0.fr f rfl
    have h2 : hi τ 29 i = nI (t i) := (f.i rfl).trans (ht i hi')
    unfold f_X1_tellsTurn_b7
    simp (disch := first | omega | exact x.s | exact hi_eq | ((repeat (first | exact x.s | apply sw_I | apply sw_L | apply sw_cp | apply sw_18 | apply sw_21 | apply sw_22 | apply sw_m12 | apply sw_m18)); done) | rfl) only [wp_ite, wp_some, w_jn, wp_r0, wp_r1, wp_b2, wp_nn, w_bc, w_nt, wo_0, wg_0, wi_0, wr_0_40, wl_29, ws_29, w_has, w_isRider, w_isPair, w_isHour, w_in, w_in0, w_in_0_1, w_in_0_10, w_in_0_3, w_in_0_30, w_in_0_60, w_in_0_7, w_in_0_9, w_in_0_999, w_in_1_60, w_in_20_27, w_in_2_40, w_in_48_57, w_whole, w_all, wt_0, wt_1, wt_2, nI_add, nI_1, nI_mul, nI_and, nI_or, nI_sd, nI_sub, l_sub1, l_addm1, l_all, l_1shl, l_or0, l_add0, l_0add, l_m1, l_m1r, l_neg, l_nn, l_eq0, l_le0, l_0lt, l_eq1, l_m1lt, l_m1le, l_m1eq0, l_10, l_00, l_1le, nI_le_l, nI_lt_l, nI_eq_l, bc_nI, nt_nI, bit_nI, b2_ite, b2_ite1, nI_max, nI_min, isR_nI, n_100, n_40, n_6, hi_ne, hi_ni, hi_eq, hi_wL, hi_wR, hl_wI, hl_wR, hl_ne, hl_ni, hl_eq, hr_wI, hr_wL, if_true, if_false, if_pos, if_neg, true_and, and_true, not_true_eq_false, not_false_eq_true, x.n, x.h, x.b, x.mo, x.wi, x.ca, x.ro, x.ti, x.il, x.ni, x.ga, x.ri, h2]
    rw [wp_bnd]
    refine wp_mono (row_add x.s h1 (by rw [rowL_len]; omega)) (fun _ τ' h => ?_)
    rw [← rowL_succ] at h
    exact hag _ _ ⟨rfl, f.trans h.1, h.2⟩
  · obtain ⟨rfl, f, h1⟩ := hJ
    replace x := x0.fr f rfl
    unfold f_X1_tellsTurn_b7
    simp (disch := first | omega | exact x.s | exact hi_eq | ((repeat (first | exact x.s | apply sw_I | apply sw_L | apply sw_cp | apply sw_18 | apply sw_21 | apply sw_22 | apply sw_m12 | apply sw_m18)); done) | rfl) only [wp_ite, wp_some, w_jn, wp_r0, wp_r1, wp_b2, wp_nn, w_bc, w_nt, wo_0, wg_0, wi_0, wr_0_40, wl_29, ws_29, w_has, w_isRider, w_isPair, w_isHour, w_in, w_in0, w_in_0_1, w_in_0_10, w_in_0_3, w_in_0_30, w_in_0_60, w_in_0_7, w_in_0_9, w_in_0_999, w_in_1_60, w_in_20_27, w_in_2_40, w_in_48_57, w_whole, w_all, wt_0, wt_1, wt_2, nI_add, nI_1, nI_mul, nI_and, nI_or, nI_sd, nI_sub, l_sub1, l_addm1, l_all, l_1shl, l_or0, l_add0, l_0add, l_m1, l_m1r, l_neg, l_nn, l_eq0, l_le0, l_0lt, l_eq1, l_m1lt, l_m1le, l_m1eq0, l_10, l_00, l_1le, nI_le_l, nI_lt_l, nI_eq_l, bc_nI, nt_nI, bit_nI, b2_ite, b2_ite1, nI_max, nI_min, isR_nI, n_100, n_40, n_6, hi_ne, hi_ni, hi_eq, hi_wL, hi_wR, hl_wI, hl_wR, hl_ne, hl_ni, hl_eq, hr_wI, hr_wL, if_true, if_false, if_pos, if_neg, true_and, and_true, not_true_eq_false, not_false_eq_true, x.n, x.h, x.b, x.mo, x.wi, x.ca, x.ro, x.ti, x.il, x.ni, x.ga, x.ri]
    exact ⟨f, h1⟩
/-- laid out and told -/
theorem c_turnTold (x : CX σ P a) (ld : LdC σ may pr 1000000) (mk : MayOK P may) (hpl : ∀ r h, pr r h ≤ 999) (hv : lstO P may 1000000 pr = some v) {K : Unit → Hp → Option (Int32 × Hp)} {Q : Int32 → Hp → Prop} (hK : ∀ τ, Fr [24, 25, 27, 28, 29, 36] [52] [] σ τ → SC τ → RowC τ (lineO P may pr v) → wp (K () τ) Q) : wp (bnd (f_X1_laysTurn (some 0) (nI v) σ) fun _ σ => ob 0 σ (some 0) fun _ => bnd (f_X1_tellsTurn (some 0) σ) K) Q := by
  rw [wp_bnd]
  refine wp_mono (c_laysTurn x ld.1 mk ld.2.1 hpl ld.2.2.1 (by decide) ld.2.2.2 hv) (fun _ τ h => ?_)
  obtain ⟨f, z, ht⟩ := h
  have x' := x.fr f rfl
  rw [wo_0 x'.s, wp_bnd]
  refine wp_mono (c_tellsTurn x' ht) (fun _ τ' h => ?_)
  obtain ⟨f', hr'⟩ := h
  exact hK τ' ((f.mono rfl).trans (f'.mono rfl)) (SC.fr (σ := τ) ⟨(f.i rfl).trans ld.2.2.1, z⟩ f' rfl) hr'
theorem c_easiestBut (x : CX σ P a) (s : SC σ) {w : Nat} (hw : w < 256) : wp (f_X1_easiestBut (some 0) (nI w) σ) (fun v τ => v = nI ((lstO P (mayOf P a w) 1000000 (prH P a)).getD 1000000) ∧ Fr [24, 26, 27, 28] [18, 19, 20] [] σ τ ∧ LdC τ (mayOf P a w) (prH P a) 1000000) := by
  have x0 := x
  unfold f_X1_easiestBut
  simp (disch := first | omega | exact x.s | exact hi_eq | ((repeat (first | exact x.s | apply sw_I | apply sw_L | apply sw_cp | apply sw_18 | apply sw_21 | apply sw_22 | apply sw_m12 | apply sw_m18)); done) | rfl) only [wp_ite, wp_some, w_jn, wp_r0, wp_r1, wp_b2, wp_nn, w_bc, w_nt, wo_0, wg_0, wi_0, w_has, w_isRider, w_isPair, w_isHour, w_in, w_in0, w_in_0_1, w_in_0_10, w_in_0_3, w_in_0_30, w_in_0_60, w_in_0_7, w_in_0_9, w_in_0_999, w_in_1_60, w_in_20_27, w_in_2_40, w_in_48_57, w_whole, w_all, wt_0, wt_1, wt_2, nI_add, nI_1, nI_mul, nI_and, nI_or, nI_sd, nI_sub, l_sub1, l_addm1, l_all, l_1shl, l_or0, l_add0, l_0add, l_m1, l_m1r, l_neg, l_nn, l_eq0, l_le0, l_0lt, l_eq1, l_m1lt, l_m1le, l_m1eq0, l_10, l_00, l_1le, nI_le_l, nI_lt_l, nI_eq_l, bc_nI, nt_nI, bit_nI, b2_ite, b2_ite1, nI_max, nI_min, isR_nI, hi_ne, hi_ni, hi_eq, hi_wL, hi_wR, hl_wI, hl_wR, hl_ne, hl_ni, hl_eq, hr_wI, hr_wL, if_true, if_false, if_pos, if_neg, true_and, and_true, not_true_eq_false, not_false_eq_true, x.n, x.h, x.b, x.mo, x.wi, x.ca, x.ro, x.ti, x.il, x.ni, x.ga, x.ri]
  rw [wp_bnd]
  refine wp_mono (c_opens x hw) (fun _ τ h => ?_)
  obtain ⟨f, h1, h2⟩ := h
  replace x := x0.fr f rfl
  simp (disch := first | omega | exact x.s | exact hi_eq | ((repeat (first | exact x.s | apply sw_I | apply sw_L | apply sw_cp | apply sw_18 | apply sw_21 | apply sw_22 | apply sw_m12 | apply sw_m18)); done) | rfl) only [wp_ite, wp_some, w_jn, wp_r0, wp_r1, wp_b2, wp_nn, w_bc, w_nt, wo_0, wg_0, wi_0, w_has, w_isRider, w_isPair, w_isHour, w_in, w_in0, w_in_0_1, w_in_0_10, w_in_0_3, w_in_0_30, w_in_0_60, w_in_0_7, w_in_0_9, w_in_0_999, w_in_1_60, w_in_20_27, w_in_2_40, w_in_48_57, w_whole, w_all, wt_0, wt_1, wt_2, nI_add, nI_1, nI_mul, nI_and, nI_or, nI_sd, nI_sub, l_sub1, l_addm1, l_all, l_1shl, l_or0, l_add0, l_0add, l_m1, l_m1r, l_neg, l_nn, l_eq0, l_le0, l_0lt, l_eq1, l_m1lt, l_m1le, l_m1eq0, l_10, l_00, l_1le, nI_le_l, nI_lt_l, nI_eq_l, bc_nI, nt_nI, bit_nI, b2_ite, b2_ite1, nI_max, nI_min, isR_nI, hi_ne, hi_ni, hi_eq, hi_wL, hi_wR, hl_wI, hl_wR, hl_ne, hl_ni, hl_eq, hr_wI, hr_wL, if_true, if_false, if_pos, if_neg, true_and, and_true, not_true_eq_false, not_false_eq_true, x.n, x.h, x.b, x.mo, x.wi, x.ca, x.ro, x.ti, x.il, x.ni, x.ga, x.ri]
  rw [wp_bnd]
  refine wp_mono (c_pricesHard x h2) (fun _ τ' h => ?_)
  obtain ⟨f1, h3⟩ := h
  have ff : Fr [24, 26, 27, 28] [18, 19, 20] [] σ τ' := (f.mono rfl).trans (f1.mono rfl)
  replace x := x0.fr ff rfl
  have ld : LdC τ' (mayOf P a w) (prH P a) 1000000 := ⟨h1.fr f1 rfl (by decide) (by decide), fun r h a1 a2 => by
    rw [h3 r h a1 a2]
    unfold prH
    by_cases e : r < P.n ∧ h < P.hrs
    · rw [if_pos e, if_pos e, hardN_eq]
    · rw [if_neg e, if_neg e]; rfl, (ff.i rfl).trans s.1, by rw [f1.i rfl, f.i rfl]; exact s.2⟩
  simp (disch := first | omega | exact x.s | exact hi_eq | ((repeat (first | exact x.s | apply sw_I | apply sw_L | apply sw_cp | apply sw_18 | apply sw_21 | apply sw_22 | apply sw_m12 | apply sw_m18)); done) | rfl) only [wp_ite, wp_some, w_jn, wp_r0, wp_r1, wp_b2, wp_nn, w_bc, w_nt, wo_0, wg_0, wi_0, w_has, w_isRider, w_isPair, w_isHour, w_in, w_in0, w_in_0_1, w_in_0_10, w_in_0_3, w_in_0_30, w_in_0_60, w_in_0_7, w_in_0_9, w_in_0_999, w_in_1_60, w_in_20_27, w_in_2_40, w_in_48_57, w_whole, w_all, wt_0, wt_1, wt_2, nI_add, nI_1, nI_mul, nI_and, nI_or, nI_sd, nI_sub, l_sub1, l_addm1, l_all, l_1shl, l_or0, l_add0, l_0add, l_m1, l_m1r, l_neg, l_nn, l_eq0, l_le0, l_0lt, l_eq1, l_m1lt, l_m1le, l_m1eq0, l_10, l_00, l_1le, nI_le_l, nI_lt_l, nI_eq_l, bc_nI, nt_nI, bit_nI, b2_ite, b2_ite1, nI_max, nI_min, isR_nI, hi_ne, hi_ni, hi_eq, hi_wL, hi_wR, hl_wI, hl_wR, hl_ne, hl_ni, hl_eq, hr_wI, hr_wL, if_true, if_false, if_pos, if_neg, true_and, and_true, not_true_eq_false, not_false_eq_true, x.n, x.h, x.b, x.mo, x.wi, x.ca, x.ro, x.ti, x.il, x.ni, x.ga, x.ri]
  rw [wp_bnd]
  refine wp_mono (c_least x ld mayOf_ok (prH_le P a) (Nat.le_refl _)) (fun v τ'' h => ?_)
  obtain ⟨rfl, f2, ld2⟩ := h
  rw [wp_some]
  exact ⟨rfl, ff.then f2 rfl, ld2⟩
theorem c_easiest (x : CX σ P a) (s : SC σ) : wp (f_X1_easiest (some 0) σ) (QuC σ (lstR P (mayOf P a 0) (prH P a)) (lstW P (mayOf P a 0) (prH P a))) := by
  have x0 := x
  unfold f_X1_easiest
  simp (disch := first | omega | exact x.s | exact hi_eq | ((repeat (first | exact x.s | apply sw_I | apply sw_L | apply sw_cp | apply sw_18 | apply sw_21 | apply sw_22 | apply sw_m12 | apply sw_m18)); done) | rfl) only [wp_ite, wp_some, w_jn, wp_r0, wp_r1, wp_b2, wp_nn, w_bc, w_nt, wo_0, wg_0, wi_0, w_has, w_isRider, w_isPair, w_isHour, w_in, w_in0, w_in_0_1, w_in_0_10, w_in_0_3, w_in_0_30, w_in_0_60, w_in_0_7, w_in_0_9, w_in_0_999, w_in_1_60, w_in_20_27, w_in_2_40, w_in_48_57, w_whole, w_all, wt_0, wt_1, wt_2, nI_add, nI_1, nI_mul, nI_and, nI_or, nI_sd, nI_sub, l_sub1, l_addm1, l_all, l_1shl, l_or0, l_add0, l_0add, l_m1, l_m1r, l_neg, l_nn, l_eq0, l_le0, l_0lt, l_eq1, l_m1lt, l_m1le, l_m1eq0, l_10, l_00, l_1le, nI_le_l, nI_lt_l, nI_eq_l, bc_nI, nt_nI, bit_nI, b2_ite, b2_ite1, nI_max, nI_min, isR_nI, n_1000000, n_2, hi_ne, hi_ni, hi_eq, hi_wL, hi_wR, hl_wI, hl_wR, hl_ne, hl_ni, hl_eq, hr_wI, hr_wL, if_true, if_false, if_pos, if_neg, true_and, and_true, not_true_eq_false, not_false_eq_true, x.n, x.h, x.b, x.mo, x.wi, x.ca, x.ro, x.ti, x.il, x.ni, x.ga, x.ri]
  rw [wp_bnd]
  refine wp_mono (c_easiestBut x s (w := 0) (by decide)) (fun y τ h => ?_)
  obtain ⟨rfl, f, ld⟩ := h
  replace x := x0.fr f rfl
  unfold lstR lstW
  cases hl2 : lstO P (mayOf P a 0) 1000000 (prH P a) with
  | none =>
    simp (disch := first | omega | exact x.s | exact hi_eq | ((repeat (first | exact x.s | apply sw_I | apply sw_L | apply sw_cp | apply sw_18 | apply sw_21 | apply sw_22 | apply sw_m12 | apply sw_m18)); done) | rfl) only [wp_ite, wp_some, w_jn, wp_r0, wp_r1, wp_b2, wp_nn, w_bc, w_nt, wo_0, wg_0, wi_0, w_has, w_isRider, w_isPair, w_isHour, w_in, w_in0, w_in_0_1, w_in_0_10, w_in_0_3, w_in_0_30, w_in_0_60, w_in_0_7, w_in_0_9, w_in_0_999, w_in_1_60, w_in_20_27, w_in_2_40, w_in_48_57, w_whole, w_all, wt_0, wt_1, wt_2, nI_add, nI_1, nI_mul, nI_and, nI_or, nI_sd, nI_sub, l_sub1, l_addm1, l_all, l_1shl, l_or0, l_add0, l_0add, l_m1, l_m1r, l_neg, l_nn, l_eq0, l_le0, l_0lt, l_eq1, l_m1lt, l_m1le, l_m1eq0, l_10, l_00, l_1le, nI_le_l, nI_lt_l, nI_eq_l, bc_nI, nt_nI, bit_nI, b2_ite, b2_ite1, nI_max, nI_min, isR_nI, n_1000000, n_2, hi_ne, hi_ni, hi_eq, hi_wL, hi_wR, hl_wI, hl_wR, hl_ne, hl_ni, hl_eq, hr_wI, hr_wL, if_true, if_false, if_pos, if_neg, true_and, and_true, not_true_eq_false, not_false_eq_true, x.n, x.h, x.b, x.mo, x.wi, x.ca, x.ro, x.ti, x.il, x.ni, x.ga, x.ri, Option.getD_none]
    exact ⟨rfl, f.mono rfl, ld.sc, RwC.fr f rfl⟩
  | some v =>
    have v8 := lst_le (prH_le P a) hl2
    simp (disch := first | omega | exact x.s | exact hi_eq | ((repeat (first | exact x.s | apply sw_I | apply sw_L | apply sw_cp | apply sw_18 | apply sw_21 | apply sw_22 | apply sw_m12 | apply sw_m18)); done) | rfl) only [wp_ite, wp_some, w_jn, wp_r0, wp_r1, wp_b2, wp_nn, w_bc, w_nt, wo_0, wg_0, wi_0, w_has, w_isRider, w_isPair, w_isHour, w_in, w_in0, w_in_0_1, w_in_0_10, w_in_0_3, w_in_0_30, w_in_0_60, w_in_0_7, w_in_0_9, w_in_0_999, w_in_1_60, w_in_20_27, w_in_2_40, w_in_48_57, w_whole, w_all, wt_0, wt_1, wt_2, nI_add, nI_1, nI_mul, nI_and, nI_or, nI_sd, nI_sub, l_sub1, l_addm1, l_all, l_1shl, l_or0, l_add0, l_0add, l_m1, l_m1r, l_neg, l_nn, l_eq0, l_le0, l_0lt, l_eq1, l_m1lt, l_m1le, l_m1eq0, l_10, l_00, l_1le, nI_le_l, nI_lt_l, nI_eq_l, bc_nI, nt_nI, bit_nI, b2_ite, b2_ite1, nI_max, nI_min, isR_nI, n_1000000, n_2, hi_ne, hi_ni, hi_eq, hi_wL, hi_wR, hl_wI, hl_wR, hl_ne, hl_ni, hl_eq, hr_wI, hr_wL, if_true, if_false, if_pos, if_neg, true_and, and_true, not_true_eq_false, not_false_eq_true, x.n, x.h, x.b, x.mo, x.wi, x.ca, x.ro, x.ti, x.il, x.ni, x.ga, x.ri, Option.getD_some]
    refine c_turnTold x ld mayOf_ok (prH_le P a) hl2 (fun τ' f' s' hr' => ?_)
    rw [wp_some]
    exact ⟨rfl, (f.mono rfl).trans (f'.mono rfl), s', hr'⟩
theorem c_missed (x : CX σ P a) (s : SC σ) {r : Nat} (hr' : r < P.n) : wp (f_X1_missed (some 0) (nI r) σ) (QuC σ (match lstO P (mayOf P a (2 ^ r)) 1000000 (prH P a) with
    | none => -2
    | some u => nI u - nI ((lstO P (mayOf P a 0) 1000000 (prH P a)).getD 1000000)) none) := by
  have n8 := x.n8
  have x0 := x
  unfold f_X1_missed
  simp (disch := first | omega | exact x.s | exact hi_eq | ((repeat (first | exact x.s | apply sw_I | apply sw_L | apply sw_cp | apply sw_18 | apply sw_21 | apply sw_22 | apply sw_m12 | apply sw_m18)); done) | rfl) only [wp_ite, wp_some, w_jn, wp_r0, wp_r1, wp_b2, wp_nn, w_bc, w_nt, wo_0, wg_0, wi_0, w_has, w_isRider, w_isPair, w_isHour, w_in, w_in0, w_in_0_1, w_in_0_10, w_in_0_3, w_in_0_30, w_in_0_60, w_in_0_7, w_in_0_9, w_in_0_999, w_in_1_60, w_in_20_27, w_in_2_40, w_in_48_57, w_whole, w_all, wt_0, wt_1, wt_2, nI_add, nI_1, nI_mul, nI_and, nI_or, nI_sd, nI_sub, l_sub1, l_addm1, l_all, l_1shl, l_or0, l_add0, l_0add, l_m1, l_m1r, l_neg, l_nn, l_eq0, l_le0, l_0lt, l_eq1, l_m1lt, l_m1le, l_m1eq0, l_10, l_00, l_1le, nI_le_l, nI_lt_l, nI_eq_l, bc_nI, nt_nI, bit_nI, b2_ite, b2_ite1, nI_max, nI_min, isR_nI, n_1000000, n_2, hi_ne, hi_ni, hi_eq, hi_wL, hi_wR, hl_wI, hl_wR, hl_ne, hl_ni, hl_eq, hr_wI, hr_wL, if_true, if_false, if_pos, if_neg, true_and, and_true, not_true_eq_false, not_false_eq_true, x.n, x.h, x.b, x.mo, x.wi, x.ca, x.ro, x.ti, x.il, x.ni, x.ga, x.ri]
  rw [wp_bnd]
  refine wp_mono (c_easiestBut x s (w := 0) (by decide)) (fun y τ h => ?_)
  obtain ⟨rfl, f, ld⟩ := h
  replace x := x0.fr f rfl
  simp (disch := first | omega | exact x.s | exact hi_eq | ((repeat (first | exact x.s | apply sw_I | apply sw_L | apply sw_cp | apply sw_18 | apply sw_21 | apply sw_22 | apply sw_m12 | apply sw_m18)); done) | rfl) only [wp_ite, wp_some, w_jn, wp_r0, wp_r1, wp_b2, wp_nn, w_bc, w_nt, wo_0, wg_0, wi_0, w_has, w_isRider, w_isPair, w_isHour, w_in, w_in0, w_in_0_1, w_in_0_10, w_in_0_3, w_in_0_30, w_in_0_60, w_in_0_7, w_in_0_9, w_in_0_999, w_in_1_60, w_in_20_27, w_in_2_40, w_in_48_57, w_whole, w_all, wt_0, wt_1, wt_2, nI_add, nI_1, nI_mul, nI_and, nI_or, nI_sd, nI_sub, l_sub1, l_addm1, l_all, l_1shl, l_or0, l_add0, l_0add, l_m1, l_m1r, l_neg, l_nn, l_eq0, l_le0, l_0lt, l_eq1, l_m1lt, l_m1le, l_m1eq0, l_10, l_00, l_1le, nI_le_l, nI_lt_l, nI_eq_l, bc_nI, nt_nI, bit_nI, b2_ite, b2_ite1, nI_max, nI_min, isR_nI, n_1000000, n_2, hi_ne, hi_ni, hi_eq, hi_wL, hi_wR, hl_wI, hl_wR, hl_ne, hl_ni, hl_eq, hr_wI, hr_wL, if_true, if_false, if_pos, if_neg, true_and, and_true, not_true_eq_false, not_false_eq_true, x.n, x.h, x.b, x.mo, x.wi, x.ca, x.ro, x.ti, x.il, x.ni, x.ga, x.ri]
  rw [wp_bnd]
  refine wp_mono (c_easiestBut x ld.sc (w := 2 ^ r) (pow_lt8 (by omega))) (fun y τ' h => ?_)
  obtain ⟨rfl, f', ld⟩ := h
  replace f := f.trans f'
  replace x := x0.fr f rfl
  cases hl2 : lstO P (mayOf P a (2 ^ r)) 1000000 (prH P a) with
  | none =>
    simp (disch := first | omega | exact x.s | exact hi_eq | ((repeat (first | exact x.s | apply sw_I | apply sw_L | apply sw_cp | apply sw_18 | apply sw_21 | apply sw_22 | apply sw_m12 | apply sw_m18)); done) | rfl) only [wp_ite, wp_some, w_jn, wp_r0, wp_r1, wp_b2, wp_nn, w_bc, w_nt, wo_0, wg_0, wi_0, w_has, w_isRider, w_isPair, w_isHour, w_in, w_in0, w_in_0_1, w_in_0_10, w_in_0_3, w_in_0_30, w_in_0_60, w_in_0_7, w_in_0_9, w_in_0_999, w_in_1_60, w_in_20_27, w_in_2_40, w_in_48_57, w_whole, w_all, wt_0, wt_1, wt_2, nI_add, nI_1, nI_mul, nI_and, nI_or, nI_sd, nI_sub, l_sub1, l_addm1, l_all, l_1shl, l_or0, l_add0, l_0add, l_m1, l_m1r, l_neg, l_nn, l_eq0, l_le0, l_0lt, l_eq1, l_m1lt, l_m1le, l_m1eq0, l_10, l_00, l_1le, nI_le_l, nI_lt_l, nI_eq_l, bc_nI, nt_nI, bit_nI, b2_ite, b2_ite1, nI_max, nI_min, isR_nI, n_1000000, n_2, hi_ne, hi_ni, hi_eq, hi_wL, hi_wR, hl_wI, hl_wR, hl_ne, hl_ni, hl_eq, hr_wI, hr_wL, if_true, if_false, if_pos, if_neg, true_and, and_true, not_true_eq_false, not_false_eq_true, x.n, x.h, x.b, x.mo, x.wi, x.ca, x.ro, x.ti, x.il, x.ni, x.ga, x.ri, Option.getD_none]
    exact ⟨rfl, f.mono rfl, ld.sc, RwC.fr f rfl⟩
  | some v =>
    have v8 := lst_le (prH_le P a) hl2
    simp (disch := first | omega | exact x.s | exact hi_eq | ((repeat (first | exact x.s | apply sw_I | apply sw_L | apply sw_cp | apply sw_18 | apply sw_21 | apply sw_22 | apply sw_m12 | apply sw_m18)); done) | rfl) only [wp_ite, wp_some, w_jn, wp_r0, wp_r1, wp_b2, wp_nn, w_bc, w_nt, wo_0, wg_0, wi_0, w_has, w_isRider, w_isPair, w_isHour, w_in, w_in0, w_in_0_1, w_in_0_10, w_in_0_3, w_in_0_30, w_in_0_60, w_in_0_7, w_in_0_9, w_in_0_999, w_in_1_60, w_in_20_27, w_in_2_40, w_in_48_57, w_whole, w_all, wt_0, wt_1, wt_2, nI_add, nI_1, nI_mul, nI_and, nI_or, nI_sd, nI_sub, l_sub1, l_addm1, l_all, l_1shl, l_or0, l_add0, l_0add, l_m1, l_m1r, l_neg, l_nn, l_eq0, l_le0, l_0lt, l_eq1, l_m1lt, l_m1le, l_m1eq0, l_10, l_00, l_1le, nI_le_l, nI_lt_l, nI_eq_l, bc_nI, nt_nI, bit_nI, b2_ite, b2_ite1, nI_max, nI_min, isR_nI, n_1000000, n_2, hi_ne, hi_ni, hi_eq, hi_wL, hi_wR, hl_wI, hl_wR, hl_ne, hl_ni, hl_eq, hr_wI, hr_wL, if_true, if_false, if_pos, if_neg, true_and, and_true, not_true_eq_false, not_false_eq_true, x.n, x.h, x.b, x.mo, x.wi, x.ca, x.ro, x.ti, x.il, x.ni, x.ga, x.ri, Option.getD_some]
    exact ⟨rfl, f.mono rfl, ld.sc, RwC.fr f rfl⟩
end cques
