/-! PURE 91: nights; a rota taken -/
def niR (V : VS) (v : Int32) : Int32 × VS := if 0 ≤ v ∧ v ≤ 30 then ((goI V.P V.a (ix v)).gaps - V.a.gaps, (V.P, goI V.P V.a (ix v), V.T, (if ix v = 0 then V.U else psh V.U V.a), V.K, V.F, [((goI V.P V.a (ix v)).rid - V.a.rid).toInt64, (sumI (goI V.P V.a (ix v)).tired V.P.n).toInt64], V.ch)) else (-1, V)
theorem ni_ok {V : VS} (h : VOK V) (ha : HOK V.P.n V.a) {v : Int32} : VOK (niR V v).2 := by
  unfold niR
  split
  · refine ⟨h.1, ?_, h.2.2⟩
    show (if ix v = 0 then V.U else psh V.U V.a).1 ≤ 12 ∧ ∀ k, k < (if ix v = 0 then V.U else psh V.U V.a).1 → HOK V.P.n ((if ix v = 0 then V.U else psh V.U V.a).2 k)
    split
    · exact h.2.1
    · exact ⟨psh_le h.2.1.1, psh_ok h.2.1.2 ha⟩
  · exact h
section nights
variable {V : VS} {σ τ υ : Hp} {P : Pk} {a : HS}
theorem m_goNights38 {n : Nat} (x : MY σ P) (ha : MH σ 38 0 a) (hok : HOK P.n a) (hn' : n ≤ 60) : wp (f_X3_goNights (some 37) (some 38) (nI n) σ) (fun _ τ => Fr [38, 47, 51, 52] [] GG2 σ τ ∧ MH τ 38 0 (goI P a n)) := by
  have x0 := x
  unfold f_X3_goNights
  refine wp_up n (fun i y τ => y = nI i ∧ Fr [38, 47, 51, 52] [] GG2 σ τ ∧ MH τ 38 0 (goI P a i)) (fun ag i y τ hi' hJ hag => ?_) (fun ag y τ hJ => ?_) (by omega) ⟨rfl, Fr.refl, ha⟩
  · obtain ⟨rfl, f, h1⟩ := hJ
    have x := x0.fr f rfl
    unfold f_X3_goNights_b2
    simp (disch := first | omega | exact x.s | exact hi_eq | ((repeat (first | exact x.s | apply sw_I | apply sw_L | apply sw_cp | apply sw_18 | apply sw_21 | apply sw_22 | apply sw_m12 | apply sw_m18)); done) | rfl) only [wp_ite, wp_some, y_jn, wp_r0, wp_r1, wp_b2, y_nn, w_bc, w_nt, wo_37, wg_37, wi_37, w_has3, w_isMan, w_areTwo, w_isHour3, w_in3, w_night, wtM_0, wtM_1, wtM_2, nI_add, nI_1, nI_mul, nI_and, nI_or, nI_sd, nI_sub, l_sub1, l_addm1, l_all, l_1shl, l_or0, l_add0, l_0add, l_m1, l_m1r, l_neg, l_nn, l_eq0, l_le0, l_0lt, l_eq1, l_m1lt, l_m1le, l_m1eq0, l_10, l_00, l_1le, nI_le_l, nI_lt_l, nI_eq_l, bc_nI, nt_nI, bit_nI, b2_ite, b2_ite1, nI_max, nI_min, isR_nI, n_2, hi_ne, hi_ni, hi_eq, y_iL, y_iR, y_lI, y_lR, hl_ne, hl_ni, hl_eq, y_rI, y_rL, if_true, if_false, if_pos, if_neg, true_and, and_true, not_true_eq_false, not_false_eq_true, x.n, x.h, x.b, x.mo, x.wi, x.ca]
    rw [wp_bnd]
    refine wp_mono (m_goNight_38 x h1 (goI_ok hok i)) (fun _ τ' h => ?_)
    exact hag _ _ ⟨rfl, f.then h.1 rfl, h.2.1⟩
  · obtain ⟨rfl, f, h1⟩ := hJ
    unfold f_X3_goNights_b2
    simp (disch := first | omega | exact x0.s | exact hi_eq | ((repeat (first | exact x0.s | apply sw_I | apply sw_L | apply sw_cp | apply sw_18 | apply sw_21 | apply sw_22 | apply sw_m12 | apply sw_m18)); done) | rfl) only [wp_ite, wp_some, y_jn, wp_r0, wp_r1, wp_b2, y_nn, w_bc, w_nt, wo_37, wg_37, wi_37, w_has3, w_isMan, w_areTwo, w_isHour3, w_in3, w_night, wtM_0, wtM_1, wtM_2, nI_add, nI_1, nI_mul, nI_and, nI_or, nI_sd, nI_sub, l_sub1, l_addm1, l_all, l_1shl, l_or0, l_add0, l_0add, l_m1, l_m1r, l_neg, l_nn, l_eq0, l_le0, l_0lt, l_eq1, l_m1lt, l_m1le, l_m1eq0, l_10, l_00, l_1le, nI_le_l, nI_lt_l, nI_eq_l, bc_nI, nt_nI, bit_nI, b2_ite, b2_ite1, nI_max, nI_min, isR_nI, n_2, hi_ne, hi_ni, hi_eq, y_iL, y_iR, y_lI, y_lR, hl_ne, hl_ni, hl_eq, y_rI, y_rL, if_true, if_false, if_pos, if_neg, true_and, and_true, not_true_eq_false, not_false_eq_true, x0.n, x0.h, x0.b, x0.mo, x0.wi, x0.ca]
    exact ⟨f, h1⟩
/-- nights on the class's horse -/
theorem c_goes1 (h : CV σ V) {n : Nat} (hn' : n ≤ 60) : wp (f_X1_nightsGo (some 0) (some 1) (nI n) σ) (fun _ τ => Fr [1, 3, 18, 19] [18, 19, 20, 28, 29] [] σ τ ∧ CV τ (sA V (goI V.P V.a n) V.U)) := by
  have x := h.1
  refine wp_mono (c_nightsGo x.y x.2.2.2.1 x.ok (Or.inl rfl) hn') (fun _ τ h1 => ?_)
  obtain ⟨f, hc⟩ := h1
  have f' : Fr [1, 3, 18, 19] [18, 19, 20, 28, 29] [] σ τ := f.mono rfl
  exact ⟨f', h.horse f' rfl hc (goI_ok x.ok n)⟩
theorem m_goes1 (h : MW σ V) {n : Nat} (hn' : n ≤ 60) : wp (f_X3_goNights (some 37) (some 38) (nI n) σ) (fun _ τ => Fr [38, 47, 51, 52] [] GG2 σ τ ∧ MW τ (sA V (goI V.P V.a n) V.U)) := by
  have x := h.1
  refine wp_mono (m_goNights38 x.y x.2.2.2.1 x.ok hn') (fun _ τ h1 => ?_)
  obtain ⟨f, hc⟩ := h1
  exact ⟨f, h.horse f rfl hc (goI_ok x.ok n)⟩
theorem c_nights (h : CV σ V) {v : Int32} : wp (f_X1_nights (some 0) v σ) (GoC σ 3 (niR V v).1 (niR V v).2) := by
  have x := h.1
  unfold f_X1_nights niR
  rw [w_in_0_30, b2_ite]
  by_cases c : 0 ≤ v ∧ v ≤ 30
  · rw [if_pos c, if_pos c, y_jn]
    obtain ⟨n, hn', rfl⟩ := lo_pos c.1
    have n30 := nI_b1 (m := 30) hn' (by decide) c.2
    rw [ix_nI hn', ite_le0 hn']
    generalize hQ : GoC σ 3 ((goI V.P V.a n).gaps - V.a.gaps, (V.P, goI V.P V.a n, V.T, (if n = 0 then V.U else psh V.U V.a), V.K, V.F, [((goI V.P V.a n).rid - V.a.rid).toInt64, (sumI (goI V.P V.a n).tired V.P.n).toInt64], V.ch)).1 ((goI V.P V.a n).gaps - V.a.gaps, (V.P, goI V.P V.a n, V.T, (if n = 0 then V.U else psh V.U V.a), V.K, V.F, [((goI V.P V.a n).rid - V.a.rid).toInt64, (sumI (goI V.P V.a n).tired V.P.n).toInt64], V.ch)).2 = Q
    have fin : ∀ (ω : Hp) (U : US), FrS [] [25] [] 3 σ ω → CV ω (sA V V.a U) → U = (if n = 0 then V.U else psh V.U V.a) → wp (gR 0 0 ω (some 0) fun y4 => gI 1 4 ω y4 fun x5 => gR 0 0 ω (some 0) fun y6 => gI 1 5 ω y6 fun x7 => gR 0 0 ω (some 0) fun y8 => ob 0 ω (some 0) fun _ => bnd (f_X1_nightsGo (some 0) y8 (nI n) ω) fun _ σ => pI 0 0 52 σ (some 0) 0 fun σ => gR 0 0 σ (some 0) fun y9 => gI 1 5 σ y9 fun x10 => ob 0 σ (some 0) fun _ => bnd (f_X1_tells (some 0) (Int32.toInt64 (x10 - x7)) σ) fun _ σ => gR 0 0 σ (some 0) fun y11 => gR 1 1 σ y11 fun y12 => ob 0 σ (some 0) fun _ => bnd (f_X1_sumOf (some 0) y12 σ) fun x13 σ => ob 0 σ (some 0) fun _ => bnd (f_X1_tells (some 0) (Int32.toInt64 x13) σ) fun _ σ => gR 0 0 σ (some 0) fun y14 => gI 1 4 σ y14 fun x15 => some ((x15 - x5), σ)) Q := by
      intro ω U f0 h1 hU
      have x1 := h1.1
      rw [wp_gR, sp_0_0 x1.s]
      refine ⟨so_0 x1.s, ?_⟩
      rw [wp_gI, x1.ga]
      refine ⟨so_1 x1.s, ?_⟩
      rw [wp_gR, sp_0_0 x1.s]
      refine ⟨so_0 x1.s, ?_⟩
      rw [wp_gI, x1.ri]
      refine ⟨so_1 x1.s, ?_⟩
      rw [wp_gR, sp_0_0 x1.s]
      refine ⟨so_0 x1.s, ?_⟩
      rw [wp_ob]
      refine ⟨so_0 x1.s, ?_⟩
      rw [wp_bnd]
      refine wp_mono (c_goes1 h1 (show n ≤ 60 by omega)) (fun _ τ h2 => ?_)
      obtain ⟨f1, h2⟩ := h2
      have x2 := h2.1
      have n8 := x2.n8
      have e5 := x2.ri
      have e4 := x2.ga
      rw [wp_pI]
      refine ⟨so_0 x2.s, rfl, ?_⟩
      have g3 : Fr [] [52] [] τ (wI τ 0 52 0) := Fr.refl.putI rfl
      have x3 := x2.fr g3 rfl
      rw [wp_gR, sp_0_0 x3.s]
      refine ⟨so_0 x3.s, ?_⟩
      rw [wp_gI, x3.ri]
      refine ⟨so_1 x3.s, ?_⟩
      rw [wp_ob]
      refine ⟨so_0 x3.s, ?_⟩
      rw [wt_0 x3.s hi_eq]
      generalize hD : ((goI V.P V.a n).rid - V.a.rid).toInt64 = D at *
      rw [show Int32.toInt64 ((sA (sA V V.a U) (goI (sA V V.a U).P (sA V V.a U).a n) (sA V V.a U).U).a.rid - (sA V V.a U).a.rid) = D from hD]
      have g4 : Fr [36] [52] [] τ (wI (wL (wI τ 0 52 0) 36 0 D) 0 52 1) := ((Fr.refl.putI rfl).putL rfl).putI rfl
      have x4 := x2.fr g4 rfl
      rw [wp_gR, sp_0_0 x4.s]
      refine ⟨so_0 x4.s, ?_⟩
      rw [wp_gR, sp_1_1 x4.s]
      refine ⟨so_1 x4.s, ?_⟩
      rw [wp_ob]
      refine ⟨so_0 x4.s, ?_⟩
      rw [c_tsum (s := 1) x4.s x4.n n8 x4.2.2.2.1, e_bnd, wp_ob]
      refine ⟨so_0 x4.s, ?_⟩
      rw [wt_1 x4.s hi_eq]
      have g5 : Fr [36] [52] [] τ (wI (wL (wI (wL (wI τ 0 52 0) 36 0 D) 0 52 1) 36 1 (sumI (goI V.P V.a n).tired V.P.n).toInt64) 0 52 2) := ((((Fr.refl.putI rfl).putL rfl).putI rfl).putL rfl).putI rfl
      have h5 := h2.row g5 rfl rfl (row2 (σ := τ) (v := D) (w := (sumI (goI V.P V.a n).tired V.P.n).toInt64))
      have x5 := h5.1
      rw [wp_gR, show hr (wI (wL (wI (wL (wI τ 0 52 0) 36 0 D) 0 52 1) 36 1 (Int32.toInt64 (sumI (sA (sA V V.a U) (goI (sA V V.a U).P (sA V V.a U).a n) (sA V V.a U).U).a.tired (sA (sA V V.a U) (goI (sA V V.a U).P (sA V V.a U).a n) (sA V V.a U).U).P.n))) 0 52 2) 0 0 = some 1 from sp_0_0 x5.s]
      refine ⟨so_0 x5.s, ?_⟩
      rw [wp_gI]
      refine ⟨so_1 x5.s, ?_⟩
      rw [wp_some, ← hQ]
      refine ⟨?_, ?_, [1, 3, 18, 19, 36], [18, 19, 20, 25, 28, 29, 52], ?_, rfl⟩
      · show hi τ 1 4 - V.a.gaps = _
        rw [e4]; rfl
      · rw [← hU]; exact h5
      · exact ((f0.mono rfl (Nat.le_refl _)).trans ((f1.mono (D' := [1, 3, 18, 19, 36]) (F' := [18, 19, 20, 25, 28, 29, 52]) (G' := []) rfl).frs x1.s rfl)).trans ((g5.mono rfl).frs x2.s rfl)
    by_cases c0 : n = 0
    · rw [if_pos c0]
      exact fin σ V.U (((Fr.refl (D := []) (F := [25]) (G := [])).frs x.s rfl).mono rfl (Nat.zero_le _)) h (by rw [if_pos c0])
    · rw [if_neg c0, wp_gR, sp_0_0 x.s]
      refine ⟨so_0 x.s, ?_⟩
      rw [wp_ob]
      refine ⟨so_0 x.s, ?_⟩
      rw [wp_bnd]
      refine wp_mono (c_puts1 h) (fun _ τ h1 => ?_)
      exact fin τ (psh V.U V.a) h1.1 h1.2 (by rw [if_neg c0])
  · rw [if_neg c, if_neg c, wp_some]
    exact GoC.same h
theorem i38 {ω : Hp} (hs : Sh ω) (j : Nat) (hj : j < 27) : inb (nI j) (hk ω 38).2 := by rw [sl_38 hs, inb_nI (by omega)]; exact hj
theorem m_nights (h : MW σ V) (hk : VOK V) {v : Int32} : wp (f_X3_nights (some 37) v σ) (GoM σ (niR V v).1 (niR V v).2) := by
  have h1 := h.thr (v := 0)
  have x := h1.1
  unfold f_X3_nights niR
  rw [wp_pI]
  refine ⟨so_37 h.1.s, rfl, ?_⟩
  rw [w_in3, b2_ite]
  by_cases c : 0 ≤ v ∧ v ≤ 30
  · rw [if_pos c, if_pos c, y_jn]
    obtain ⟨n, hn', rfl⟩ := lo_pos c.1
    have n30 := nI_b1 (m := 30) hn' (by decide) c.2
    rw [ix_nI hn', ite_le0 hn']
    generalize hQ : GoM σ ((goI V.P V.a n).gaps - V.a.gaps, (V.P, goI V.P V.a n, V.T, (if n = 0 then V.U else psh V.U V.a), V.K, V.F, [((goI V.P V.a n).rid - V.a.rid).toInt64, (sumI (goI V.P V.a n).tired V.P.n).toInt64], V.ch)).1 ((goI V.P V.a n).gaps - V.a.gaps, (V.P, goI V.P V.a n, V.T, (if n = 0 then V.U else psh V.U V.a), V.K, V.F, [((goI V.P V.a n).rid - V.a.rid).toInt64, (sumI (goI V.P V.a n).tired V.P.n).toInt64], V.ch)).2 = Q
    have fin : ∀ (ω : Hp) (U : US), Fr [48] [] [24] (wI σ 37 11 0) ω → MW ω (sA V V.a U) → U = (if n = 0 then V.U else psh V.U V.a) → wp (gR 2 0 ω (some 37) fun y4 => lI 100 ω y4 25 fun x5 => gR 2 0 ω (some 37) fun y6 => lI 100 ω y6 26 fun x7 => gR 2 0 ω (some 37) fun y8 => ob 2 ω (some 37) fun _ => bnd (f_X3_goNights (some 37) y8 (nI n) ω) fun _ σ => pI 0 2 10 σ (some 37) 0 fun σ => gR 2 0 σ (some 37) fun y9 => lI 100 σ y9 26 fun x10 => ob 2 σ (some 37) fun _ => bnd (f_X3_tell (some 37) (Int32.toInt64 (x10 - x7)) σ) fun _ σ => gR 2 0 σ (some 37) fun y11 => ob 2 σ (some 37) fun _ => bnd (f_X3_tired (some 37) y11 σ) fun x12 σ => ob 2 σ (some 37) fun _ => bnd (f_X3_tell (some 37) (Int32.toInt64 x12) σ) fun _ σ => gR 2 0 σ (some 37) fun y13 => lI 100 σ y13 25 fun x14 => some ((x14 - x5), σ)) Q := by
      intro ω U f0 h1' hU
      have x1 := h1'.1
      have i24 := @i38
      have e25 : ix (25 : Int32) = 25 := rfl
      have e26 : ix (26 : Int32) = 26 := rfl
      rw [wp_gR, sp_37_0 x1.s]
      refine ⟨so_37 x1.s, ?_⟩
      rw [wp_lI, e25, x1.ga]
      refine ⟨⟨so_38 x1.s, i24 x1.s 25 (by decide)⟩, ?_⟩
      rw [wp_gR, sp_37_0 x1.s]
      refine ⟨so_37 x1.s, ?_⟩
      rw [wp_lI, e26, x1.ri]
      refine ⟨⟨so_38 x1.s, i24 x1.s 26 (by decide)⟩, ?_⟩
      rw [wp_gR, sp_37_0 x1.s]
      refine ⟨so_37 x1.s, ?_⟩
      rw [wp_ob]
      refine ⟨so_37 x1.s, ?_⟩
      rw [wp_bnd]
      refine wp_mono (m_goes1 h1' (show n ≤ 60 by omega)) (fun _ τ h2 => ?_)
      obtain ⟨f1, h2⟩ := h2
      have x2 := h2.1
      have n8 := x2.n8
      have e4 := x2.ga
      rw [wp_pI]
      refine ⟨so_37 x2.s, rfl, ?_⟩
      have g3 : Fr [] [] [10] τ (wI τ 37 10 0) := Fr.refl.putI rfl
      have x3 := x2.fr g3 rfl
      rw [wp_gR, sp_37_0 x3.s]
      refine ⟨so_37 x3.s, ?_⟩
      rw [wp_lI, e26, x3.ri]
      refine ⟨⟨so_38 x3.s, i24 x3.s 26 (by decide)⟩, ?_⟩
      rw [wp_ob]
      refine ⟨so_37 x3.s, ?_⟩
      rw [wtM_0 x3.s hi_eq]
      generalize hD : ((goI V.P V.a n).rid - V.a.rid).toInt64 = D at *
      rw [show Int32.toInt64 ((sA (sA V V.a U) (goI (sA V V.a U).P (sA V V.a U).a n) (sA V V.a U).U).a.rid - (sA V V.a U).a.rid) = D from hD]
      have g4 : Fr [43] [] [10] τ (wI (wL (wI τ 37 10 0) 43 0 D) 37 10 1) := ((Fr.refl.putI rfl).putL rfl).putI rfl
      have x4 := x2.fr g4 rfl
      rw [wp_gR, sp_37_0 x4.s]
      refine ⟨so_37 x4.s, ?_⟩
      rw [wp_ob]
      refine ⟨so_37 x4.s, ?_⟩
      rw [m_tsum x4.s x4.n n8 (so_38 x4.s) (sl_38 x4.s) x4.2.2.2.1, e_bnd, wp_ob]
      refine ⟨so_37 x4.s, ?_⟩
      rw [wtM_1 x4.s hi_eq]
      have g5 : Fr [43] [] [10] τ (wI (wL (wI (wL (wI τ 37 10 0) 43 0 D) 37 10 1) 43 1 (sumI (goI V.P V.a n).tired V.P.n).toInt64) 37 10 2) := ((((Fr.refl.putI rfl).putL rfl).putI rfl).putL rfl).putI rfl
      have h5 := h2.row g5 rfl rfl (rowM2 (σ := τ) (v := D) (w := (sumI (goI V.P V.a n).tired V.P.n).toInt64))
      have x5 := h5.1
      rw [wp_gR, show hr (wI (wL (wI (wL (wI τ 37 10 0) 43 0 D) 37 10 1) 43 1 (Int32.toInt64 (sumI (sA (sA V V.a U) (goI (sA V V.a U).P (sA V V.a U).a n) (sA V V.a U).U).a.tired (sA (sA V V.a U) (goI (sA V V.a U).P (sA V V.a U).a n) (sA V V.a U).U).P.n))) 37 10 2) 37 0 = some 38 from sp_37_0 x5.s]
      refine ⟨so_37 x5.s, ?_⟩
      rw [wp_lI, e25]
      refine ⟨⟨so_38 x5.s, i24 x5.s 25 (by decide)⟩, ?_⟩
      rw [wp_some, ← hQ]
      have fall : Fr [38, 43, 47, 48, 51, 52] [] [10, 12, 13, 14, 15, 16, 21, 24, 27, 28] (wI σ 37 11 0) _ := ((f0.mono rfl).trans (f1.mono rfl)).trans (g5.mono rfl)
      have := MVo h1 h (r := (goI V.P V.a n).gaps - V.a.gaps) h5 fall rfl rfl
      refine ⟨?_, by rw [← hU]; exact this.2.1, this.2.2⟩
      show hi τ 38 25 - V.a.gaps = _
      rw [e4]; rfl
    by_cases c0 : n = 0
    · rw [if_pos c0]
      exact fin _ V.U Fr.refl h1 (by rw [if_pos c0])
    · rw [if_neg c0, wp_gR, sp_37_0 x.s]
      refine ⟨so_37 x.s, ?_⟩
      rw [wp_ob]
      refine ⟨so_37 x.s, ?_⟩
      rw [wp_bnd]
      refine wp_mono (m_rem1 h1 hk) (fun _ τ h2 => ?_)
      exact fin τ (psh V.U V.a) h2.1 h2.2 (by rw [if_neg c0])
  · rw [if_neg c, if_neg c, wp_some]
    exact GoM.thr h
end nights
