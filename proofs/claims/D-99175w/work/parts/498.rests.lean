/-! PURE 68: rests, whole -/
abbrev RT : Type := Nat × Nat × List Int64
noncomputable def rsU (v w : Nat) (s : RT) (x y : Nat) : RT := if rsI x y v w = 0 then s else (s.1 + 1, s.2.1 + (if x < y then 0 else 1), if s.1 = 0 then [(nI x).toInt64, (nI y).toInt64] else s.2.2)
noncomputable def rsJ (v w : Nat) (s : RT) (x : Nat) : Nat → RT
  | 0 => s
  | y + 1 => rsU v w (rsJ v w s x y) x y
noncomputable def rsO (v w : Nat) : Nat → RT
  | 0 => (0, 0, [])
  | x + 1 => rsJ v w (rsO v w x) x 10
/-- what is told so far -/
def rsK (s : RT) (m : Nat) : Prop := s.1 ≤ m ∧ s.2.1 ≤ m ∧ (s.1 = 0 → s.2.2 = []) ∧ s.2.2.length ≤ 2
theorem rsK_U {v w : Nat} {s : RT} {m x y : Nat} (h : rsK s m) : rsK (rsU v w s x y) (m + 1) := by
  obtain ⟨h1, h2, h3, h4⟩ := h
  unfold rsU
  split
  · exact ⟨by omega, by omega, h3, h4⟩
  · refine ⟨by dsimp only; omega, by dsimp only; split <;> omega, fun e => by dsimp only at e; omega, ?_⟩
    dsimp only
    split
    · exact Nat.le_refl 2
    · exact h4
theorem rsK_J {v w : Nat} {s : RT} {m x : Nat} (h : rsK s m) : ∀ y, rsK (rsJ v w s x y) (m + y) := by
  intro y
  induction y with
  | zero => exact h
  | succ y ih => exact rsK_U ih
theorem rsK_O {v w : Nat} : ∀ x, rsK (rsO v w x) (10 * x) := by
  intro x
  induction x with
  | zero => exact ⟨Nat.le_refl _, Nat.le_refl _, fun _ => rfl, Nat.zero_le _⟩
  | succ x ih =>
    have := rsK_J (v := v) (w := w) (x := x) ih 10
    rw [show 10 * (x + 1) = 10 * x + 10 by omega]
    exact this
def rsW (s : RT) : List Int64 := if s.1 = 0 then [] else s.2.2 ++ [(nI s.2.1).toInt64]
section rests2
variable {σ τ : Hp} {P : Pk} {a : HS}
theorem c_rests (x : CX σ P a) (s : SC σ) {v w : Nat} (hv : v < 10) (hw : w < 10) : wp (f_X1_rests (some 0) (nI v) (nI w) σ) (QuC σ (nI (rsO v w 10).1) (some (rsW (rsO v w 10)))) := by
  have x0 := x
  have i1 : ((0 : Int32) ≤ nI v ∧ nI v ≤ nI 9) := ⟨by rw [l_nn (by omega)]; trivial, by rw [nI_le_l (by omega) (by decide)]; omega⟩
  have i2 : ((0 : Int32) ≤ nI w ∧ nI w ≤ nI 9) := ⟨by rw [l_nn (by omega)]; trivial, by rw [nI_le_l (by omega) (by decide)]; omega⟩
  generalize hQ : QuC σ (nI (rsO v w 10).1) (some (rsW (rsO v w 10))) = Q
  unfold f_X1_rests
  simp (disch := first | omega | exact x.s | exact hi_eq | ((repeat (first | exact x.s | apply sw_I | apply sw_L | apply sw_cp | apply sw_18 | apply sw_21 | apply sw_22 | apply sw_m12 | apply sw_m18)); done) | rfl) only [wp_ite, wp_some, y_jn, wp_r0, wp_r1, wp_b2, y_nn, w_bc, w_nt, wo_0, wg_0, wi_0, w_has, w_isRider, w_isPair, w_isHour, w_in, w_in0, w_in_0_1, w_in_0_10, w_in_0_3, w_in_0_30, w_in_0_60, w_in_0_7, w_in_0_9, w_in_0_999, w_in_1_60, w_in_20_27, w_in_2_40, w_in_48_57, w_whole, w_all, wt_0, wt_1, wt_2, nI_add, nI_1, nI_mul, nI_and, nI_or, nI_sd, nI_sub, l_sub1, l_addm1, l_all, l_1shl, l_or0, l_add0, l_0add, l_m1, l_m1r, l_neg, l_nn, l_eq0, l_le0, l_0lt, l_eq1, l_m1lt, l_m1le, l_m1eq0, l_10, l_00, l_1le, nI_le_l, nI_lt_l, nI_eq_l, bc_nI, nt_nI, bit_nI, b2_ite, b2_ite1, nI_max, nI_min, isR_nI, n_9, hi_ne, hi_ni, hi_eq, y_iL, y_iR, y_lI, y_lR, hl_ne, hl_ni, hl_eq, y_rI, y_rL, if_true, if_false, if_pos, if_neg, true_and, and_true, not_true_eq_false, not_false_eq_true, x.n, x.h, x.b, x.mo, x.wi, x.ca, x.ro, x.ti, x.il, x.ni, x.ga, x.ri, i1, i2]
  refine wp_up 10 (fun p y τ => y = (nI (rsO v w p).1, nI (rsO v w p).2.1, nI p) ∧ Fr [36] [52] [] σ τ ∧ RowC τ (rsO v w p).2.2) (fun ag p y τ hp hJ hag => ?_) (fun ag y τ hJ => ?_) (by decide) ⟨rfl, (by repeat (first | exact Fr.refl | exact (Fr.refl).mono rfl | refine Fr.putI ?_ rfl | refine Fr.putL ?_ rfl | refine Fr.putR ?_ rfl)), row0⟩
  · obtain ⟨rfl, f, h1⟩ := hJ
    have k0 := rsK_O (v := v) (w := w) p
    have st : rsO v w (p + 1) = rsJ v w (rsO v w p) p 10 := rfl
    rw [st] at hag
    generalize rsO v w p = s0 at *
    replace x := x0.fr f rfl
    unfold f_X1_rests_b39
    simp (disch := first | omega | exact x.s | exact hi_eq | ((repeat (first | exact x.s | apply sw_I | apply sw_L | apply sw_cp | apply sw_18 | apply sw_21 | apply sw_22 | apply sw_m12 | apply sw_m18)); done) | rfl) only [wp_ite, wp_some, y_jn, wp_r0, wp_r1, wp_b2, y_nn, w_bc, w_nt, wo_0, wg_0, wi_0, w_has, w_isRider, w_isPair, w_isHour, w_in, w_in0, w_in_0_1, w_in_0_10, w_in_0_3, w_in_0_30, w_in_0_60, w_in_0_7, w_in_0_9, w_in_0_999, w_in_1_60, w_in_20_27, w_in_2_40, w_in_48_57, w_whole, w_all, wt_0, wt_1, wt_2, nI_add, nI_1, nI_mul, nI_and, nI_or, nI_sd, nI_sub, l_sub1, l_addm1, l_all, l_1shl, l_or0, l_add0, l_0add, l_m1, l_m1r, l_neg, l_nn, l_eq0, l_le0, l_0lt, l_eq1, l_m1lt, l_m1le, l_m1eq0, l_10, l_00, l_1le, nI_le_l, nI_lt_l, nI_eq_l, bc_nI, nt_nI, bit_nI, b2_ite, b2_ite1, nI_max, nI_min, isR_nI, n_9, hi_ne, hi_ni, hi_eq, y_iL, y_iR, y_lI, y_lR, hl_ne, hl_ni, hl_eq, y_rI, y_rL, if_true, if_false, if_pos, if_neg, true_and, and_true, not_true_eq_false, not_false_eq_true, x.n, x.h, x.b, x.mo, x.wi, x.ca, x.ro, x.ti, x.il, x.ni, x.ga, x.ri]
    refine wp_up 10 (fun q y τ => y = (nI (rsJ v w s0 p q).1, nI (rsJ v w s0 p q).2.1, nI q) ∧ Fr [36] [52] [] σ τ ∧ RowC τ (rsJ v w s0 p q).2.2) (fun ag' q y τ hq hJ hag' => ?_) (fun ag' y τ hJ => ?_) (by decide) ⟨rfl, f, h1⟩
    · obtain ⟨rfl, f, h1⟩ := hJ
      obtain ⟨k1, k2, k3, k4⟩ := rsK_J (v := v) (w := w) (x := p) k0 q
      have st2 : rsJ v w s0 p (q + 1) = rsU v w (rsJ v w s0 p q) p q := rfl
      rw [st2] at hag'
      generalize rsJ v w s0 p q = s1 at *
      replace x := x0.fr f rfl
      unfold rsU at hag'
      unfold f_X1_rests_b49
      simp (disch := first | omega | exact x.s | exact hi_eq | ((repeat (first | exact x.s | apply sw_I | apply sw_L | apply sw_cp | apply sw_18 | apply sw_21 | apply sw_22 | apply sw_m12 | apply sw_m18)); done) | rfl) only [wp_ite, wp_some, y_jn, wp_r0, wp_r1, wp_b2, y_nn, w_bc, w_nt, wo_0, wg_0, wi_0, w_has, w_isRider, w_isPair, w_isHour, w_in, w_in0, w_in_0_1, w_in_0_10, w_in_0_3, w_in_0_30, w_in_0_60, w_in_0_7, w_in_0_9, w_in_0_999, w_in_1_60, w_in_20_27, w_in_2_40, w_in_48_57, w_whole, w_all, wt_0, wt_1, wt_2, nI_add, nI_1, nI_mul, nI_and, nI_or, nI_sd, nI_sub, l_sub1, l_addm1, l_all, l_1shl, l_or0, l_add0, l_0add, l_m1, l_m1r, l_neg, l_nn, l_eq0, l_le0, l_0lt, l_eq1, l_m1lt, l_m1le, l_m1eq0, l_10, l_00, l_1le, nI_le_l, nI_lt_l, nI_eq_l, bc_nI, nt_nI, bit_nI, b2_ite, b2_ite1, nI_max, nI_min, isR_nI, n_9, hi_ne, hi_ni, hi_eq, y_iL, y_iR, y_lI, y_lR, hl_ne, hl_ni, hl_eq, y_rI, y_rL, if_true, if_false, if_pos, if_neg, true_and, and_true, not_true_eq_false, not_false_eq_true, x.n, x.h, x.b, x.mo, x.wi, x.ca, x.ro, x.ti, x.il, x.ni, x.ga, x.ri]
      rw [c_isRest hp hq hv hw, e_bnd, y_jn]
      by_cases e1 : rsI p q v w = 0
      · rw [if_pos e1] at hag' ⊢
        exact hag' _ _ ⟨rfl, f, h1⟩
      · rw [if_neg e1] at hag' ⊢
        have fin : ∀ τ' l, Fr [36] [52] [] σ τ' → RowC τ' l → l = (if s1.1 = 0 then [(nI p).toInt64, (nI q).toInt64] else s1.2.2) → ∀ z, z = (nI (s1.1 + 1), nI (s1.2.1 + (if p < q then 0 else 1)), nI (q + 1)) → wp (ag' z τ') Q := fun τ' l f' h' hl2 z hz => hag' _ _ ⟨hz, f', by rw [← hl2]; exact h'⟩
        by_cases e2 : s1.1 = 0
        · have h1' := h1
          rw [k3 e2] at h1'
          have tl : ∀ K : Int32 → Hp → Option (Int32 × Hp), (∀ τ', Fr [36] [52] [] σ τ' → RowC τ' [(nI p).toInt64, (nI q).toInt64] → wp (K 0 τ') Q) → wp (bnd (f_X1_tells (some 0) (Int32.toInt64 (nI p)) τ) fun _ σ => ob 0 σ (some 0) fun _ => bnd (f_X1_tells (some 0) (Int32.toInt64 (nI q)) σ) fun _ σ => K 0 σ) Q := fun K hK => by
            rw [wp_bnd]
            refine wp_mono (row_add x.s h1' (by decide)) (fun _ τ2 h => ?_)
            have f2 := f.then h.1 rfl
            have x2 := x0.fr f2 rfl
            rw [wo_0 x2.s, wp_bnd]
            refine wp_mono (row_add x2.s h.2 (by simp)) (fun _ τ3 h3 => ?_)
            exact hK τ3 (f2.then h3.1 rfl) h3.2
          by_cases e3 : p < q
          · simp (disch := first | omega | exact x.s | exact hi_eq | ((repeat (first | exact x.s | apply sw_I | apply sw_L | apply sw_cp | apply sw_18 | apply sw_21 | apply sw_22 | apply sw_m12 | apply sw_m18)); done) | rfl) only [wp_ite, wp_some, y_jn, wp_r0, wp_r1, wp_b2, y_nn, w_bc, w_nt, wo_0, wg_0, wi_0, w_has, w_isRider, w_isPair, w_isHour, w_in, w_in0, w_in_0_1, w_in_0_10, w_in_0_3, w_in_0_30, w_in_0_60, w_in_0_7, w_in_0_9, w_in_0_999, w_in_1_60, w_in_20_27, w_in_2_40, w_in_48_57, w_whole, w_all, wt_0, wt_1, wt_2, nI_add, nI_1, nI_mul, nI_and, nI_or, nI_sd, nI_sub, l_sub1, l_addm1, l_all, l_1shl, l_or0, l_add0, l_0add, l_m1, l_m1r, l_neg, l_nn, l_eq0, l_le0, l_0lt, l_eq1, l_m1lt, l_m1le, l_m1eq0, l_10, l_00, l_1le, nI_le_l, nI_lt_l, nI_eq_l, bc_nI, nt_nI, bit_nI, b2_ite, b2_ite1, nI_max, nI_min, isR_nI, n_9, hi_ne, hi_ni, hi_eq, y_iL, y_iR, y_lI, y_lR, hl_ne, hl_ni, hl_eq, y_rI, y_rL, if_true, if_false, if_pos, if_neg, true_and, and_true, not_true_eq_false, not_false_eq_true, x.n, x.h, x.b, x.mo, x.wi, x.ca, x.ro, x.ti, x.il, x.ni, x.ga, x.ri, e3]
            rw [if_pos (show nI (s1.1 + 1) ≤ 1 by rw [e2]; decide)]
            refine tl (fun _ σ => ag' (nI (s1.1 + 1), nI s1.2.1, nI (q + 1)) σ) (fun τ' f' h' => fin τ' _ f' h' (by rw [if_pos e2]) _ (by rw [if_pos e3]; rfl))
          · simp (disch := first | omega | exact x.s | exact hi_eq | ((repeat (first | exact x.s | apply sw_I | apply sw_L | apply sw_cp | apply sw_18 | apply sw_21 | apply sw_22 | apply sw_m12 | apply sw_m18)); done) | rfl) only [wp_ite, wp_some, y_jn, wp_r0, wp_r1, wp_b2, y_nn, w_bc, w_nt, wo_0, wg_0, wi_0, w_has, w_isRider, w_isPair, w_isHour, w_in, w_in0, w_in_0_1, w_in_0_10, w_in_0_3, w_in_0_30, w_in_0_60, w_in_0_7, w_in_0_9, w_in_0_999, w_in_1_60, w_in_20_27, w_in_2_40, w_in_48_57, w_whole, w_all, wt_0, wt_1, wt_2, nI_add, nI_1, nI_mul, nI_and, nI_or, nI_sd, nI_sub, l_sub1, l_addm1, l_all, l_1shl, l_or0, l_add0, l_0add, l_m1, l_m1r, l_neg, l_nn, l_eq0, l_le0, l_0lt, l_eq1, l_m1lt, l_m1le, l_m1eq0, l_10, l_00, l_1le, nI_le_l, nI_lt_l, nI_eq_l, bc_nI, nt_nI, bit_nI, b2_ite, b2_ite1, nI_max, nI_min, isR_nI, n_9, hi_ne, hi_ni, hi_eq, y_iL, y_iR, y_lI, y_lR, hl_ne, hl_ni, hl_eq, y_rI, y_rL, if_true, if_false, if_pos, if_neg, true_and, and_true, not_true_eq_false, not_false_eq_true, x.n, x.h, x.b, x.mo, x.wi, x.ca, x.ro, x.ti, x.il, x.ni, x.ga, x.ri, e3]
            rw [if_pos (show nI (s1.1 + 1) ≤ 1 by rw [e2]; decide)]
            refine tl (fun _ σ => ag' (nI (s1.1 + 1), nI (s1.2.1 + 1), nI (q + 1)) σ) (fun τ' f' h' => fin τ' _ f' h' (by rw [if_pos e2]) _ (by rw [if_neg e3]))
        · by_cases e3 : p < q
          · simp (disch := first | omega | exact x.s | exact hi_eq | ((repeat (first | exact x.s | apply sw_I | apply sw_L | apply sw_cp | apply sw_18 | apply sw_21 | apply sw_22 | apply sw_m12 | apply sw_m18)); done) | rfl) only [wp_ite, wp_some, y_jn, wp_r0, wp_r1, wp_b2, y_nn, w_bc, w_nt, wo_0, wg_0, wi_0, w_has, w_isRider, w_isPair, w_isHour, w_in, w_in0, w_in_0_1, w_in_0_10, w_in_0_3, w_in_0_30, w_in_0_60, w_in_0_7, w_in_0_9, w_in_0_999, w_in_1_60, w_in_20_27, w_in_2_40, w_in_48_57, w_whole, w_all, wt_0, wt_1, wt_2, nI_add, nI_1, nI_mul, nI_and, nI_or, nI_sd, nI_sub, l_sub1, l_addm1, l_all, l_1shl, l_or0, l_add0, l_0add, l_m1, l_m1r, l_neg, l_nn, l_eq0, l_le0, l_0lt, l_eq1, l_m1lt, l_m1le, l_m1eq0, l_10, l_00, l_1le, nI_le_l, nI_lt_l, nI_eq_l, bc_nI, nt_nI, bit_nI, b2_ite, b2_ite1, nI_max, nI_min, isR_nI, n_9, hi_ne, hi_ni, hi_eq, y_iL, y_iR, y_lI, y_lR, hl_ne, hl_ni, hl_eq, y_rI, y_rL, if_true, if_false, if_pos, if_neg, true_and, and_true, not_true_eq_false, not_false_eq_true, x.n, x.h, x.b, x.mo, x.wi, x.ca, x.ro, x.ti, x.il, x.ni, x.ga, x.ri, e3]
            rw [if_neg (show ¬ nI (s1.1 + 1) ≤ 1 by rw [show (1 : Int32) = nI 1 from rfl, nI_le_l (by omega) (by decide)]; omega)]
            exact fin τ _ f h1 (by rw [if_neg e2]) (nI (s1.1 + 1), nI s1.2.1, nI (q + 1)) (by rw [if_pos e3]; rfl)
          · simp (disch := first | omega | exact x.s | exact hi_eq | ((repeat (first | exact x.s | apply sw_I | apply sw_L | apply sw_cp | apply sw_18 | apply sw_21 | apply sw_22 | apply sw_m12 | apply sw_m18)); done) | rfl) only [wp_ite, wp_some, y_jn, wp_r0, wp_r1, wp_b2, y_nn, w_bc, w_nt, wo_0, wg_0, wi_0, w_has, w_isRider, w_isPair, w_isHour, w_in, w_in0, w_in_0_1, w_in_0_10, w_in_0_3, w_in_0_30, w_in_0_60, w_in_0_7, w_in_0_9, w_in_0_999, w_in_1_60, w_in_20_27, w_in_2_40, w_in_48_57, w_whole, w_all, wt_0, wt_1, wt_2, nI_add, nI_1, nI_mul, nI_and, nI_or, nI_sd, nI_sub, l_sub1, l_addm1, l_all, l_1shl, l_or0, l_add0, l_0add, l_m1, l_m1r, l_neg, l_nn, l_eq0, l_le0, l_0lt, l_eq1, l_m1lt, l_m1le, l_m1eq0, l_10, l_00, l_1le, nI_le_l, nI_lt_l, nI_eq_l, bc_nI, nt_nI, bit_nI, b2_ite, b2_ite1, nI_max, nI_min, isR_nI, n_9, hi_ne, hi_ni, hi_eq, y_iL, y_iR, y_lI, y_lR, hl_ne, hl_ni, hl_eq, y_rI, y_rL, if_true, if_false, if_pos, if_neg, true_and, and_true, not_true_eq_false, not_false_eq_true, x.n, x.h, x.b, x.mo, x.wi, x.ca, x.ro, x.ti, x.il, x.ni, x.ga, x.ri, e3]
            rw [if_neg (show ¬ nI (s1.1 + 1) ≤ 1 by rw [show (1 : Int32) = nI 1 from rfl, nI_le_l (by omega) (by decide)]; omega)]
            exact fin τ _ f h1 (by rw [if_neg e2]) (nI (s1.1 + 1), nI (s1.2.1 + 1), nI (q + 1)) (by rw [if_neg e3])
    · obtain ⟨rfl, f, h1⟩ := hJ
      replace x := x0.fr f rfl
      unfold f_X1_rests_b49
      simp (disch := first | omega | exact x.s | exact hi_eq | ((repeat (first | exact x.s | apply sw_I | apply sw_L | apply sw_cp | apply sw_18 | apply sw_21 | apply sw_22 | apply sw_m12 | apply sw_m18)); done) | rfl) only [wp_ite, wp_some, y_jn, wp_r0, wp_r1, wp_b2, y_nn, w_bc, w_nt, wo_0, wg_0, wi_0, w_has, w_isRider, w_isPair, w_isHour, w_in, w_in0, w_in_0_1, w_in_0_10, w_in_0_3, w_in_0_30, w_in_0_60, w_in_0_7, w_in_0_9, w_in_0_999, w_in_1_60, w_in_20_27, w_in_2_40, w_in_48_57, w_whole, w_all, wt_0, wt_1, wt_2, nI_add, nI_1, nI_mul, nI_and, nI_or, nI_sd, nI_sub, l_sub1, l_addm1, l_all, l_1shl, l_or0, l_add0, l_0add, l_m1, l_m1r, l_neg, l_nn, l_eq0, l_le0, l_0lt, l_eq1, l_m1lt, l_m1le, l_m1eq0, l_10, l_00, l_1le, nI_le_l, nI_lt_l, nI_eq_l, bc_nI, nt_nI, bit_nI, b2_ite, b2_ite1, nI_max, nI_min, isR_nI, n_9, hi_ne, hi_ni, hi_eq, y_iL, y_iR, y_lI, y_lR, hl_ne, hl_ni, hl_eq, y_rI, y_rL, if_true, if_false, if_pos, if_neg, true_and, and_true, not_true_eq_false, not_false_eq_true, x.n, x.h, x.b, x.mo, x.wi, x.ca, x.ro, x.ti, x.il, x.ni, x.ga, x.ri]
      exact hag _ _ ⟨rfl, f, h1⟩
  · obtain ⟨rfl, f, h1⟩ := hJ
    obtain ⟨k1, k2, k3, k4⟩ := rsK_O (v := v) (w := w) 10
    replace x := x0.fr f rfl
    unfold f_X1_rests_b39
    generalize rsO v w 10 = s1 at *
    simp (disch := first | omega | exact x.s | exact hi_eq | ((repeat (first | exact x.s | apply sw_I | apply sw_L | apply sw_cp | apply sw_18 | apply sw_21 | apply sw_22 | apply sw_m12 | apply sw_m18)); done) | rfl) only [wp_ite, wp_some, y_jn, wp_r0, wp_r1, wp_b2, y_nn, w_bc, w_nt, wo_0, wg_0, wi_0, w_has, w_isRider, w_isPair, w_isHour, w_in, w_in0, w_in_0_1, w_in_0_10, w_in_0_3, w_in_0_30, w_in_0_60, w_in_0_7, w_in_0_9, w_in_0_999, w_in_1_60, w_in_20_27, w_in_2_40, w_in_48_57, w_whole, w_all, wt_0, wt_1, wt_2, nI_add, nI_1, nI_mul, nI_and, nI_or, nI_sd, nI_sub, l_sub1, l_addm1, l_all, l_1shl, l_or0, l_add0, l_0add, l_m1, l_m1r, l_neg, l_nn, l_eq0, l_le0, l_0lt, l_eq1, l_m1lt, l_m1le, l_m1eq0, l_10, l_00, l_1le, nI_le_l, nI_lt_l, nI_eq_l, bc_nI, nt_nI, bit_nI, b2_ite, b2_ite1, nI_max, nI_min, isR_nI, n_9, hi_ne, hi_ni, hi_eq, y_iL, y_iR, y_lI, y_lR, hl_ne, hl_ni, hl_eq, y_rI, y_rL, if_true, if_false, if_pos, if_neg, true_and, and_true, not_true_eq_false, not_false_eq_true, x.n, x.h, x.b, x.mo, x.wi, x.ca, x.ro, x.ti, x.il, x.ni, x.ga, x.ri]
    by_cases e : s1.1 = 0
    · rw [if_pos e, ← hQ]
      refine ⟨rfl, f.mono rfl, s.fr f rfl, ?_⟩
      unfold rsW
      rw [if_pos e]
      rw [k3 e] at h1
      exact h1
    · rw [if_neg e]
      rw [wp_bnd]
      refine wp_mono (row_add x.s h1 (by omega)) (fun _ τ' h => ?_)
      rw [wp_some, ← hQ]
      refine ⟨rfl, (f.mono rfl).then h.1 rfl, (s.fr f rfl).fr h.1 rfl, ?_⟩
      unfold rsW
      rw [if_neg e]
      exact h.2
theorem m_rests (x : MX σ P a) (s : SM σ) {v w : Nat} (hv : v < 10) (hw : w < 10) : wp (f_X3_rests (some 37) (nI v) (nI w) σ) (QuM σ (nI (rsO v w 10).1) (some (rsW (rsO v w 10)))) := by
  have x0 := x
  have i1 : ((0 : Int32) ≤ nI v ∧ nI v ≤ nI 9) := ⟨by rw [l_nn (by omega)]; trivial, by rw [nI_le_l (by omega) (by decide)]; omega⟩
  have i2 : ((0 : Int32) ≤ nI w ∧ nI w ≤ nI 9) := ⟨by rw [l_nn (by omega)]; trivial, by rw [nI_le_l (by omega) (by decide)]; omega⟩
  generalize hQ : QuM σ (nI (rsO v w 10).1) (some (rsW (rsO v w 10))) = Q
  unfold f_X3_rests
  simp (disch := first | omega | exact x.s | exact hi_eq | ((repeat (first | exact x.s | apply sw_I | apply sw_L | apply sw_cp | apply sw_18 | apply sw_21 | apply sw_22 | apply sw_m12 | apply sw_m18)); done) | rfl) only [wp_ite, wp_some, y_jn, wp_r0, wp_r1, wp_b2, y_nn, w_bc, w_nt, wo_37, wg_37, wi_37, w_has3, w_isMan, w_areTwo, w_isHour3, w_in3, w_night, wtM_0, wtM_1, wtM_2, nI_add, nI_1, nI_mul, nI_and, nI_or, nI_sd, nI_sub, l_sub1, l_addm1, l_all, l_1shl, l_or0, l_add0, l_0add, l_m1, l_m1r, l_neg, l_nn, l_eq0, l_le0, l_0lt, l_eq1, l_m1lt, l_m1le, l_m1eq0, l_10, l_00, l_1le, nI_le_l, nI_lt_l, nI_eq_l, bc_nI, nt_nI, bit_nI, b2_ite, b2_ite1, nI_max, nI_min, isR_nI, n_10, n_11, n_2, n_9, hi_ne, hi_ni, hi_eq, y_iL, y_iR, y_lI, y_lR, hl_ne, hl_ni, hl_eq, y_rI, y_rL, if_true, if_false, if_pos, if_neg, true_and, and_true, not_true_eq_false, not_false_eq_true, x.n, x.h, x.b, x.mo, x.wi, x.ca, x.ro, x.ti, x.il, x.ni, x.ga, x.ri, i1, i2]
  refine wp_up 10 (fun p y τ => y = (nI (rsO v w p).1, nI (rsO v w p).2.1, nI p) ∧ Fr [43] [] [10, 11] σ τ ∧ RowM τ (rsO v w p).2.2) (fun ag p y τ hp hJ hag => ?_) (fun ag y τ hJ => ?_) (by decide) ⟨rfl, (by repeat (first | exact Fr.refl | exact (Fr.refl).mono rfl | refine Fr.putI ?_ rfl | refine Fr.putL ?_ rfl | refine Fr.putR ?_ rfl)), rowM0⟩
  · obtain ⟨rfl, f, h1⟩ := hJ
    have k0 := rsK_O (v := v) (w := w) p
    have st : rsO v w (p + 1) = rsJ v w (rsO v w p) p 10 := rfl
    rw [st] at hag
    generalize rsO v w p = s0 at *
    replace x := x0.fr f rfl
    unfold f_X3_rests_b40
    simp (disch := first | omega | exact x.s | exact hi_eq | ((repeat (first | exact x.s | apply sw_I | apply sw_L | apply sw_cp | apply sw_18 | apply sw_21 | apply sw_22 | apply sw_m12 | apply sw_m18)); done) | rfl) only [wp_ite, wp_some, y_jn, wp_r0, wp_r1, wp_b2, y_nn, w_bc, w_nt, wo_37, wg_37, wi_37, w_has3, w_isMan, w_areTwo, w_isHour3, w_in3, w_night, wtM_0, wtM_1, wtM_2, nI_add, nI_1, nI_mul, nI_and, nI_or, nI_sd, nI_sub, l_sub1, l_addm1, l_all, l_1shl, l_or0, l_add0, l_0add, l_m1, l_m1r, l_neg, l_nn, l_eq0, l_le0, l_0lt, l_eq1, l_m1lt, l_m1le, l_m1eq0, l_10, l_00, l_1le, nI_le_l, nI_lt_l, nI_eq_l, bc_nI, nt_nI, bit_nI, b2_ite, b2_ite1, nI_max, nI_min, isR_nI, n_9, hi_ne, hi_ni, hi_eq, y_iL, y_iR, y_lI, y_lR, hl_ne, hl_ni, hl_eq, y_rI, y_rL, if_true, if_false, if_pos, if_neg, true_and, and_true, not_true_eq_false, not_false_eq_true, x.n, x.h, x.b, x.mo, x.wi, x.ca, x.ro, x.ti, x.il, x.ni, x.ga, x.ri]
    refine wp_up 10 (fun q y τ => y = (nI (rsJ v w s0 p q).1, nI (rsJ v w s0 p q).2.1, nI q) ∧ Fr [43] [] [10, 11] σ τ ∧ RowM τ (rsJ v w s0 p q).2.2) (fun ag' q y τ hq hJ hag' => ?_) (fun ag' y τ hJ => ?_) (by decide) ⟨rfl, f, h1⟩
    · obtain ⟨rfl, f, h1⟩ := hJ
      obtain ⟨k1, k2, k3, k4⟩ := rsK_J (v := v) (w := w) (x := p) k0 q
      have st2 : rsJ v w s0 p (q + 1) = rsU v w (rsJ v w s0 p q) p q := rfl
      rw [st2] at hag'
      generalize rsJ v w s0 p q = s1 at *
      replace x := x0.fr f rfl
      unfold rsU at hag'
      unfold f_X3_rests_b50
      simp (disch := first | omega | exact x.s | exact hi_eq | ((repeat (first | exact x.s | apply sw_I | apply sw_L | apply sw_cp | apply sw_18 | apply sw_21 | apply sw_22 | apply sw_m12 | apply sw_m18)); done) | rfl) only [wp_ite, wp_some, y_jn, wp_r0, wp_r1, wp_b2, y_nn, w_bc, w_nt, wo_37, wg_37, wi_37, w_has3, w_isMan, w_areTwo, w_isHour3, w_in3, w_night, wtM_0, wtM_1, wtM_2, nI_add, nI_1, nI_mul, nI_and, nI_or, nI_sd, nI_sub, l_sub1, l_addm1, l_all, l_1shl, l_or0, l_add0, l_0add, l_m1, l_m1r, l_neg, l_nn, l_eq0, l_le0, l_0lt, l_eq1, l_m1lt, l_m1le, l_m1eq0, l_10, l_00, l_1le, nI_le_l, nI_lt_l, nI_eq_l, bc_nI, nt_nI, bit_nI, b2_ite, b2_ite1, nI_max, nI_min, isR_nI, n_2, n_9, hi_ne, hi_ni, hi_eq, y_iL, y_iR, y_lI, y_lR, hl_ne, hl_ni, hl_eq, y_rI, y_rL, if_true, if_false, if_pos, if_neg, true_and, and_true, not_true_eq_false, not_false_eq_true, x.n, x.h, x.b, x.mo, x.wi, x.ca, x.ro, x.ti, x.il, x.ni, x.ga, x.ri]
      rw [m_isRest hp hq hv hw, e_bnd, y_jn]
      by_cases e1 : rsI p q v w = 0
      · rw [if_pos e1] at hag' ⊢
        exact hag' _ _ ⟨rfl, f, h1⟩
      · rw [if_neg e1] at hag' ⊢
        have fin : ∀ τ' l, Fr [43] [] [10, 11] σ τ' → RowM τ' l → l = (if s1.1 = 0 then [(nI p).toInt64, (nI q).toInt64] else s1.2.2) → ∀ z, z = (nI (s1.1 + 1), nI (s1.2.1 + (if p < q then 0 else 1)), nI (q + 1)) → wp (ag' z τ') Q := fun τ' l f' h' hl2 z hz => hag' _ _ ⟨hz, f', by rw [← hl2]; exact h'⟩
        by_cases e2 : s1.1 = 0
        · have h1' := h1
          rw [k3 e2] at h1'
          have tl : ∀ K : Int32 → Hp → Option (Int32 × Hp), (∀ τ', Fr [43] [] [10, 11] σ τ' → RowM τ' [(nI p).toInt64, (nI q).toInt64] → wp (K 0 τ') Q) → wp (bnd (f_X3_tell (some 37) (Int32.toInt64 (nI p)) τ) fun _ σ => ob 2 σ (some 37) fun _ => bnd (f_X3_tell (some 37) (Int32.toInt64 (nI q)) σ) fun _ σ => K 0 σ) Q := fun K hK => by
            rw [wp_bnd]
            refine wp_mono (rowM_add x.s h1' (by decide)) (fun _ τ2 h => ?_)
            have f2 := f.then h.1 rfl
            have x2 := x0.fr f2 rfl
            rw [wo_37 x2.s, wp_bnd]
            refine wp_mono (rowM_add x2.s h.2 (by simp)) (fun _ τ3 h3 => ?_)
            exact hK τ3 (f2.then h3.1 rfl) h3.2
          by_cases e3 : p < q
          · simp (disch := first | omega | exact x.s | exact hi_eq | ((repeat (first | exact x.s | apply sw_I | apply sw_L | apply sw_cp | apply sw_18 | apply sw_21 | apply sw_22 | apply sw_m12 | apply sw_m18)); done) | rfl) only [wp_ite, wp_some, y_jn, wp_r0, wp_r1, wp_b2, y_nn, w_bc, w_nt, wo_37, wg_37, wi_37, w_has3, w_isMan, w_areTwo, w_isHour3, w_in3, w_night, wtM_0, wtM_1, wtM_2, nI_add, nI_1, nI_mul, nI_and, nI_or, nI_sd, nI_sub, l_sub1, l_addm1, l_all, l_1shl, l_or0, l_add0, l_0add, l_m1, l_m1r, l_neg, l_nn, l_eq0, l_le0, l_0lt, l_eq1, l_m1lt, l_m1le, l_m1eq0, l_10, l_00, l_1le, nI_le_l, nI_lt_l, nI_eq_l, bc_nI, nt_nI, bit_nI, b2_ite, b2_ite1, nI_max, nI_min, isR_nI, n_2, n_9, hi_ne, hi_ni, hi_eq, y_iL, y_iR, y_lI, y_lR, hl_ne, hl_ni, hl_eq, y_rI, y_rL, if_true, if_false, if_pos, if_neg, true_and, and_true, not_true_eq_false, not_false_eq_true, x.n, x.h, x.b, x.mo, x.wi, x.ca, x.ro, x.ti, x.il, x.ni, x.ga, x.ri, e3]
            refine tl (fun _ σ => jn (fun (a8 : Int32) σ => ag' (nI (s1.1 + 1), nI s1.2.1 + a8, nI (q + 1)) σ) fun j9 => j9 0 σ) (fun τ' f' h' => fin τ' _ f' h' (by rw [if_pos e2]) (nI (s1.1 + 1), nI s1.2.1 + 0, nI (q + 1)) (by rw [if_pos e3, l_add0]; rfl))
          · simp (disch := first | omega | exact x.s | exact hi_eq | ((repeat (first | exact x.s | apply sw_I | apply sw_L | apply sw_cp | apply sw_18 | apply sw_21 | apply sw_22 | apply sw_m12 | apply sw_m18)); done) | rfl) only [wp_ite, wp_some, y_jn, wp_r0, wp_r1, wp_b2, y_nn, w_bc, w_nt, wo_37, wg_37, wi_37, w_has3, w_isMan, w_areTwo, w_isHour3, w_in3, w_night, wtM_0, wtM_1, wtM_2, nI_add, nI_1, nI_mul, nI_and, nI_or, nI_sd, nI_sub, l_sub1, l_addm1, l_all, l_1shl, l_or0, l_add0, l_0add, l_m1, l_m1r, l_neg, l_nn, l_eq0, l_le0, l_0lt, l_eq1, l_m1lt, l_m1le, l_m1eq0, l_10, l_00, l_1le, nI_le_l, nI_lt_l, nI_eq_l, bc_nI, nt_nI, bit_nI, b2_ite, b2_ite1, nI_max, nI_min, isR_nI, n_2, n_9, hi_ne, hi_ni, hi_eq, y_iL, y_iR, y_lI, y_lR, hl_ne, hl_ni, hl_eq, y_rI, y_rL, if_true, if_false, if_pos, if_neg, true_and, and_true, not_true_eq_false, not_false_eq_true, x.n, x.h, x.b, x.mo, x.wi, x.ca, x.ro, x.ti, x.il, x.ni, x.ga, x.ri, e3]
            refine tl (fun _ σ => jn (fun (a8 : Int32) σ => ag' (nI (s1.1 + 1), nI s1.2.1 + a8, nI (q + 1)) σ) fun j9 => j9 1 σ) (fun τ' f' h' => fin τ' _ f' h' (by rw [if_pos e2]) (nI (s1.1 + 1), nI s1.2.1 + 1, nI (q + 1)) (by rw [if_neg e3, nI_1]))
        · by_cases e3 : p < q
          · simp (disch := first | omega | exact x.s | exact hi_eq | ((repeat (first | exact x.s | apply sw_I | apply sw_L | apply sw_cp | apply sw_18 | apply sw_21 | apply sw_22 | apply sw_m12 | apply sw_m18)); done) | rfl) only [wp_ite, wp_some, y_jn, wp_r0, wp_r1, wp_b2, y_nn, w_bc, w_nt, wo_37, wg_37, wi_37, w_has3, w_isMan, w_areTwo, w_isHour3, w_in3, w_night, wtM_0, wtM_1, wtM_2, nI_add, nI_1, nI_mul, nI_and, nI_or, nI_sd, nI_sub, l_sub1, l_addm1, l_all, l_1shl, l_or0, l_add0, l_0add, l_m1, l_m1r, l_neg, l_nn, l_eq0, l_le0, l_0lt, l_eq1, l_m1lt, l_m1le, l_m1eq0, l_10, l_00, l_1le, nI_le_l, nI_lt_l, nI_eq_l, bc_nI, nt_nI, bit_nI, b2_ite, b2_ite1, nI_max, nI_min, isR_nI, n_2, n_9, hi_ne, hi_ni, hi_eq, y_iL, y_iR, y_lI, y_lR, hl_ne, hl_ni, hl_eq, y_rI, y_rL, if_true, if_false, if_pos, if_neg, true_and, and_true, not_true_eq_false, not_false_eq_true, x.n, x.h, x.b, x.mo, x.wi, x.ca, x.ro, x.ti, x.il, x.ni, x.ga, x.ri, e3]
            exact fin τ _ f h1 (by rw [if_neg e2]) (nI (s1.1 + 1), nI s1.2.1, nI (q + 1)) (by rw [if_pos e3]; rfl)
          · simp (disch := first | omega | exact x.s | exact hi_eq | ((repeat (first | exact x.s | apply sw_I | apply sw_L | apply sw_cp | apply sw_18 | apply sw_21 | apply sw_22 | apply sw_m12 | apply sw_m18)); done) | rfl) only [wp_ite, wp_some, y_jn, wp_r0, wp_r1, wp_b2, y_nn, w_bc, w_nt, wo_37, wg_37, wi_37, w_has3, w_isMan, w_areTwo, w_isHour3, w_in3, w_night, wtM_0, wtM_1, wtM_2, nI_add, nI_1, nI_mul, nI_and, nI_or, nI_sd, nI_sub, l_sub1, l_addm1, l_all, l_1shl, l_or0, l_add0, l_0add, l_m1, l_m1r, l_neg, l_nn, l_eq0, l_le0, l_0lt, l_eq1, l_m1lt, l_m1le, l_m1eq0, l_10, l_00, l_1le, nI_le_l, nI_lt_l, nI_eq_l, bc_nI, nt_nI, bit_nI, b2_ite, b2_ite1, nI_max, nI_min, isR_nI, n_2, n_9, hi_ne, hi_ni, hi_eq, y_iL, y_iR, y_lI, y_lR, hl_ne, hl_ni, hl_eq, y_rI, y_rL, if_true, if_false, if_pos, if_neg, true_and, and_true, not_true_eq_false, not_false_eq_true, x.n, x.h, x.b, x.mo, x.wi, x.ca, x.ro, x.ti, x.il, x.ni, x.ga, x.ri, e3]
            exact fin τ _ f h1 (by rw [if_neg e2]) (nI (s1.1 + 1), nI (s1.2.1 + 1), nI (q + 1)) (by rw [if_neg e3])
    · obtain ⟨rfl, f, h1⟩ := hJ
      replace x := x0.fr f rfl
      unfold f_X3_rests_b50
      simp (disch := first | omega | exact x.s | exact hi_eq | ((repeat (first | exact x.s | apply sw_I | apply sw_L | apply sw_cp | apply sw_18 | apply sw_21 | apply sw_22 | apply sw_m12 | apply sw_m18)); done) | rfl) only [wp_ite, wp_some, y_jn, wp_r0, wp_r1, wp_b2, y_nn, w_bc, w_nt, wo_37, wg_37, wi_37, w_has3, w_isMan, w_areTwo, w_isHour3, w_in3, w_night, wtM_0, wtM_1, wtM_2, nI_add, nI_1, nI_mul, nI_and, nI_or, nI_sd, nI_sub, l_sub1, l_addm1, l_all, l_1shl, l_or0, l_add0, l_0add, l_m1, l_m1r, l_neg, l_nn, l_eq0, l_le0, l_0lt, l_eq1, l_m1lt, l_m1le, l_m1eq0, l_10, l_00, l_1le, nI_le_l, nI_lt_l, nI_eq_l, bc_nI, nt_nI, bit_nI, b2_ite, b2_ite1, nI_max, nI_min, isR_nI, n_2, n_9, hi_ne, hi_ni, hi_eq, y_iL, y_iR, y_lI, y_lR, hl_ne, hl_ni, hl_eq, y_rI, y_rL, if_true, if_false, if_pos, if_neg, true_and, and_true, not_true_eq_false, not_false_eq_true, x.n, x.h, x.b, x.mo, x.wi, x.ca, x.ro, x.ti, x.il, x.ni, x.ga, x.ri]
      exact hag _ _ ⟨rfl, f, h1⟩
  · obtain ⟨rfl, f, h1⟩ := hJ
    obtain ⟨k1, k2, k3, k4⟩ := rsK_O (v := v) (w := w) 10
    replace x := x0.fr f rfl
    unfold f_X3_rests_b40
    generalize rsO v w 10 = s1 at *
    simp (disch := first | omega | exact x.s | exact hi_eq | ((repeat (first | exact x.s | apply sw_I | apply sw_L | apply sw_cp | apply sw_18 | apply sw_21 | apply sw_22 | apply sw_m12 | apply sw_m18)); done) | rfl) only [wp_ite, wp_some, y_jn, wp_r0, wp_r1, wp_b2, y_nn, w_bc, w_nt, wo_37, wg_37, wi_37, w_has3, w_isMan, w_areTwo, w_isHour3, w_in3, w_night, wtM_0, wtM_1, wtM_2, nI_add, nI_1, nI_mul, nI_and, nI_or, nI_sd, nI_sub, l_sub1, l_addm1, l_all, l_1shl, l_or0, l_add0, l_0add, l_m1, l_m1r, l_neg, l_nn, l_eq0, l_le0, l_0lt, l_eq1, l_m1lt, l_m1le, l_m1eq0, l_10, l_00, l_1le, nI_le_l, nI_lt_l, nI_eq_l, bc_nI, nt_nI, bit_nI, b2_ite, b2_ite1, nI_max, nI_min, isR_nI, n_10, n_11, n_2, n_9, hi_ne, hi_ni, hi_eq, y_iL, y_iR, y_lI, y_lR, hl_ne, hl_ni, hl_eq, y_rI, y_rL, if_true, if_false, if_pos, if_neg, true_and, and_true, not_true_eq_false, not_false_eq_true, x.n, x.h, x.b, x.mo, x.wi, x.ca, x.ro, x.ti, x.il, x.ni, x.ga, x.ri]
    by_cases e : s1.1 = 0
    · rw [if_pos e, ← hQ]
      refine ⟨rfl, f.mono rfl, s.fr f rfl, ?_⟩
      unfold rsW
      rw [if_pos e]
      rw [k3 e] at h1
      exact h1
    · rw [if_neg e]
      rw [wp_bnd]
      refine wp_mono (rowM_add x.s h1 (by omega)) (fun _ τ' h => ?_)
      rw [wp_some, ← hQ]
      refine ⟨rfl, (f.mono rfl).then h.1 rfl, (s.fr f rfl).fr h.1 rfl, ?_⟩
      unfold rsW
      rw [if_neg e]
      exact h.2
end rests2
