/-! PURE 43: the reference lays out a rota, whole -/
abbrev LL : List Nat := [54, 55, 56, 57, 59, 61]
section mline2
variable {σ τ : Hp} {P : Pk} {a : HS} {may must : Nat → Nat} {pr hd : Nat → Nat → Nat} {lim lim' v : Nat} {what : Int32} {D F G : List Nat}
theorem m_layLine (x : MX σ P a) (ld : LdM σ P may must hd lim) (mk : MayOK P may) (hm : MustI P may must) (hdl : ∀ r h, hd r h ≤ 999) (hpl : ∀ r h, pr r h ≤ 999) (hlim : lim ≤ 1000000000) (hb : BdOK P hd pr lim lim') (hc : ∀ τ, Fr LL [] [] σ τ → CostM τ P what pr) (hv : lstO P may lim' pr = some v) : wp (f_X3_layLine (some 37) what (nI v) σ) (fun _ τ => Fr LL [] [] σ τ ∧ ∀ k, k < P.hrs → hi τ 61 k = nI ((layS P lim' pr v may P.hrs).2 k)) := by
  have n8 := x.n8
  have h8 := x.h8
  have x0 := x
  have v8 := lst_le hpl hv
  unfold f_X3_layLine
  refine wp_up P.hrs (fun h y τ => y = nI h ∧ Fr LL [] [] σ τ ∧ (∃ U, MustI P (layS P lim' pr v may h).1 U ∧ AI τ 54 P.n (layS P lim' pr v may h).1 ∧ AI τ 55 P.n U) ∧ ∀ k, k < h → hi τ 61 k = nI ((layS P lim' pr v may h).2 k)) (fun ag h y τ hh hJ hag => ?_) (fun ag y τ hJ => ?_) (by omega) ⟨rfl, Fr.refl, ⟨must, hm, ld.1, ld.2.1⟩, fun k hk' => absurd hk' (Nat.not_lt_zero _)⟩
  · obtain ⟨rfl, f, ⟨U, hU, h1, h1'⟩, h2⟩ := hJ
    replace x := x0.fr f rfl
    obtain ⟨r0, hr0, ht, hf, hst⟩ := layS_step hh (layS_inv hv h (by omega))
    have mkM : MayOK P (layS P lim' pr v may h).1 := mk.lay h
    generalize (layS P lim' pr v may h).1 = M at *
    generalize hT : (layS P lim' pr v may h).2 = T at *
    unfold f_X3_layLine_b2
    simp (disch := first | omega | exact x.s | exact hi_eq | ((repeat (first | exact x.s | apply sw_I | apply sw_L | apply sw_cp | apply sw_18 | apply sw_21 | apply sw_22 | apply sw_m12 | apply sw_m18)); done) | rfl) only [wp_ite, wp_some, w_jn, wp_r0, wp_r1, wp_b2, wp_nn, w_bc, w_nt, wo_37, wg_37, wi_37, w_has3, w_isMan, w_areTwo, w_isHour3, w_in3, w_night, wtM_0, wtM_1, wtM_2, nI_add, nI_1, nI_mul, nI_and, nI_or, nI_sd, nI_sub, l_sub1, l_addm1, l_all, l_1shl, l_or0, l_add0, l_0add, l_m1, l_m1r, l_neg, l_nn, l_eq0, l_le0, l_0lt, l_eq1, l_m1lt, l_m1le, l_m1eq0, l_10, l_00, l_1le, nI_le_l, nI_lt_l, nI_eq_l, bc_nI, nt_nI, bit_nI, b2_ite, b2_ite1, nI_max, nI_min, isR_nI, n_2, hi_ne, hi_ni, hi_eq, hi_wL, hi_wR, hl_wI, hl_wR, hl_ne, hl_ni, hl_eq, hr_wI, hr_wL, if_true, if_false, if_pos, if_neg, true_and, and_true, not_true_eq_false, not_false_eq_true, x.n, x.h, x.b, x.mo, x.wi, x.ca, x.ro, x.ti, x.il, x.ni, x.ga, x.ri]
    refine wp_up (r0 + 1) (fun i y τ => Fr LL [] [] σ τ ∧ (∀ k, k < h → hi τ 61 k = nI (T k)) ∧ ((i ≤ r0 ∧ y = (0, nI i) ∧ AI τ 54 P.n M ∧ AI τ 55 P.n U) ∨ (i = r0 + 1 ∧ y = (1, nI i) ∧ AI τ 54 P.n (fixM M h r0) ∧ AI τ 55 P.n (up1 U r0 (U r0 ||| 2 ^ h)) ∧ hi τ 61 h = nI r0))) (fun ag' i y τ hi' hJ hag' => ?_) (fun ag' y τ hJ => ?_) (by omega) ⟨f, h2, Or.inl ⟨Nat.zero_le _, rfl, h1, h1'⟩⟩
    · obtain ⟨f, h2, hcs⟩ := hJ
      rcases hcs with ⟨-, rfl, h1, h1'⟩ | ⟨e, -⟩
      · replace x := x0.fr f rfl
        have hin : i < P.n := by omega
        have h1i := h1 i hin
        have mi := mkM.lt h8 i
        unfold f_X3_layLine_b16
        simp (disch := first | omega | exact x.s | exact hi_eq | ((repeat (first | exact x.s | apply sw_I | apply sw_L | apply sw_cp | apply sw_18 | apply sw_21 | apply sw_22 | apply sw_m12 | apply sw_m18)); done) | rfl) only [wp_ite, wp_some, w_jn, wp_r0, wp_r1, wp_b2, wp_nn, w_bc, w_nt, wo_37, wg_37, wi_37, wr_37_32, wr_37_40, wl_54, ws_54, wl_61, ws_61, w_has3, w_isMan, w_areTwo, w_isHour3, w_in3, w_night, wtM_0, wtM_1, wtM_2, nI_add, nI_1, nI_mul, nI_and, nI_or, nI_sd, nI_sub, l_sub1, l_addm1, l_all, l_1shl, l_or0, l_add0, l_0add, l_m1, l_m1r, l_neg, l_nn, l_eq0, l_le0, l_0lt, l_eq1, l_m1lt, l_m1le, l_m1eq0, l_10, l_00, l_1le, nI_le_l, nI_lt_l, nI_eq_l, bc_nI, nt_nI, bit_nI, b2_ite, b2_ite1, nI_max, nI_min, isR_nI, n_100, n_2, n_3, n_32, n_40, hi_ne, hi_ni, hi_eq, hi_wL, hi_wR, hl_wI, hl_wR, hl_ne, hl_ni, hl_eq, hr_wI, hr_wL, if_true, if_false, if_pos, if_neg, true_and, and_true, not_true_eq_false, not_false_eq_true, x.n, x.h, x.b, x.mo, x.wi, x.ca, x.ro, x.ti, x.il, x.ni, x.ga, x.ri, h1i]
        split
        · rename_i hbit
          rw [wp_bnd]
          refine wp_mono (m_keepMay x) (fun _ τ1 hx => ?_)
          obtain ⟨f1, g1⟩ := hx
          have F1 : Fr LL [] [] σ τ1 := f.then f1 rfl
          replace x := x0.fr F1 rfl
          simp (disch := first | omega | exact x.s | exact hi_eq | ((repeat (first | exact x.s | apply sw_I | apply sw_L | apply sw_cp | apply sw_18 | apply sw_21 | apply sw_22 | apply sw_m12 | apply sw_m18)); done) | rfl) only [wp_ite, wp_some, w_jn, wp_r0, wp_r1, wp_b2, wp_nn, w_bc, w_nt, wo_37, wg_37, wi_37, wr_37_32, wr_37_40, wl_54, ws_54, wl_61, ws_61, w_has3, w_isMan, w_areTwo, w_isHour3, w_in3, w_night, wtM_0, wtM_1, wtM_2, nI_add, nI_1, nI_mul, nI_and, nI_or, nI_sd, nI_sub, l_sub1, l_addm1, l_all, l_1shl, l_or0, l_add0, l_0add, l_m1, l_m1r, l_neg, l_nn, l_eq0, l_le0, l_0lt, l_eq1, l_m1lt, l_m1le, l_m1eq0, l_10, l_00, l_1le, nI_le_l, nI_lt_l, nI_eq_l, bc_nI, nt_nI, bit_nI, b2_ite, b2_ite1, nI_max, nI_min, isR_nI, n_100, n_2, n_3, n_32, n_40, hi_ne, hi_ni, hi_eq, hi_wL, hi_wR, hl_wI, hl_wR, hl_ne, hl_ni, hl_eq, hr_wI, hr_wL, if_true, if_false, if_pos, if_neg, true_and, and_true, not_true_eq_false, not_false_eq_true, x.n, x.h, x.b, x.mo, x.wi, x.ca, x.ro, x.ti, x.il, x.ni, x.ga, x.ri]
          rw [wp_bnd]
          refine wp_mono (m_fix x (h := h) (r := i) (by omega) hin (h1.fr f1 rfl (by decide) (by decide)) (h1'.fr f1 rfl (by decide) (by decide))) (fun _ τ2 hx => ?_)
          obtain ⟨f2, g2, g2'⟩ := hx
          have F2 : Fr LL [] [] σ τ2 := F1.then f2 rfl
          replace x := x0.fr F2 rfl
          have mkF := mkM.fix h i
          have hUF := hU.fix (r := i) hh
          have l2 : ∀ k, k < h → hi τ2 61 k = nI (T k) := fun k hk' => by rw [f2.i rfl, f1.i rfl]; exact h2 k hk'
          have w2 : ∀ k, k < 8 → hi τ2 56 k = hi τ 54 k ∧ hi τ2 57 k = hi τ 55 k := fun k hk' => by rw [f2.i rfl, f2.i rfl]; exact g1 k hk'
          -- not taken
          have no : ∀ τ3, Fr LL [] [] σ τ3 → (∀ k, k < h → hi τ3 61 k = nI (T k)) → (∀ k, k < 8 → hi τ3 56 k = hi τ 54 k ∧ hi τ3 57 k = hi τ 55 k) → i ≠ r0 → wp (bnd (f_X3_bringMay (some 37) τ3) fun _ σ => ag' (0, nI (i + 1)) σ) (fun _ τ => Fr LL [] [] σ τ ∧ ∀ k, k < P.hrs → hi τ 61 k = nI ((layS P lim' pr v may P.hrs).2 k)) := fun τ3 F3 l3 w3 hne => by
            rw [wp_bnd]
            refine wp_mono (m_bringMay (x0.fr F3 rfl)) (fun _ τ4 hx => ?_)
            obtain ⟨f4, g4⟩ := hx
            exact hag' _ _ ⟨F3.then f4 rfl, fun k hk' => by rw [f4.i rfl]; exact l3 k hk', Or.inl ⟨by omega, rfl, fun k hk' => by rw [(g4 k (by omega)).1, (w3 k (by omega)).1]; exact h1 k hk', fun k hk' => by rw [(g4 k (by omega)).2, (w3 k (by omega)).2]; exact h1' k hk'⟩⟩
          simp (disch := first | omega | exact x.s | exact hi_eq | ((repeat (first | exact x.s | apply sw_I | apply sw_L | apply sw_cp | apply sw_18 | apply sw_21 | apply sw_22 | apply sw_m12 | apply sw_m18)); done) | rfl) only [wp_ite, wp_some, w_jn, wp_r0, wp_r1, wp_b2, wp_nn, w_bc, w_nt, wo_37, wg_37, wi_37, wr_37_32, wr_37_40, wl_54, ws_54, wl_61, ws_61, w_has3, w_isMan, w_areTwo, w_isHour3, w_in3, w_night, wtM_0, wtM_1, wtM_2, nI_add, nI_1, nI_mul, nI_and, nI_or, nI_sd, nI_sub, l_sub1, l_addm1, l_all, l_1shl, l_or0, l_add0, l_0add, l_m1, l_m1r, l_neg, l_nn, l_eq0, l_le0, l_0lt, l_eq1, l_m1lt, l_m1le, l_m1eq0, l_10, l_00, l_1le, nI_le_l, nI_lt_l, nI_eq_l, bc_nI, nt_nI, bit_nI, b2_ite, b2_ite1, nI_max, nI_min, isR_nI, n_100, n_2, n_3, n_32, n_40, hi_ne, hi_ni, hi_eq, hi_wL, hi_wR, hl_wI, hl_wR, hl_ne, hl_ni, hl_eq, hr_wI, hr_wL, if_true, if_false, if_pos, if_neg, true_and, and_true, not_true_eq_false, not_false_eq_true, x.n, x.h, x.b, x.mo, x.wi, x.ca, x.ro, x.ti, x.il, x.ni, x.ga, x.ri]
          rw [m_areRight x hin g2 g2' (must_lt h8 hUF), e_bnd]
          simp (disch := first | omega | exact x.s | exact hi_eq | ((repeat (first | exact x.s | apply sw_I | apply sw_L | apply sw_cp | apply sw_18 | apply sw_21 | apply sw_22 | apply sw_m12 | apply sw_m18)); done) | rfl) only [wp_ite, wp_some, w_jn, wp_r0, wp_r1, wp_b2, wp_nn, w_bc, w_nt, wo_37, wg_37, wi_37, wr_37_32, wr_37_40, wl_54, ws_54, wl_61, ws_61, w_has3, w_isMan, w_areTwo, w_isHour3, w_in3, w_night, wtM_0, wtM_1, wtM_2, nI_add, nI_1, nI_mul, nI_and, nI_or, nI_sd, nI_sub, l_sub1, l_addm1, l_all, l_1shl, l_or0, l_add0, l_0add, l_m1, l_m1r, l_neg, l_nn, l_eq0, l_le0, l_0lt, l_eq1, l_m1lt, l_m1le, l_m1eq0, l_10, l_00, l_1le, nI_le_l, nI_lt_l, nI_eq_l, bc_nI, nt_nI, bit_nI, b2_ite, b2_ite1, nI_max, nI_min, isR_nI, n_100, n_2, n_3, n_32, n_40, hi_ne, hi_ni, hi_eq, hi_wL, hi_wR, hl_wI, hl_wR, hl_ne, hl_ni, hl_eq, hr_wI, hr_wL, if_true, if_false, if_pos, if_neg, true_and, and_true, not_true_eq_false, not_false_eq_true, x.n, x.h, x.b, x.mo, x.wi, x.ca, x.ro, x.ti, x.il, x.ni, x.ga, x.ri]
          by_cases hrt : sbs (up1 U i (U i ||| 2 ^ h) i) (fixM M h i i)
          · rw [if_pos hrt, wp_bnd]
            have ld2 : LdM τ2 P (fixM M h i) (up1 U i (U i ||| 2 ^ h)) hd lim := ⟨g2, g2', fun r k a1 a2 => (F2.i rfl).trans (ld.2.2.1 r k a1 a2), (F2.i rfl).trans ld.2.2.2⟩
            refine wp_mono (m_least x ld2 mkF hUF hdl hpl hlim hb (hc τ2 F2)) (fun w τ3 hx => ?_)
            obtain ⟨rfl, f3⟩ := hx
            have F3 : Fr LL [] [] σ τ3 := F2.then f3 rfl
            replace x := x0.fr F3 rfl
            have hw : (lstO P (fixM M h i) lim' pr).getD 1000000000 < 2 ^ 31 := by
              cases hl2 : lstO P (fixM M h i) lim' pr with
              | none => decide
              | some u => have := lst_le hpl hl2; show u < 2 ^ 31; omega
            have hd' : (lstO P (fixM M h i) lim' pr).getD 1000000000 = v ↔ lstO P (fixM M h i) lim' pr = some v := by
              cases hl2 : lstO P (fixM M h i) lim' pr with
              | none => show 1000000000 = v ↔ none = some v; constructor; intro e; omega; intro e; cases e
              | some u => show u = v ↔ some u = some v; constructor; intro e; rw [e]; intro e; exact Option.some.inj e
            simp (disch := first | omega | exact x.s | exact hi_eq | ((repeat (first | exact x.s | apply sw_I | apply sw_L | apply sw_cp | apply sw_18 | apply sw_21 | apply sw_22 | apply sw_m12 | apply sw_m18)); done) | rfl) only [wp_ite, wp_some, w_jn, wp_r0, wp_r1, wp_b2, wp_nn, w_bc, w_nt, wo_37, wg_37, wi_37, wr_37_32, wr_37_40, wl_54, ws_54, wl_61, ws_61, w_has3, w_isMan, w_areTwo, w_isHour3, w_in3, w_night, wtM_0, wtM_1, wtM_2, nI_add, nI_1, nI_mul, nI_and, nI_or, nI_sd, nI_sub, l_sub1, l_addm1, l_all, l_1shl, l_or0, l_add0, l_0add, l_m1, l_m1r, l_neg, l_nn, l_eq0, l_le0, l_0lt, l_eq1, l_m1lt, l_m1le, l_m1eq0, l_10, l_00, l_1le, nI_le_l, nI_lt_l, nI_eq_l, bc_nI, nt_nI, bit_nI, b2_ite, b2_ite1, nI_max, nI_min, isR_nI, n_100, n_2, n_3, n_32, n_40, hi_ne, hi_ni, hi_eq, hi_wL, hi_wR, hl_wI, hl_wR, hl_ne, hl_ni, hl_eq, hr_wI, hr_wL, if_true, if_false, if_pos, if_neg, true_and, and_true, not_true_eq_false, not_false_eq_true, x.n, x.h, x.b, x.mo, x.wi, x.ca, x.ro, x.ti, x.il, x.ni, x.ga, x.ri]
            split
            · rename_i e
              rw [hd'] at e
              have hi0 : i = r0 := by
                apply Classical.byContradiction
                intro hne
                have := hf i (by omega)
                have hc : tryF P lim' pr v M h i = true := @decide_eq_true _ (Classical.propDecidable _) ⟨hbit, e⟩
                rw [hc] at this
                cases this
              subst hi0
              exact hag' _ _ ⟨F3.putI rfl, fun k hk' => by rw [hi_ni (by omega), f3.i rfl]; exact l2 k hk', Or.inr ⟨rfl, rfl, (g2.fr f3 rfl (by decide) (by decide)).ne (by decide), (g2'.fr f3 rfl (by decide) (by decide)).ne (by decide), hi_eq⟩⟩
            · rename_i e
              have hne : i ≠ r0 := by
                intro h0
                subst h0
                exact e (hd'.mpr (tryF_lst ht))
              exact no τ3 F3 (fun k hk' => by rw [f3.i rfl]; exact l2 k hk') (fun k hk' => by rw [f3.i rfl, f3.i rfl]; exact w2 k hk') hne
          · rw [if_neg hrt]
            refine no τ2 F2 l2 w2 fun h0 => ?_
            subst h0
            exact hrt (must_right hUF hin (tryF_lst ht))
        · rename_i hbit
          have hne : i ≠ r0 := by
            intro h0
            subst h0
            exact hbit (@of_decide_eq_true _ (Classical.propDecidable _) ht).1
          exact hag' _ _ ⟨f, h2, Or.inl ⟨by omega, rfl, h1, h1'⟩⟩
      · omega
    · obtain ⟨f, h2, hcs⟩ := hJ
      rcases hcs with ⟨e, -⟩ | ⟨-, rfl, h1, h1', h3⟩
      · omega
      · replace x := x0.fr f rfl
        have fin : wp (ag (nI (h + 1)) τ) (fun _ τ => Fr LL [] [] σ τ ∧ ∀ k, k < P.hrs → hi τ 61 k = nI ((layS P lim' pr v may P.hrs).2 k)) :=
          hag _ _ ⟨rfl, f, ⟨_, by rw [hst]; exact hU.fix hh, by rw [hst]; exact h1, h1'⟩, fun k hk' => by
            rw [hst]
            dsimp only
            unfold up1
            by_cases e : k = h
            · rw [if_pos e, e]; exact h3
            · rw [if_neg e]; exact h2 k (by omega)⟩
        unfold f_X3_layLine_b16
        simp (disch := first | omega | exact x.s | exact hi_eq | ((repeat (first | exact x.s | apply sw_I | apply sw_L | apply sw_cp | apply sw_18 | apply sw_21 | apply sw_22 | apply sw_m12 | apply sw_m18)); done) | rfl) only [wp_ite, wp_some, w_jn, wp_r0, wp_r1, wp_b2, wp_nn, w_bc, w_nt, wo_37, wg_37, wi_37, wr_37_32, wr_37_40, wl_54, ws_54, wl_61, ws_61, w_has3, w_isMan, w_areTwo, w_isHour3, w_in3, w_night, wtM_0, wtM_1, wtM_2, nI_add, nI_1, nI_mul, nI_and, nI_or, nI_sd, nI_sub, l_sub1, l_addm1, l_all, l_1shl, l_or0, l_add0, l_0add, l_m1, l_m1r, l_neg, l_nn, l_eq0, l_le0, l_0lt, l_eq1, l_m1lt, l_m1le, l_m1eq0, l_10, l_00, l_1le, nI_le_l, nI_lt_l, nI_eq_l, bc_nI, nt_nI, bit_nI, b2_ite, b2_ite1, nI_max, nI_min, isR_nI, n_100, n_2, n_3, n_32, n_40, hi_ne, hi_ni, hi_eq, hi_wL, hi_wR, hl_wI, hl_wR, hl_ne, hl_ni, hl_eq, hr_wI, hr_wL, if_true, if_false, if_pos, if_neg, true_and, and_true, not_true_eq_false, not_false_eq_true, x.n, x.h, x.b, x.mo, x.wi, x.ca, x.ro, x.ti, x.il, x.ni, x.ga, x.ri]
        split
        · exact fin
        · exact fin
  · obtain ⟨rfl, f, -, h2⟩ := hJ
    replace x := x0.fr f rfl
    unfold f_X3_layLine_b2
    simp (disch := first | omega | exact x.s | exact hi_eq | ((repeat (first | exact x.s | apply sw_I | apply sw_L | apply sw_cp | apply sw_18 | apply sw_21 | apply sw_22 | apply sw_m12 | apply sw_m18)); done) | rfl) only [wp_ite, wp_some, w_jn, wp_r0, wp_r1, wp_b2, wp_nn, w_bc, w_nt, wo_37, wg_37, wi_37, w_has3, w_isMan, w_areTwo, w_isHour3, w_in3, w_night, wtM_0, wtM_1, wtM_2, nI_add, nI_1, nI_mul, nI_and, nI_or, nI_sd, nI_sub, l_sub1, l_addm1, l_all, l_1shl, l_or0, l_add0, l_0add, l_m1, l_m1r, l_neg, l_nn, l_eq0, l_le0, l_0lt, l_eq1, l_m1lt, l_m1le, l_m1eq0, l_10, l_00, l_1le, nI_le_l, nI_lt_l, nI_eq_l, bc_nI, nt_nI, bit_nI, b2_ite, b2_ite1, nI_max, nI_min, isR_nI, n_2, hi_ne, hi_ni, hi_eq, hi_wL, hi_wR, hl_wI, hl_wR, hl_ne, hl_ni, hl_eq, hr_wI, hr_wL, if_true, if_false, if_pos, if_neg, true_and, and_true, not_true_eq_false, not_false_eq_true, x.n, x.h, x.b, x.mo, x.wi, x.ca, x.ro, x.ti, x.il, x.ni, x.ga, x.ri]
    exact ⟨f, h2⟩
theorem m_tellLine (x : MX σ P a) {t : Nat → Nat} (ht : ∀ k, k < P.hrs → hi σ 61 k = nI (t k)) : wp (f_X3_tellLine (some 37) σ) (fun _ τ => Fr [43] [] [10] σ τ ∧ RowM τ (rowL t P.hrs)) := by
  have h8 := x.h8
  have x0 := x
  unfold f_X3_tellLine
  simp (disch := first | omega | exact x.s | exact hi_eq | ((repeat (first | exact x.s | apply sw_I | apply sw_L | apply sw_cp | apply sw_18 | apply sw_21 | apply sw_22 | apply sw_m12 | apply sw_m18)); done) | rfl) only [wp_ite, wp_some, w_jn, wp_r0, wp_r1, wp_b2, wp_nn, w_bc, w_nt, wo_37, wg_37, wi_37, w_has3, w_isMan, w_areTwo, w_isHour3, w_in3, w_night, wtM_0, wtM_1, wtM_2, nI_add, nI_1, nI_mul, nI_and, nI_or, nI_sd, nI_sub, l_sub1, l_addm1, l_all, l_1shl, l_or0, l_add0, l_0add, l_m1, l_m1r, l_neg, l_nn, l_eq0, l_le0, l_0lt, l_eq1, l_m1lt, l_m1le, l_m1eq0, l_10, l_00, l_1le, nI_le_l, nI_lt_l, nI_eq_l, bc_nI, nt_nI, bit_nI, b2_ite, b2_ite1, nI_max, nI_min, isR_nI, n_10, n_2, hi_ne, hi_ni, hi_eq, hi_wL, hi_wR, hl_wI, hl_wR, hl_ne, hl_ni, hl_eq, hr_wI, hr_wL, if_true, if_false, if_pos, if_neg, true_and, and_true, not_true_eq_false, not_false_eq_true, x.n, x.h, x.b, x.mo, x.wi, x.ca, x.ro, x.ti, x.il, x.ni, x.ga, x.ri]
  refine wp_up P.hrs (fun i y τ => y = nI i ∧ Fr [43] [] [10] σ τ ∧ RowM τ (rowL t i)) (fun ag i y τ hi' hJ hag => ?_) (fun ag y τ hJ => ?_) (by omega) ⟨rfl, Fr.refl.putI rfl, rowM0⟩
  · obtain ⟨rfl, f, h1⟩ := hJ
    replace x := x0.fr f rfl
    have h2 : hi τ 61 i = nI (t i) := (f.i rfl).trans (ht i hi')
    unfold f_X3_tellLine_b7
    simp (disch := first | omega | exact x.s | exact hi_eq | ((repeat (first | exact x.s | apply sw_I | apply sw_L | apply sw_cp | apply sw_18 | apply sw_21 | apply sw_22 | apply sw_m12 | apply sw_m18)); done) | rfl) only [wp_ite, wp_some, w_jn, wp_r0, wp_r1, wp_b2, wp_nn, w_bc, w_nt, wo_37, wg_37, wi_37, wr_37_40, wl_61, ws_61, w_has3, w_isMan, w_areTwo, w_isHour3, w_in3, w_night, wtM_0, wtM_1, wtM_2, nI_add, nI_1, nI_mul, nI_and, nI_or, nI_sd, nI_sub, l_sub1, l_addm1, l_all, l_1shl, l_or0, l_add0, l_0add, l_m1, l_m1r, l_neg, l_nn, l_eq0, l_le0, l_0lt, l_eq1, l_m1lt, l_m1le, l_m1eq0, l_10, l_00, l_1le, nI_le_l, nI_lt_l, nI_eq_l, bc_nI, nt_nI, bit_nI, b2_ite, b2_ite1, nI_max, nI_min, isR_nI, n_100, n_2, n_40, hi_ne, hi_ni, hi_eq, hi_wL, hi_wR, hl_wI, hl_wR, hl_ne, hl_ni, hl_eq, hr_wI, hr_wL, if_true, if_false, if_pos, if_neg, true_and, and_true, not_true_eq_false, not_false_eq_true, x.n, x.h, x.b, x.mo, x.wi, x.ca, x.ro, x.ti, x.il, x.ni, x.ga, x.ri, h2]
    rw [wp_bnd]
    refine wp_mono (rowM_add x.s h1 (by rw [rowL_len]; omega)) (fun _ τ' h => ?_)
    rw [← rowL_succ] at h
    exact hag _ _ ⟨rfl, f.trans h.1, h.2⟩
  · obtain ⟨rfl, f, h1⟩ := hJ
    replace x := x0.fr f rfl
    unfold f_X3_tellLine_b7
    simp (disch := first | omega | exact x.s | exact hi_eq | ((repeat (first | exact x.s | apply sw_I | apply sw_L | apply sw_cp | apply sw_18 | apply sw_21 | apply sw_22 | apply sw_m12 | apply sw_m18)); done) | rfl) only [wp_ite, wp_some, w_jn, wp_r0, wp_r1, wp_b2, wp_nn, w_bc, w_nt, wo_37, wg_37, wi_37, wr_37_40, wl_61, ws_61, w_has3, w_isMan, w_areTwo, w_isHour3, w_in3, w_night, wtM_0, wtM_1, wtM_2, nI_add, nI_1, nI_mul, nI_and, nI_or, nI_sd, nI_sub, l_sub1, l_addm1, l_all, l_1shl, l_or0, l_add0, l_0add, l_m1, l_m1r, l_neg, l_nn, l_eq0, l_le0, l_0lt, l_eq1, l_m1lt, l_m1le, l_m1eq0, l_10, l_00, l_1le, nI_le_l, nI_lt_l, nI_eq_l, bc_nI, nt_nI, bit_nI, b2_ite, b2_ite1, nI_max, nI_min, isR_nI, n_100, n_2, n_40, hi_ne, hi_ni, hi_eq, hi_wL, hi_wR, hl_wI, hl_wR, hl_ne, hl_ni, hl_eq, hr_wI, hr_wL, if_true, if_false, if_pos, if_neg, true_and, and_true, not_true_eq_false, not_false_eq_true, x.n, x.h, x.b, x.mo, x.wi, x.ca, x.ro, x.ti, x.il, x.ni, x.ga, x.ri]
    exact ⟨f, h1⟩
/-- laid out and told -/
theorem m_lineTold (x : MX σ P a) (ld : LdM σ P may must hd lim) (mk : MayOK P may) (hm : MustI P may must) (hdl : ∀ r h, hd r h ≤ 999) (hpl : ∀ r h, pr r h ≤ 999) (hlim : lim ≤ 1000000000) (hb : BdOK P hd pr lim 1000000) (hc : ∀ τ, Fr LL [] [] σ τ → CostM τ P what pr) (hv : lstO P may 1000000 pr = some v) {K : Unit → Hp → Option (Int32 × Hp)} {Q : Int32 → Hp → Prop} (hK : ∀ τ, Fr [43, 54, 55, 56, 57, 59, 61] [] [10] σ τ → RowM τ (lineO P may pr v) → wp (K () τ) Q) : wp (bnd (f_X3_layLine (some 37) what (nI v) σ) fun _ σ => ob 2 σ (some 37) fun _ => bnd (f_X3_tellLine (some 37) σ) K) Q := by
  rw [wp_bnd]
  refine wp_mono (m_layLine x ld mk hm hdl hpl hlim hb hc hv) (fun _ τ h => ?_)
  obtain ⟨f, ht⟩ := h
  have x' := x.fr f rfl
  rw [wo_37 x'.s, wp_bnd]
  refine wp_mono (m_tellLine x' ht) (fun _ τ' h => ?_)
  obtain ⟨f', hr'⟩ := h
  exact hK τ' ((f.mono rfl).trans (f'.mono rfl)) hr'
end mline2
