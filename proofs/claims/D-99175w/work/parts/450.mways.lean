/-! PURE 44: the reference counts rotas -/
def okB (most may must : Nat → Nat) (r b : Nat) : Bool := decide (sbs b (may r) ∧ pop b ≤ most r ∧ sbs (must r) b)
section mways
variable {σ τ : Hp} {P : Pk} {a : HS} {may must : Nat → Nat} {hd : Nat → Nat → Nat} {lim : Nat}
theorem m_countWays (x : MX σ P a) (ld : LdM σ P may must hd lim) (mk : MayOK P may) (hmu : MustI P may must) (hdl : ∀ r h, hd r h ≤ 999) (hlim : lim ≤ 1000000000) (h7 : 7992 ≤ lim) : wp (f_X3_countWays (some 37) σ) (fun v τ => v = nI (cntW P may) ∧ Fr [60] [] [] σ τ) := by
  have n8 := x.n8
  have h8 := x.h8
  have x0 := x
  have W8 : 2 ^ P.hrs ≤ 256 := pow_le8 h8
  have Wp : 0 < 2 ^ P.hrs := Nat.two_pow_pos _
  have W1 : 2 ^ P.hrs - 1 < 256 := by omega
  have hul := must_lt h8 hmu
  obtain ⟨hm, hu, hp, hl'⟩ := ld
  generalize hQ : (fun (v : Int32) (τ : Hp) => v = nI (cntW P may) ∧ Fr [60] [] [] σ τ) = Q
  obtain ⟨ok, hok⟩ : ∃ ok, ok = okB P.most may must := ⟨_, rfl⟩
  have okb : ∀ r b, ok r b = true ↔ sbs b (may r) ∧ pop b ≤ P.most r ∧ sbs (must r) b := fun r b => by rw [hok]; exact decide_eq_true_iff
  unfold f_X3_countWays
  refine wp_up (2 ^ P.hrs) (fun i y τ => y = nI i ∧ Fr [60] [] [] σ τ ∧ ∀ S, S < i → hi τ 60 (256 * P.n + S) = nI (Tc ok P.n 0 S)) (fun ag i y τ hi' hJ hag => ?_) (fun ag y τ hJ => ?_) (by omega) ⟨rfl, Fr.refl, fun S hS => absurd hS (Nat.not_lt_zero _)⟩
  · obtain ⟨rfl, f, h1⟩ := hJ
    replace x := x0.fr f rfl
    have fin : ∀ v, v = nI (Tc ok P.n 0 i) → wp (ag (nI (i + 1)) (wI τ 60 (256 * P.n + i) v)) Q := fun v hv =>
      hag _ _ ⟨rfl, f.putI rfl, fun S hS => by
        by_cases e : S = i
        · rw [e, hi_eq, hv]
        · rw [hi_ni (by omega)]; exact h1 S (by omega)⟩
    unfold f_X3_countWays_b2
    simp (disch := first | omega | exact x.s | exact hi_eq | ((repeat (first | exact x.s | apply sw_I | apply sw_L | apply sw_cp | apply sw_18 | apply sw_21 | apply sw_22 | apply sw_m12 | apply sw_m18)); done) | rfl) only [wp_ite, wp_some, w_jn, wp_r0, wp_r1, wp_b2, wp_nn, w_bc, w_nt, wo_37, wg_37, wi_37, wr_37_38, wl_60, ws_60, w_has3, w_isMan, w_areTwo, w_isHour3, w_in3, w_night, wtM_0, wtM_1, wtM_2, nI_add, nI_1, nI_mul, nI_and, nI_or, nI_sd, nI_sub, l_sub1, l_addm1, l_all, l_1shl, l_or0, l_add0, l_0add, l_m1, l_m1r, l_neg, l_nn, l_eq0, l_le0, l_0lt, l_eq1, l_m1lt, l_m1le, l_m1eq0, l_10, l_00, l_1le, nI_le_l, nI_lt_l, nI_eq_l, bc_nI, nt_nI, bit_nI, b2_ite, b2_ite1, nI_max, nI_min, isR_nI, n_2, n_3, n_8, hi_ne, hi_ni, hi_eq, hi_wL, hi_wR, hl_wI, hl_wR, hl_ne, hl_ni, hl_eq, hr_wI, hr_wL, if_true, if_false, if_pos, if_neg, true_and, and_true, not_true_eq_false, not_false_eq_true, x.n, x.h, x.b, x.mo, x.wi, x.ca, x.ro, x.ti, x.il, x.ni, x.ga, x.ri, l_shl8, l_or256]
    split
    · rename_i e
      exact fin 1 (by rw [e]; rfl)
    · rename_i e
      exact fin 0 (by unfold Tc; rw [if_neg e]; rfl)
  · obtain ⟨rfl, f, h1⟩ := hJ
    replace x := x0.fr f rfl
    unfold f_X3_countWays_b2
    simp (disch := first | omega | exact x.s | exact hi_eq | ((repeat (first | exact x.s | apply sw_I | apply sw_L | apply sw_cp | apply sw_18 | apply sw_21 | apply sw_22 | apply sw_m12 | apply sw_m18)); done) | rfl) only [wp_ite, wp_some, w_jn, wp_r0, wp_r1, wp_b2, wp_nn, w_bc, w_nt, wo_37, wg_37, wi_37, wr_37_38, wl_60, ws_60, w_has3, w_isMan, w_areTwo, w_isHour3, w_in3, w_night, wtM_0, wtM_1, wtM_2, nI_add, nI_1, nI_mul, nI_and, nI_or, nI_sd, nI_sub, l_sub1, l_addm1, l_all, l_1shl, l_or0, l_add0, l_0add, l_m1, l_m1r, l_neg, l_nn, l_eq0, l_le0, l_0lt, l_eq1, l_m1lt, l_m1le, l_m1eq0, l_10, l_00, l_1le, nI_le_l, nI_lt_l, nI_eq_l, bc_nI, nt_nI, bit_nI, b2_ite, b2_ite1, nI_max, nI_min, isR_nI, n_100, n_2, n_3, n_8, hi_ne, hi_ni, hi_eq, hi_wL, hi_wR, hl_wI, hl_wR, hl_ne, hl_ni, hl_eq, hr_wI, hr_wL, if_true, if_false, if_pos, if_neg, true_and, and_true, not_true_eq_false, not_false_eq_true, x.n, x.h, x.b, x.mo, x.wi, x.ca, x.ro, x.ti, x.il, x.ni, x.ga, x.ri]
    refine wp_up P.n (fun i y τ => y = (if i < P.n then nI (P.n - 1 - i) else -1) ∧ Fr [60] [] [] σ τ ∧ ∀ S, S < 2 ^ P.hrs → hi τ 60 (256 * (P.n - i) + S) = nI (Tc ok (P.n - i) i S)) (fun ag i y τ hi' hJ hag => ?_) (fun ag y τ hJ => ?_) (by omega) ⟨?_, f, fun S hS => h1 S hS⟩
    · obtain ⟨rfl, f, h1⟩ := hJ
      rw [if_pos hi']
      obtain ⟨r, hr'⟩ : ∃ r, P.n - 1 - i = r := ⟨_, rfl⟩
      have hrn : r < P.n := by omega
      have hri : P.n - i = r + 1 := by omega
      rw [hr']
      rw [hri] at h1
      replace x := x0.fr f rfl
      unfold f_X3_countWays_b46
      simp (disch := first | omega | exact x.s | exact hi_eq | ((repeat (first | exact x.s | apply sw_I | apply sw_L | apply sw_cp | apply sw_18 | apply sw_21 | apply sw_22 | apply sw_m12 | apply sw_m18)); done) | rfl) only [wp_ite, wp_some, w_jn, wp_r0, wp_r1, wp_b2, wp_nn, w_bc, w_nt, wo_37, wg_37, wi_37, wr_37_32, wl_54, ws_54, w_has3, w_isMan, w_areTwo, w_isHour3, w_in3, w_night, wtM_0, wtM_1, wtM_2, nI_add, nI_1, nI_mul, nI_and, nI_or, nI_sd, nI_sub, l_sub1, l_addm1, l_all, l_1shl, l_or0, l_add0, l_0add, l_m1, l_m1r, l_neg, l_nn, l_eq0, l_le0, l_0lt, l_eq1, l_m1lt, l_m1le, l_m1eq0, l_10, l_00, l_1le, nI_le_l, nI_lt_l, nI_eq_l, bc_nI, nt_nI, bit_nI, b2_ite, b2_ite1, nI_max, nI_min, isR_nI, n_100, n_2, n_32, hi_ne, hi_ni, hi_eq, hi_wL, hi_wR, hl_wI, hl_wR, hl_ne, hl_ni, hl_eq, hr_wI, hr_wL, if_true, if_false, if_pos, if_neg, true_and, and_true, not_true_eq_false, not_false_eq_true, x.n, x.h, x.b, x.mo, x.wi, x.ca, x.ro, x.ti, x.il, x.ni, x.ga, x.ri]
      refine wp_up (2 ^ P.hrs) (fun j y τ' => y = nI j ∧ Fr [60] [] [] σ τ' ∧ (∀ S, S < 2 ^ P.hrs → hi τ' 60 (256 * (r + 1) + S) = nI (Tc ok (r + 1) i S)) ∧ ∀ S, S < j → hi τ' 60 (256 * r + S) = 0) (fun ag' j y τ hj hJ hag' => ?_) (fun ag' y τ hJ => ?_) (by omega) ⟨rfl, f, h1, fun S hS => absurd hS (Nat.not_lt_zero _)⟩
      · obtain ⟨rfl, f, h1, h2⟩ := hJ
        replace x := x0.fr f rfl
        unfold f_X3_countWays_b52
        simp (disch := first | omega | exact x.s | exact hi_eq | ((repeat (first | exact x.s | apply sw_I | apply sw_L | apply sw_cp | apply sw_18 | apply sw_21 | apply sw_22 | apply sw_m12 | apply sw_m18)); done) | rfl) only [wp_ite, wp_some, w_jn, wp_r0, wp_r1, wp_b2, wp_nn, w_bc, w_nt, wo_37, wg_37, wi_37, wr_37_38, wl_60, ws_60, w_has3, w_isMan, w_areTwo, w_isHour3, w_in3, w_night, wtM_0, wtM_1, wtM_2, nI_add, nI_1, nI_mul, nI_and, nI_or, nI_sd, nI_sub, l_sub1, l_addm1, l_all, l_1shl, l_or0, l_add0, l_0add, l_m1, l_m1r, l_neg, l_nn, l_eq0, l_le0, l_0lt, l_eq1, l_m1lt, l_m1le, l_m1eq0, l_10, l_00, l_1le, nI_le_l, nI_lt_l, nI_eq_l, bc_nI, nt_nI, bit_nI, b2_ite, b2_ite1, nI_max, nI_min, isR_nI, n_2, n_8, hi_ne, hi_ni, hi_eq, hi_wL, hi_wR, hl_wI, hl_wR, hl_ne, hl_ni, hl_eq, hr_wI, hr_wL, if_true, if_false, if_pos, if_neg, true_and, and_true, not_true_eq_false, not_false_eq_true, x.n, x.h, x.b, x.mo, x.wi, x.ca, x.ro, x.ti, x.il, x.ni, x.ga, x.ri, l_shl8, l_or256]
        refine hag' _ _ ⟨rfl, f.putI rfl, fun S hS => ?_, fun S hS => ?_⟩
        · rw [hi_ni (by omega)]; exact h1 S hS
        · by_cases e : S = j
          · rw [e, hi_eq]
          · rw [hi_ni (by omega)]; exact h2 S (by omega)
      · obtain ⟨rfl, f, h1, h2⟩ := hJ
        replace x := x0.fr f rfl
        have hmr : hi τ 54 r = nI (may r) := (f.i rfl).trans (hm r hrn)
        have mr8 : may r < 256 := mk.lt h8 r
        unfold f_X3_countWays_b52
        simp (disch := first | omega | exact x.s | exact hi_eq | ((repeat (first | exact x.s | apply sw_I | apply sw_L | apply sw_cp | apply sw_18 | apply sw_21 | apply sw_22 | apply sw_m12 | apply sw_m18)); done) | rfl) only [wp_ite, wp_some, w_jn, wp_r0, wp_r1, wp_b2, wp_nn, w_bc, w_nt, wo_37, wg_37, wi_37, wr_37_32, wr_37_38, wl_54, ws_54, wl_60, ws_60, w_has3, w_isMan, w_areTwo, w_isHour3, w_in3, w_night, wtM_0, wtM_1, wtM_2, nI_add, nI_1, nI_mul, nI_and, nI_or, nI_sd, nI_sub, l_sub1, l_addm1, l_all, l_1shl, l_or0, l_add0, l_0add, l_m1, l_m1r, l_neg, l_nn, l_eq0, l_le0, l_0lt, l_eq1, l_m1lt, l_m1le, l_m1eq0, l_10, l_00, l_1le, nI_le_l, nI_lt_l, nI_eq_l, bc_nI, nt_nI, bit_nI, b2_ite, b2_ite1, nI_max, nI_min, isR_nI, n_100, n_2, n_32, n_8, hi_ne, hi_ni, hi_eq, hi_wL, hi_wR, hl_wI, hl_wR, hl_ne, hl_ni, hl_eq, hr_wI, hr_wL, if_true, if_false, if_pos, if_neg, true_and, and_true, not_true_eq_false, not_false_eq_true, x.n, x.h, x.b, x.mo, x.wi, x.ca, x.ro, x.ti, x.il, x.ni, x.ga, x.ri, hmr]
        refine wp_subs mr8 (fun t τ' => Fr [60] [] [] σ τ' ∧ (∀ S, S < 2 ^ P.hrs → hi τ' 60 (256 * (r + 1) + S) = nI (Tc ok (r + 1) i S)) ∧ ∀ S, S < 2 ^ P.hrs → hi τ' 60 (256 * r + S) = nI (sumN (fun b => if t ≤ b ∧ ok r b = true ∧ sbs b S then Tc ok (r + 1) i (sd S b) else 0) 256)) (fun ag'' o τ ho o8 hJ hz hn' => ?_) (fun ag'' τ hJ => ?_) ⟨f, h1, fun S hS => ?_⟩
        · obtain ⟨f, h1, h2⟩ := hJ
          replace x := x0.fr f rfl
          have cnt := m_canTake x.y (hu.fr f rfl (by decide) (by decide)) hul (fun q h a1 a2 => (f.i rfl).trans (hp q h a1 a2)) hdl ((f.i rfl).trans hl') hlim hrn o8
          have q8 := prS_le8 (hdl r) o
          have ob' : ok r o = true ↔ pop o ≤ P.most r ∧ sbs (must r) o ∧ prS (hd r) o ≤ lim := (okb r o).trans ⟨fun z => ⟨z.2.1, z.2.2, by omega⟩, fun z => ⟨ho, z.1, z.2.1⟩⟩
          have hmr : hi τ 54 r = nI (may r) := (f.i rfl).trans (hm r hrn)
          have on : sbs o (2 ^ P.hrs - 1) := sbs_trans ho (mk.2 r)
          have key : ∀ S, sumN (fun b => if o ≤ b ∧ ok r b = true ∧ sbs b S then Tc ok (r + 1) i (sd S b) else 0) 256 = sumN (fun b => if o + 1 ≤ b ∧ ok r b = true ∧ sbs b S then Tc ok (r + 1) i (sd S b) else 0) 256 + (if ok r o = true ∧ sbs o S then Tc ok (r + 1) i (sd S o) else 0) := fun S => by
            rw [sumN_upd (f := fun b => if o ≤ b ∧ ok r b = true ∧ sbs b S then Tc ok (r + 1) i (sd S b) else 0) (g := fun b => if o + 1 ≤ b ∧ ok r b = true ∧ sbs b S then Tc ok (r + 1) i (sd S b) else 0) o8 (fun b _ hb => ?_) (if_neg (fun z => absurd z.1 (by omega)))]
            · congr 1
              by_cases e : ok r o = true ∧ sbs o S
              · rw [if_pos ⟨Nat.le_refl _, e⟩, if_pos e]
              · rw [if_neg (fun z => e z.2), if_neg e]
            · by_cases e : o + 1 ≤ b ∧ ok r b = true ∧ sbs b S
              · rw [if_pos e, if_pos ⟨by omega, e.2⟩]
              · rw [if_neg e, if_neg (fun z => e ⟨by omega, z.2⟩)]
          have next : ∀ τ', Fr [60] [] [] σ τ' → (∀ S, S < 2 ^ P.hrs → hi τ' 60 (256 * (r + 1) + S) = nI (Tc ok (r + 1) i S)) → (∀ S, S < 2 ^ P.hrs → hi τ' 60 (256 * r + S) = nI (sumN (fun b => if o ≤ b ∧ ok r b = true ∧ sbs b S then Tc ok (r + 1) i (sd S b) else 0) 256)) → if o = 0 then wp (ag'' (-1) τ') Q else wp (ag'' (nI ((o - 1) &&& may r)) τ') Q := fun τ' f' g1 g2 => by
            by_cases h0 : o = 0
            · rw [if_pos h0]
              refine hz h0 τ' ⟨f', g1, fun S hS => ?_⟩
              rw [h0] at g2
              exact g2 S hS
            · rw [if_neg h0]
              refine hn' h0 τ' ⟨f', g1, fun S hS => ?_⟩
              rw [g2 S hS]
              refine congrArg nI (sumN_congr fun b _ => ?_)
              by_cases e : ok r b = true ∧ sbs b S
              · have := thr ho ((okb r b).mp e.1).1 h0
                by_cases e2 : o ≤ b
                · rw [if_pos ⟨e2, e⟩, if_pos ⟨this.mpr (by omega), e⟩]
                · rw [if_neg (fun z => e2 z.1), if_neg (fun z => by have := this.mp z.1; omega)]
              · rw [if_neg (fun z => e z.2), if_neg (fun z => e z.2)]
          unfold f_X3_countWays_b85
          simp (disch := first | omega | exact x.s | exact hi_eq | ((repeat (first | exact x.s | apply sw_I | apply sw_L | apply sw_cp | apply sw_18 | apply sw_21 | apply sw_22 | apply sw_m12 | apply sw_m18)); done) | rfl) only [wp_ite, wp_some, w_jn, wp_r0, wp_r1, wp_b2, wp_nn, w_bc, w_nt, wo_37, wg_37, wi_37, wr_37_32, wl_54, ws_54, w_has3, w_isMan, w_areTwo, w_isHour3, w_in3, w_night, wtM_0, wtM_1, wtM_2, nI_add, nI_1, nI_mul, nI_and, nI_or, nI_sd, nI_sub, l_sub1, l_addm1, l_all, l_1shl, l_or0, l_add0, l_0add, l_m1, l_m1r, l_neg, l_nn, l_eq0, l_le0, l_0lt, l_eq1, l_m1lt, l_m1le, l_m1eq0, l_10, l_00, l_1le, nI_le_l, nI_lt_l, nI_eq_l, bc_nI, nt_nI, bit_nI, b2_ite, b2_ite1, nI_max, nI_min, isR_nI, n_100, n_2, n_32, hi_ne, hi_ni, hi_eq, hi_wL, hi_wR, hl_wI, hl_wR, hl_ne, hl_ni, hl_eq, hr_wI, hr_wL, if_true, if_false, if_pos, if_neg, true_and, and_true, not_true_eq_false, not_false_eq_true, x.n, x.h, x.b, x.mo, x.wi, x.ca, x.ro, x.ti, x.il, x.ni, x.ga, x.ri]
          rw [cnt, e_bnd]
          simp (disch := first | omega | exact x.s | exact hi_eq | ((repeat (first | exact x.s | apply sw_I | apply sw_L | apply sw_cp | apply sw_18 | apply sw_21 | apply sw_22 | apply sw_m12 | apply sw_m18)); done) | rfl) only [wp_ite, wp_some, w_jn, wp_r0, wp_r1, wp_b2, wp_nn, w_bc, w_nt, wo_37, wg_37, wi_37, wr_37_32, wl_54, ws_54, w_has3, w_isMan, w_areTwo, w_isHour3, w_in3, w_night, wtM_0, wtM_1, wtM_2, nI_add, nI_1, nI_mul, nI_and, nI_or, nI_sd, nI_sub, l_sub1, l_addm1, l_all, l_1shl, l_or0, l_add0, l_0add, l_m1, l_m1r, l_neg, l_nn, l_eq0, l_le0, l_0lt, l_eq1, l_m1lt, l_m1le, l_m1eq0, l_10, l_00, l_1le, nI_le_l, nI_lt_l, nI_eq_l, bc_nI, nt_nI, bit_nI, b2_ite, b2_ite1, nI_max, nI_min, isR_nI, n_100, n_2, n_32, hi_ne, hi_ni, hi_eq, hi_wL, hi_wR, hl_wI, hl_wR, hl_ne, hl_ni, hl_eq, hr_wI, hr_wL, if_true, if_false, if_pos, if_neg, true_and, and_true, not_true_eq_false, not_false_eq_true, x.n, x.h, x.b, x.mo, x.wi, x.ca, x.ro, x.ti, x.il, x.ni, x.ga, x.ri, hmr]
          by_cases hko : pop o ≤ P.most r ∧ sbs (must r) o ∧ prS (hd r) o ≤ lim
          · rw [if_pos hko]
            have oko := ob'.mpr hko
            have rs8 : sd (2 ^ P.hrs - 1) o < 256 := sd_lt o W1
            have sub_rest : ∀ S, S < 2 ^ P.hrs → sbs (sd S o) (sd (2 ^ P.hrs - 1) o) := fun S hS => sbs_sd_iff.mpr ⟨sbs_trans (sbs_sd S o) (sbs_all hS), sd_and_self S o⟩
            refine wp_subs rs8 (fun u τ' => Fr [60] [] [] σ τ' ∧ (∀ S, S < 2 ^ P.hrs → hi τ' 60 (256 * (r + 1) + S) = nI (Tc ok (r + 1) i S)) ∧ ∀ S, S < 2 ^ P.hrs → hi τ' 60 (256 * r + S) = nI (sumN (fun b => if o + 1 ≤ b ∧ ok r b = true ∧ sbs b S then Tc ok (r + 1) i (sd S b) else 0) 256 + (if sbs o S ∧ u ≤ sd S o then Tc ok (r + 1) i (sd S o) else 0))) (fun ag3 s τ' hs s8 hJ hz3 hn3 => ?_) (fun ag3 τ' hJ => ?_) ⟨f, h1, fun S hS => ?_⟩
            · obtain ⟨f, h1, h2⟩ := hJ
              replace x := x0.fr f rfl
              obtain ⟨sn, so⟩ := sbs_sd_iff.mp hs
              have sW : s < 2 ^ P.hrs := by have := sbs_le sn; omega
              have so8 := or_lt s8 o8
              have soW : s ||| o < 2 ^ P.hrs := by have := sbs_le (sbs_or sn on); omega
              have next3 : ∀ τ', Fr [60] [] [] σ τ' → (∀ S, S < 2 ^ P.hrs → hi τ' 60 (256 * (r + 1) + S) = nI (Tc ok (r + 1) i S)) → (∀ S, S < 2 ^ P.hrs → hi τ' 60 (256 * r + S) = nI (sumN (fun b => if o + 1 ≤ b ∧ ok r b = true ∧ sbs b S then Tc ok (r + 1) i (sd S b) else 0) 256 + (if sbs o S ∧ s ≤ sd S o then Tc ok (r + 1) i (sd S o) else 0))) → if s = 0 then wp (ag3 (-1) τ') Q else wp (ag3 (nI ((s - 1) &&& sd (2 ^ P.hrs - 1) o)) τ') Q := fun τ' f' g1 g2 => by
                by_cases h0 : s = 0
                · rw [if_pos h0]
                  refine hz3 h0 τ' ⟨f', g1, fun S hS => ?_⟩
                  rw [h0] at g2
                  exact g2 S hS
                · rw [if_neg h0]
                  refine hn3 h0 τ' ⟨f', g1, fun S hS => ?_⟩
                  rw [g2 S hS]
                  have ht := thr hs (sub_rest S hS) h0
                  congr 2
                  by_cases e : sbs o S ∧ s ≤ sd S o
                  · rw [if_pos e, if_pos ⟨e.1, ht.mpr (by omega)⟩]
                  · rw [if_neg e, if_neg (fun z => e ⟨z.1, by have := ht.mp z.2; omega⟩)]
              have sdso : sd (s ||| o) o = s := by
                apply Nat.eq_of_testBit_eq
                intro k
                rw [sd_bit, Nat.testBit_or]
                have := and_zero_iff.mp so k
                cases hsk : s.testBit k <;> cases hok2 : o.testBit k <;> simp_all
              have oso : sbs o (s ||| o) := sbs_iff.mpr fun k hk' => by rw [Nat.testBit_or, hk', Bool.or_true]
              have back : ∀ S, sbs o S → sd S o = s → S = s ||| o := fun S h1 h2 => by rw [← h2]; exact (sd_or_self h1).symm
              have g1 := h1 s sW
              have k1 := h2 (s ||| o) soW
              rw [sdso, if_neg (fun z => absurd z.2 (by omega)), Nat.add_zero] at k1
              unfold f_X3_countWays_b113
              simp (disch := first | omega | exact x.s | exact hi_eq | ((repeat (first | exact x.s | apply sw_I | apply sw_L | apply sw_cp | apply sw_18 | apply sw_21 | apply sw_22 | apply sw_m12 | apply sw_m18)); done) | rfl) only [wp_ite, wp_some, w_jn, wp_r0, wp_r1, wp_b2, wp_nn, w_bc, w_nt, wo_37, wg_37, wi_37, wr_37_38, wl_60, ws_60, w_has3, w_isMan, w_areTwo, w_isHour3, w_in3, w_night, wtM_0, wtM_1, wtM_2, nI_add, nI_1, nI_mul, nI_and, nI_or, nI_sd, nI_sub, l_sub1, l_addm1, l_all, l_1shl, l_or0, l_add0, l_0add, l_m1, l_m1r, l_neg, l_nn, l_eq0, l_le0, l_0lt, l_eq1, l_m1lt, l_m1le, l_m1eq0, l_10, l_00, l_1le, nI_le_l, nI_lt_l, nI_eq_l, bc_nI, nt_nI, bit_nI, b2_ite, b2_ite1, nI_max, nI_min, isR_nI, n_100, n_2, n_8, hi_ne, hi_ni, hi_eq, hi_wL, hi_wR, hl_wI, hl_wR, hl_ne, hl_ni, hl_eq, hr_wI, hr_wL, if_true, if_false, if_pos, if_neg, true_and, and_true, not_true_eq_false, not_false_eq_true, x.n, x.h, x.b, x.mo, x.wi, x.ca, x.ro, x.ti, x.il, x.ni, x.ga, x.ri, g1, l_shl8, l_or256, l_or256', k1]
              refine next3 _ (f.putI rfl) (fun S hS => ?_) (fun S hS => ?_)
              · rw [hi_ni (by omega)]; exact h1 S hS
              · by_cases e : S = s ||| o
                · rw [e, hi_eq, sdso, if_pos ⟨oso, Nat.le_refl _⟩]
                · rw [hi_ni (by omega), h2 S hS]
                  congr 2
                  by_cases e2 : sbs o S ∧ s ≤ sd S o
                  · have : sd S o ≠ s := fun e3 => e (back S e2.1 e3)
                    rw [if_pos e2, if_pos ⟨e2.1, by omega⟩]
                  · rw [if_neg e2, if_neg (fun z => e2 ⟨z.1, by omega⟩)]
            · obtain ⟨f, h1, h2⟩ := hJ
              replace x := x0.fr f rfl
              have hmr : hi τ' 54 r = nI (may r) := (f.i rfl).trans (hm r hrn)
              unfold f_X3_countWays_b113
              simp (disch := first | omega | exact x.s | exact hi_eq | ((repeat (first | exact x.s | apply sw_I | apply sw_L | apply sw_cp | apply sw_18 | apply sw_21 | apply sw_22 | apply sw_m12 | apply sw_m18)); done) | rfl) only [wp_ite, wp_some, w_jn, wp_r0, wp_r1, wp_b2, wp_nn, w_bc, w_nt, wo_37, wg_37, wi_37, wr_37_32, wr_37_38, wl_54, ws_54, wl_60, ws_60, w_has3, w_isMan, w_areTwo, w_isHour3, w_in3, w_night, wtM_0, wtM_1, wtM_2, nI_add, nI_1, nI_mul, nI_and, nI_or, nI_sd, nI_sub, l_sub1, l_addm1, l_all, l_1shl, l_or0, l_add0, l_0add, l_m1, l_m1r, l_neg, l_nn, l_eq0, l_le0, l_0lt, l_eq1, l_m1lt, l_m1le, l_m1eq0, l_10, l_00, l_1le, nI_le_l, nI_lt_l, nI_eq_l, bc_nI, nt_nI, bit_nI, b2_ite, b2_ite1, nI_max, nI_min, isR_nI, n_100, n_2, n_32, n_8, hi_ne, hi_ni, hi_eq, hi_wL, hi_wR, hl_wI, hl_wR, hl_ne, hl_ni, hl_eq, hr_wI, hr_wL, if_true, if_false, if_pos, if_neg, true_and, and_true, not_true_eq_false, not_false_eq_true, x.n, x.h, x.b, x.mo, x.wi, x.ca, x.ro, x.ti, x.il, x.ni, x.ga, x.ri, hmr]
              refine next τ' f h1 (fun S hS => ?_)
              rw [h2 S hS, key]
              congr 2
              by_cases e : sbs o S
              · rw [if_pos ⟨e, Nat.zero_le _⟩, if_pos ⟨oko, e⟩]
              · rw [if_neg (fun z => e z.1), if_neg (fun z => e z.2)]
            · rw [h2 S hS, if_neg (fun z => by have := sbs_le (sub_rest S hS); omega)]
              exact congrArg nI (Nat.add_zero _).symm
          · rw [if_neg hko]
            refine next τ f h1 (fun S hS => ?_)
            rw [h2 S hS, key, if_neg (fun z => hko (ob'.mp z.1))]
            exact congrArg nI (Nat.add_zero _).symm
        · obtain ⟨f, h1, h2⟩ := hJ
          replace x := x0.fr f rfl
          have fin : wp (ag (if i + 1 < P.n then nI (P.n - 1 - (i + 1)) else -1) τ) Q := hag _ _ ⟨rfl, f, fun S hS => by
            rw [show P.n - (i + 1) = r by omega, h2 S hS, Tc.peel]
            refine congrArg nI (sumN_congr fun b _ => ?_)
            simp only [Nat.zero_le, true_and]⟩
          unfold f_X3_countWays_b85
          by_cases h0 : r = 0
          · rw [if_neg (by omega)] at fin
            simp (disch := first | omega | exact x.s | exact hi_eq | ((repeat (first | exact x.s | apply sw_I | apply sw_L | apply sw_cp | apply sw_18 | apply sw_21 | apply sw_22 | apply sw_m12 | apply sw_m18)); done) | rfl) only [wp_ite, wp_some, w_jn, wp_r0, wp_r1, wp_b2, wp_nn, w_bc, w_nt, wo_37, wg_37, wi_37, wr_37_32, wl_54, ws_54, w_has3, w_isMan, w_areTwo, w_isHour3, w_in3, w_night, wtM_0, wtM_1, wtM_2, nI_add, nI_1, nI_mul, nI_and, nI_or, nI_sd, nI_sub, l_sub1, l_addm1, l_all, l_1shl, l_or0, l_add0, l_0add, l_m1, l_m1r, l_neg, l_nn, l_eq0, l_le0, l_0lt, l_eq1, l_m1lt, l_m1le, l_m1eq0, l_10, l_00, l_1le, nI_le_l, nI_lt_l, nI_eq_l, bc_nI, nt_nI, bit_nI, b2_ite, b2_ite1, nI_max, nI_min, isR_nI, n_100, n_2, n_32, hi_ne, hi_ni, hi_eq, hi_wL, hi_wR, hl_wI, hl_wR, hl_ne, hl_ni, hl_eq, hr_wI, hr_wL, if_true, if_false, if_pos, if_neg, true_and, and_true, not_true_eq_false, not_false_eq_true, x.n, x.h, x.b, x.mo, x.wi, x.ca, x.ro, x.ti, x.il, x.ni, x.ga, x.ri]
            rw [h0]
            exact fin
          · rw [if_pos (by omega), show P.n - 1 - (i + 1) = r - 1 by omega] at fin
            simp (disch := first | omega | exact x.s | exact hi_eq | ((repeat (first | exact x.s | apply sw_I | apply sw_L | apply sw_cp | apply sw_18 | apply sw_21 | apply sw_22 | apply sw_m12 | apply sw_m18)); done) | rfl) only [wp_ite, wp_some, w_jn, wp_r0, wp_r1, wp_b2, wp_nn, w_bc, w_nt, wo_37, wg_37, wi_37, wr_37_32, wl_54, ws_54, w_has3, w_isMan, w_areTwo, w_isHour3, w_in3, w_night, wtM_0, wtM_1, wtM_2, nI_add, nI_1, nI_mul, nI_and, nI_or, nI_sd, nI_sub, l_sub1, l_addm1, l_all, l_1shl, l_or0, l_add0, l_0add, l_m1, l_m1r, l_neg, l_nn, l_eq0, l_le0, l_0lt, l_eq1, l_m1lt, l_m1le, l_m1eq0, l_10, l_00, l_1le, nI_le_l, nI_lt_l, nI_eq_l, bc_nI, nt_nI, bit_nI, b2_ite, b2_ite1, nI_max, nI_min, isR_nI, n_100, n_2, n_32, hi_ne, hi_ni, hi_eq, hi_wL, hi_wR, hl_wI, hl_wR, hl_ne, hl_ni, hl_eq, hr_wI, hr_wL, if_true, if_false, if_pos, if_neg, true_and, and_true, not_true_eq_false, not_false_eq_true, x.n, x.h, x.b, x.mo, x.wi, x.ca, x.ro, x.ti, x.il, x.ni, x.ga, x.ri]
            exact fin
        · rw [h2 S hS, sumN_zero fun b _ => if_neg fun z => ?_]
          · rfl
          · have := sbs_le ((okb r b).mp z.2.1).1
            omega
    · obtain ⟨rfl, f, h1⟩ := hJ
      replace x := x0.fr f rfl
      rw [if_neg (Nat.lt_irrefl _)]
      rw [Nat.sub_self] at h1
      have g1 := h1 (2 ^ P.hrs - 1) (by omega)
      rw [Nat.mul_zero, Nat.zero_add] at g1
      unfold f_X3_countWays_b46
      simp (disch := first | omega | exact x.s | exact hi_eq | ((repeat (first | exact x.s | apply sw_I | apply sw_L | apply sw_cp | apply sw_18 | apply sw_21 | apply sw_22 | apply sw_m12 | apply sw_m18)); done) | rfl) only [wp_ite, wp_some, w_jn, wp_r0, wp_r1, wp_b2, wp_nn, w_bc, w_nt, wo_37, wg_37, wi_37, wr_37_32, wr_37_38, wl_54, ws_54, wl_60, ws_60, w_has3, w_isMan, w_areTwo, w_isHour3, w_in3, w_night, wtM_0, wtM_1, wtM_2, nI_add, nI_1, nI_mul, nI_and, nI_or, nI_sd, nI_sub, l_sub1, l_addm1, l_all, l_1shl, l_or0, l_add0, l_0add, l_m1, l_m1r, l_neg, l_nn, l_eq0, l_le0, l_0lt, l_eq1, l_m1lt, l_m1le, l_m1eq0, l_10, l_00, l_1le, nI_le_l, nI_lt_l, nI_eq_l, bc_nI, nt_nI, bit_nI, b2_ite, b2_ite1, nI_max, nI_min, isR_nI, n_100, n_2, n_3, n_32, hi_ne, hi_ni, hi_eq, hi_wL, hi_wR, hl_wI, hl_wR, hl_ne, hl_ni, hl_eq, hr_wI, hr_wL, if_true, if_false, if_pos, if_neg, true_and, and_true, not_true_eq_false, not_false_eq_true, x.n, x.h, x.b, x.mo, x.wi, x.ca, x.ro, x.ti, x.il, x.ni, x.ga, x.ri, g1]
      rw [← hQ]
      refine ⟨?_, f⟩
      congr 1
      unfold cntW
      refine (Tc.must (must := must) P.n (2 ^ P.hrs - 1) (fun r b _ _ => ?_) (fun r _ _ => hmu.1 r) (fun r o b _ hr2 _ ho hro hok2 => ?_)).symm
      · rw [okb, okW_iff]; exact ⟨fun z => ⟨⟨z.1, z.2.1⟩, z.2.2⟩, fun z => ⟨z.1.1, z.1.2, z.2⟩⟩
      · exact sbs_mono0 (okW_iff.mp hok2).1 (and_comm0.mp (hmu.2 r o hro (by omega) (by omega)))
    · by_cases h0 : P.n = 0
      · rw [h0]; rfl
      · rw [if_pos (by omega), l_sub1 (by omega)]; rfl
end mways
