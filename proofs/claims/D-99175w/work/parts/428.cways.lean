/-! PURE 32: the class counts rotas -/
abbrev nL (k : Nat) : Int64 := Int64.ofNat k
theorem nL_add (a b : Nat) : nL a + nL b = nL (a + b) := (Int64.ofNat_add a b).symm
def okW (P : Pk) (may : Nat → Nat) (r b : Nat) : Bool := decide (sbs b (may r)) && decide (pop b ≤ P.most r)
theorem okW_iff {P : Pk} {may : Nat → Nat} {r b : Nat} : okW P may r b = true ↔ sbs b (may r) ∧ pop b ≤ P.most r := by
  unfold okW
  rw [Bool.and_eq_true, decide_eq_true_iff, decide_eq_true_iff]
/-- how many rotas there are -/
def cntW (P : Pk) (may : Nat → Nat) : Nat := Tc (okW P may) 0 P.n (2 ^ P.hrs - 1)
section cways
variable {σ τ : Hp} {P : Pk} {a : HS} {may : Nat → Nat}
theorem c_laysWays (x : CX σ P a) (hm : AI σ 24 8 may) : wp (f_X1_laysWays (some 0) σ) (fun v τ => v = nL (cntW P may) ∧ Fr [30] [] [] σ τ) := by
  have n8 := x.n8
  have h8 := x.h8
  have x0 := x
  have W8 : 2 ^ P.hrs ≤ 256 := pow_le8 h8
  have Wp : 0 < 2 ^ P.hrs := Nat.two_pow_pos _
  obtain ⟨ok, hok⟩ : ∃ ok, ok = okW P may := ⟨_, rfl⟩
  have okb : ∀ r b, ok r b = true ↔ sbs b (may r) ∧ pop b ≤ P.most r := fun r b => by rw [hok]; exact okW_iff
  have ok0 : ∀ r, ok r 0 = true := fun r => (okb r 0).mpr ⟨sbs_zero _, by rw [pop_zero]; exact Nat.zero_le _⟩
  unfold f_X1_laysWays
  refine wp_up 256 (fun i y τ => y = nI i ∧ Fr [30] [] [] σ τ ∧ ∀ S, S < i → hl τ 30 S = nL (Tc ok 0 0 S)) (fun ag i y τ hi' hJ hag => ?_) (fun ag y τ hJ => ?_) (by decide) ⟨rfl, Fr.refl, fun S hS => absurd hS (Nat.not_lt_zero _)⟩
  · obtain ⟨rfl, f, h1⟩ := hJ
    replace x := x0.fr f rfl
    have fin : ∀ v, v = nL (Tc ok 0 0 i) → wp (ag (nI (i + 1)) (wL τ 30 i v)) (fun v τ => v = nL (cntW P may) ∧ Fr [30] [] [] σ τ) := fun v hv =>
      hag _ _ ⟨rfl, f.putL rfl, fun S hS => by
        by_cases e : S = i
        · rw [e, hl_eq, hv]
        · rw [hl_ni e]; exact h1 S (by omega)⟩
    unfold f_X1_laysWays_b2
    simp (disch := first | omega | exact x.s | exact hi_eq | ((repeat (first | exact x.s | apply sw_I | apply sw_L | apply sw_cp | apply sw_18 | apply sw_21 | apply sw_22 | apply sw_m12 | apply sw_m18)); done) | rfl) only [wp_ite, wp_some, w_jn, wp_r0, wp_r1, wp_b2, wp_nn, w_bc, w_nt, wo_0, wg_0, wi_0, wr_0_41, wl_30, ws_30, w_has, w_isRider, w_isPair, w_isHour, w_in, w_in0, w_in_0_1, w_in_0_10, w_in_0_3, w_in_0_30, w_in_0_60, w_in_0_7, w_in_0_9, w_in_0_999, w_in_1_60, w_in_20_27, w_in_2_40, w_in_48_57, w_whole, w_all, wt_0, wt_1, wt_2, nI_add, nI_1, nI_mul, nI_and, nI_or, nI_sd, nI_sub, l_sub1, l_addm1, l_all, l_1shl, l_or0, l_add0, l_0add, l_m1, l_m1r, l_neg, l_nn, l_eq0, l_le0, l_0lt, l_eq1, l_m1lt, l_m1le, l_m1eq0, l_10, l_00, l_1le, nI_le_l, nI_lt_l, nI_eq_l, bc_nI, nt_nI, bit_nI, b2_ite, b2_ite1, nI_max, nI_min, isR_nI, n_256, hi_ne, hi_ni, hi_eq, hi_wL, hi_wR, hl_wI, hl_wR, hl_ne, hl_ni, hl_eq, hr_wI, hr_wL, if_true, if_false, if_pos, if_neg, true_and, and_true, not_true_eq_false, not_false_eq_true, x.n, x.h, x.b, x.mo, x.wi, x.ca, x.ro, x.ti, x.il, x.ni, x.ga, x.ri]
    split
    · rename_i e
      exact fin 1 (by rw [e]; rfl)
    · rename_i e
      exact fin 0 (by unfold Tc; rw [if_neg e]; rfl)
  · obtain ⟨rfl, f, h1⟩ := hJ
    unfold f_X1_laysWays_b2
    simp (disch := first | omega | exact x.s | exact hi_eq | ((repeat (first | exact x.s | apply sw_I | apply sw_L | apply sw_cp | apply sw_18 | apply sw_21 | apply sw_22 | apply sw_m12 | apply sw_m18)); done) | rfl) only [wp_ite, wp_some, w_jn, wp_r0, wp_r1, wp_b2, wp_nn, w_bc, w_nt, wo_0, wg_0, wi_0, wr_0_41, wl_30, ws_30, w_has, w_isRider, w_isPair, w_isHour, w_in, w_in0, w_in_0_1, w_in_0_10, w_in_0_3, w_in_0_30, w_in_0_60, w_in_0_7, w_in_0_9, w_in_0_999, w_in_1_60, w_in_20_27, w_in_2_40, w_in_48_57, w_whole, w_all, wt_0, wt_1, wt_2, nI_add, nI_1, nI_mul, nI_and, nI_or, nI_sd, nI_sub, l_sub1, l_addm1, l_all, l_1shl, l_or0, l_add0, l_0add, l_m1, l_m1r, l_neg, l_nn, l_eq0, l_le0, l_0lt, l_eq1, l_m1lt, l_m1le, l_m1eq0, l_10, l_00, l_1le, nI_le_l, nI_lt_l, nI_eq_l, bc_nI, nt_nI, bit_nI, b2_ite, b2_ite1, nI_max, nI_min, isR_nI, n_256, hi_ne, hi_ni, hi_eq, hi_wL, hi_wR, hl_wI, hl_wR, hl_ne, hl_ni, hl_eq, hr_wI, hr_wL, if_true, if_false, if_pos, if_neg, true_and, and_true, not_true_eq_false, not_false_eq_true, x.n, x.h, x.b, x.mo, x.wi, x.ca, x.ro, x.ti, x.il, x.ni, x.ga, x.ri]
    refine wp_up P.n (fun r y τ => y = nI r ∧ Fr [30] [] [] σ τ ∧ ∀ S, S < 2 ^ P.hrs → hl τ 30 S = nL (Tc ok 0 r S)) (fun ag r y τ hr' hJ hag => ?_) (fun ag y τ hJ => ?_) (by omega) ⟨rfl, f, fun S hS => h1 S (by omega)⟩
    · obtain ⟨rfl, f, h1⟩ := hJ
      replace x := x0.fr f rfl
      unfold f_X1_laysWays_b32
      simp (disch := first | omega | exact x.s | exact hi_eq | ((repeat (first | exact x.s | apply sw_I | apply sw_L | apply sw_cp | apply sw_18 | apply sw_21 | apply sw_22 | apply sw_m12 | apply sw_m18)); done) | rfl) only [wp_ite, wp_some, w_jn, wp_r0, wp_r1, wp_b2, wp_nn, w_bc, w_nt, wo_0, wg_0, wi_0, w_has, w_isRider, w_isPair, w_isHour, w_in, w_in0, w_in_0_1, w_in_0_10, w_in_0_3, w_in_0_30, w_in_0_60, w_in_0_7, w_in_0_9, w_in_0_999, w_in_1_60, w_in_20_27, w_in_2_40, w_in_48_57, w_whole, w_all, wt_0, wt_1, wt_2, nI_add, nI_1, nI_mul, nI_and, nI_or, nI_sd, nI_sub, l_sub1, l_addm1, l_all, l_1shl, l_or0, l_add0, l_0add, l_m1, l_m1r, l_neg, l_nn, l_eq0, l_le0, l_0lt, l_eq1, l_m1lt, l_m1le, l_m1eq0, l_10, l_00, l_1le, nI_le_l, nI_lt_l, nI_eq_l, bc_nI, nt_nI, bit_nI, b2_ite, b2_ite1, nI_max, nI_min, isR_nI, n_5, hi_ne, hi_ni, hi_eq, hi_wL, hi_wR, hl_wI, hl_wR, hl_ne, hl_ni, hl_eq, hr_wI, hr_wL, if_true, if_false, if_pos, if_neg, true_and, and_true, not_true_eq_false, not_false_eq_true, x.n, x.h, x.b, x.mo, x.wi, x.ca, x.ro, x.ti, x.il, x.ni, x.ga, x.ri]
      have W1 : 2 ^ P.hrs - 1 < 256 := by omega
      refine wp_up (2 ^ P.hrs - 1) (fun i y τ => y = nI (2 ^ P.hrs - 1 - i) ∧ Fr [30] [] [] σ τ ∧ (∀ S, S < 2 ^ P.hrs → 2 ^ P.hrs - 1 - i < S → hl τ 30 S = nL (Tc ok 0 (r + 1) S)) ∧ ∀ S, S ≤ 2 ^ P.hrs - 1 - i → hl τ 30 S = nL (Tc ok 0 r S)) (fun ag i y τ hi' hJ hag' => ?_) (fun ag y τ hJ => ?_) (by omega) ⟨rfl, f, fun S hS hS' => by omega, fun S hS => h1 S (by omega)⟩
      · obtain ⟨rfl, f, h3, h4⟩ := hJ
        replace x := x0.fr f rfl
        have hm' : AI τ 24 8 may := hm.fr f rfl (by decide) (by decide)
        obtain ⟨set, hset⟩ : ∃ set, 2 ^ P.hrs - 1 - i = set := ⟨_, rfl⟩
        rw [hset] at h3 h4 ⊢
        have s1 : 0 < set := by omega
        have s2 : set < 256 := by omega
        have sm : set &&& may r < 256 := and_lt _ s2
        have hmr := hm' r (by omega)
        unfold f_X1_laysWays_b45
        simp (disch := first | omega | exact x.s | exact hi_eq | ((repeat (first | exact x.s | apply sw_I | apply sw_L | apply sw_cp | apply sw_18 | apply sw_21 | apply sw_22 | apply sw_m12 | apply sw_m18)); done) | rfl) only [wp_ite, wp_some, w_jn, wp_r0, wp_r1, wp_b2, wp_nn, w_bc, w_nt, wo_0, wg_0, wi_0, wr_0_35, wl_24, ws_24, w_has, w_isRider, w_isPair, w_isHour, w_in, w_in0, w_in_0_1, w_in_0_10, w_in_0_3, w_in_0_30, w_in_0_60, w_in_0_7, w_in_0_9, w_in_0_999, w_in_1_60, w_in_20_27, w_in_2_40, w_in_48_57, w_whole, w_all, wt_0, wt_1, wt_2, nI_add, nI_1, nI_mul, nI_and, nI_or, nI_sd, nI_sub, l_sub1, l_addm1, l_all, l_1shl, l_or0, l_add0, l_0add, l_m1, l_m1r, l_neg, l_nn, l_eq0, l_le0, l_0lt, l_eq1, l_m1lt, l_m1le, l_m1eq0, l_10, l_00, l_1le, nI_le_l, nI_lt_l, nI_eq_l, bc_nI, nt_nI, bit_nI, b2_ite, b2_ite1, nI_max, nI_min, isR_nI, n_100, hi_ne, hi_ni, hi_eq, hi_wL, hi_wR, hl_wI, hl_wR, hl_ne, hl_ni, hl_eq, hr_wI, hr_wL, if_true, if_false, if_pos, if_neg, true_and, and_true, not_true_eq_false, not_false_eq_true, x.n, x.h, x.b, x.mo, x.wi, x.ca, x.ro, x.ti, x.il, x.ni, x.ga, x.ri, hmr]
        refine wp_lp (fun y τ' => ∃ sub, y = nI sub ∧ sbs sub (set &&& may r) ∧ Fr [30] [] [] σ τ' ∧ (∀ S, S ≠ set → hl τ' 30 S = hl τ 30 S) ∧ hl τ' 30 set = nL (Tc ok 0 r set + sumN (fun b => if sub < b ∧ ok r b = true ∧ sbs b set then Tc ok 0 r (sd set b) else 0) 256)) (fun y _ => ix y) (fun ag'' y τ' hI hag'' => ?_) 2000 _ _ ⟨set &&& may r, rfl, sbs_refl _, f, fun _ _ => rfl, ?_⟩ ?_
        · obtain ⟨sub, rfl, k1, f', k3, k4⟩ := hI
          replace x := x0.fr f' rfl
          have sb8 : sub < 256 := sbs_lt k1 sm
          have p8 := pop_le sub
          have m4 := x.m4 r
          unfold f_X1_laysWays_b61
          simp (disch := first | omega | exact x.s | exact hi_eq | ((repeat (first | exact x.s | apply sw_I | apply sw_L | apply sw_cp | apply sw_18 | apply sw_21 | apply sw_22 | apply sw_m12 | apply sw_m18)); done) | rfl) only [wp_ite, wp_some, w_jn, wp_r0, wp_r1, wp_b2, wp_nn, w_bc, w_nt, wo_0, wg_0, wi_0, wr_0_41, wr_0_2, wl_7, ws_7, wl_30, ws_30, w_has, w_isRider, w_isPair, w_isHour, w_in, w_in0, w_in_0_1, w_in_0_10, w_in_0_3, w_in_0_30, w_in_0_60, w_in_0_7, w_in_0_9, w_in_0_999, w_in_1_60, w_in_20_27, w_in_2_40, w_in_48_57, w_whole, w_all, wt_0, wt_1, wt_2, nI_add, nI_1, nI_mul, nI_and, nI_or, nI_sd, nI_sub, l_sub1, l_addm1, l_all, l_1shl, l_or0, l_add0, l_0add, l_m1, l_m1r, l_neg, l_nn, l_eq0, l_le0, l_0lt, l_eq1, l_m1lt, l_m1le, l_m1eq0, l_10, l_00, l_1le, nI_le_l, nI_lt_l, nI_eq_l, bc_nI, nt_nI, bit_nI, b2_ite, b2_ite1, nI_max, nI_min, isR_nI, n_100, n_2, hi_ne, hi_ni, hi_eq, hi_wL, hi_wR, hl_wI, hl_wR, hl_ne, hl_ni, hl_eq, hr_wI, hr_wL, if_true, if_false, if_pos, if_neg, true_and, and_true, not_true_eq_false, not_false_eq_true, x.n, x.h, x.b, x.mo, x.wi, x.ca, x.ro, x.ti, x.il, x.ni, x.ga, x.ri]
          split
          · rename_i hs0
            subst hs0
            refine hag' _ _ ⟨by rw [show 2 ^ P.hrs - 1 - (i + 1) = set - 1 by omega], f', fun S hS hS' => ?_, fun S hS => ?_⟩
            · by_cases e : S = set
              · rw [e, k4]
                congr 1
                show _ = sumN (fun b => if ok (0 + r) b = true ∧ sbs b set then Tc ok 0 r (sd set b) else 0) 256
                rw [Nat.zero_add, sumN_upd (f := fun b => if ok r b = true ∧ sbs b set then Tc ok 0 r (sd set b) else 0) (g := fun b => if 0 < b ∧ ok r b = true ∧ sbs b set then Tc ok 0 r (sd set b) else 0) (k := 0) (by decide) (fun b _ hb => by
                  have : 0 < b := by omega
                  simp only [this, true_and]) (by simp), if_pos ⟨ok0 r, sbs_zero _⟩, sd_zero]
                omega
              · rw [k3 S e]; exact h3 S hS (by omega)
            · rw [k3 S (by omega)]; exact h4 S (by omega)
          · rename_i hs0
            have nx := sub_next_lt (some := set &&& may r) (show 0 < sub by omega)
            have nxs : sbs ((sub - 1) &&& (set &&& may r)) (set &&& may r) := sbs_and_r _ _
            have sks : sbs sub set := sbs_trans k1 (sbs_and_l _ _)
            have skm : sbs sub (may r) := sbs_trans k1 (sbs_and_r _ _)
            have bsm : ∀ b, ok r b = true → sbs b set → sbs b (set &&& may r) := fun b g1 g2 => sbs_and g2 ((okb r b).mp g1).1
            have key : sumN (fun b => if (sub - 1) &&& (set &&& may r) < b ∧ ok r b = true ∧ sbs b set then Tc ok 0 r (sd set b) else 0) 256 = sumN (fun b => if sub < b ∧ ok r b = true ∧ sbs b set then Tc ok 0 r (sd set b) else 0) 256 + (if ok r sub = true then Tc ok 0 r (sd set sub) else 0) := by
              rw [sumN_upd (f := fun b => if (sub - 1) &&& (set &&& may r) < b ∧ ok r b = true ∧ sbs b set then Tc ok 0 r (sd set b) else 0) (g := fun b => if sub < b ∧ ok r b = true ∧ sbs b set then Tc ok 0 r (sd set b) else 0) sb8 (fun b _ hb => ?_) (if_neg (fun z => Nat.lt_irrefl _ z.1))]
              · by_cases ho : ok r sub = true
                · rw [if_pos ⟨nx, ho, sks⟩, if_pos ho]
                · rw [if_neg (fun z => ho z.2.1), if_neg ho]
              · by_cases hb2 : ok r b = true ∧ sbs b set
                · have := sub_cut k1 (bsm b hb2.1 hb2.2) (show 0 < sub by omega)
                  by_cases hb3 : sub < b
                  · rw [if_pos ⟨this.mpr (Or.inl hb3), hb2⟩, if_pos ⟨hb3, hb2⟩]
                  · rw [if_neg (fun z => by have := this.mp z.1; omega), if_neg (fun z => hb3 z.1)]
                · rw [if_neg (fun z => hb2 z.2), if_neg (fun z => hb2 z.2)]
            split
            · rename_i hq
              refine hag'' _ _ ⟨_, rfl, nxs, f', k3, ?_⟩ (by rw [ix_nI (by omega), ix_nI (by omega)]; exact nx)
              rw [key, if_neg (fun z => by have := ((okb r sub).mp z).2; omega), Nat.add_zero]
              exact k4
            · rename_i hq
              have sdl : sd set sub < set := by
                have h1 := sbs_le (sbs_sd set sub)
                have h2 : sd set sub ≠ set := fun e => by
                  have h3 := sd_and_self set sub
                  rw [e] at h3
                  have h4 : sub &&& set = sub := sks
                  rw [Nat.and_comm, h3] at h4
                  omega
                omega
              have g1' : hl τ' 30 (sd set sub) = nL (Tc ok 0 r (sd set sub)) := by rw [k3 _ (by omega)]; exact h4 _ (by omega)
              simp (disch := first | omega | exact x.s | exact hi_eq | ((repeat (first | exact x.s | apply sw_I | apply sw_L | apply sw_cp | apply sw_18 | apply sw_21 | apply sw_22 | apply sw_m12 | apply sw_m18)); done) | rfl) only [wp_ite, wp_some, w_jn, wp_r0, wp_r1, wp_b2, wp_nn, w_bc, w_nt, wo_0, wg_0, wi_0, wr_0_41, wr_0_2, wl_7, ws_7, wl_30, ws_30, w_has, w_isRider, w_isPair, w_isHour, w_in, w_in0, w_in_0_1, w_in_0_10, w_in_0_3, w_in_0_30, w_in_0_60, w_in_0_7, w_in_0_9, w_in_0_999, w_in_1_60, w_in_20_27, w_in_2_40, w_in_48_57, w_whole, w_all, wt_0, wt_1, wt_2, nI_add, nI_1, nI_mul, nI_and, nI_or, nI_sd, nI_sub, l_sub1, l_addm1, l_all, l_1shl, l_or0, l_add0, l_0add, l_m1, l_m1r, l_neg, l_nn, l_eq0, l_le0, l_0lt, l_eq1, l_m1lt, l_m1le, l_m1eq0, l_10, l_00, l_1le, nI_le_l, nI_lt_l, nI_eq_l, bc_nI, nt_nI, bit_nI, b2_ite, b2_ite1, nI_max, nI_min, isR_nI, n_100, n_2, hi_ne, hi_ni, hi_eq, hi_wL, hi_wR, hl_wI, hl_wR, hl_ne, hl_ni, hl_eq, hr_wI, hr_wL, if_true, if_false, if_pos, if_neg, true_and, and_true, not_true_eq_false, not_false_eq_true, x.n, x.h, x.b, x.mo, x.wi, x.ca, x.ro, x.ti, x.il, x.ni, x.ga, x.ri, g1', k4, nL_add]
              refine hag'' _ _ ⟨_, rfl, nxs, f'.putL rfl, fun S hS => by rw [hl_ni hS]; exact k3 S hS, ?_⟩ (by rw [ix_nI (by omega), ix_nI (by omega)]; exact nx)
              rw [hl_eq, key, if_pos ((okb r sub).mpr ⟨skm, by omega⟩), Nat.add_assoc]
        · rw [h4 set (Nat.le_refl _), sumN_zero fun b _ => ?_]
          · rfl
          · refine if_neg fun z => ?_
            have := sbs_le (sbs_and z.2.2 ((okb r b).mp z.2.1).1)
            omega
        · rw [ix_nI (by omega)]; omega
      · obtain ⟨rfl, f, h3, h4⟩ := hJ
        replace x := x0.fr f rfl
        rw [Nat.sub_self] at *
        unfold f_X1_laysWays_b45
        simp (disch := first | omega | exact x.s | exact hi_eq | ((repeat (first | exact x.s | apply sw_I | apply sw_L | apply sw_cp | apply sw_18 | apply sw_21 | apply sw_22 | apply sw_m12 | apply sw_m18)); done) | rfl) only [wp_ite, wp_some, w_jn, wp_r0, wp_r1, wp_b2, wp_nn, w_bc, w_nt, wo_0, wg_0, wi_0, wr_0_35, wl_24, ws_24, w_has, w_isRider, w_isPair, w_isHour, w_in, w_in0, w_in_0_1, w_in_0_10, w_in_0_3, w_in_0_30, w_in_0_60, w_in_0_7, w_in_0_9, w_in_0_999, w_in_1_60, w_in_20_27, w_in_2_40, w_in_48_57, w_whole, w_all, wt_0, wt_1, wt_2, nI_add, nI_1, nI_mul, nI_and, nI_or, nI_sd, nI_sub, l_sub1, l_addm1, l_all, l_1shl, l_or0, l_add0, l_0add, l_m1, l_m1r, l_neg, l_nn, l_eq0, l_le0, l_0lt, l_eq1, l_m1lt, l_m1le, l_m1eq0, l_10, l_00, l_1le, nI_le_l, nI_lt_l, nI_eq_l, bc_nI, nt_nI, bit_nI, b2_ite, b2_ite1, nI_max, nI_min, isR_nI, n_100, hi_ne, hi_ni, hi_eq, hi_wL, hi_wR, hl_wI, hl_wR, hl_ne, hl_ni, hl_eq, hr_wI, hr_wL, if_true, if_false, if_pos, if_neg, true_and, and_true, not_true_eq_false, not_false_eq_true, x.n, x.h, x.b, x.mo, x.wi, x.ca, x.ro, x.ti, x.il, x.ni, x.ga, x.ri]
        refine hag _ _ ⟨rfl, f, fun S hS => ?_⟩
        by_cases e : S = 0
        · rw [e, h4 0 (Nat.le_refl _)]
          congr 1
          show _ = sumN (fun b => if ok (0 + r) b = true ∧ sbs b 0 then Tc ok 0 r (sd 0 b) else 0) 256
          rw [Nat.zero_add, sumN_upd (f := fun b => if ok r b = true ∧ sbs b 0 then Tc ok 0 r (sd 0 b) else 0) (g := fun b => 0) (k := 0) (by decide) (fun b _ hb => if_neg fun z => by have := sbs_le z.2; omega) rfl, if_pos ⟨ok0 r, sbs_zero _⟩, sd_zero, sumN_zero (fun _ _ => rfl), Nat.zero_add]
        · exact h3 S hS (by omega)
    · obtain ⟨rfl, f, h1⟩ := hJ
      replace x := x0.fr f rfl
      have g1 := h1 (2 ^ P.hrs - 1) (by omega)
      unfold f_X1_laysWays_b32
      simp (disch := first | omega | exact x.s | exact hi_eq | ((repeat (first | exact x.s | apply sw_I | apply sw_L | apply sw_cp | apply sw_18 | apply sw_21 | apply sw_22 | apply sw_m12 | apply sw_m18)); done) | rfl) only [wp_ite, wp_some, w_jn, wp_r0, wp_r1, wp_b2, wp_nn, w_bc, w_nt, wo_0, wg_0, wi_0, wr_0_41, wl_30, ws_30, w_has, w_isRider, w_isPair, w_isHour, w_in, w_in0, w_in_0_1, w_in_0_10, w_in_0_3, w_in_0_30, w_in_0_60, w_in_0_7, w_in_0_9, w_in_0_999, w_in_1_60, w_in_20_27, w_in_2_40, w_in_48_57, w_whole, w_all, wt_0, wt_1, wt_2, nI_add, nI_1, nI_mul, nI_and, nI_or, nI_sd, nI_sub, l_sub1, l_addm1, l_all, l_1shl, l_or0, l_add0, l_0add, l_m1, l_m1r, l_neg, l_nn, l_eq0, l_le0, l_0lt, l_eq1, l_m1lt, l_m1le, l_m1eq0, l_10, l_00, l_1le, nI_le_l, nI_lt_l, nI_eq_l, bc_nI, nt_nI, bit_nI, b2_ite, b2_ite1, nI_max, nI_min, isR_nI, n_5, hi_ne, hi_ni, hi_eq, hi_wL, hi_wR, hl_wI, hl_wR, hl_ne, hl_ni, hl_eq, hr_wI, hr_wL, if_true, if_false, if_pos, if_neg, true_and, and_true, not_true_eq_false, not_false_eq_true, x.n, x.h, x.b, x.mo, x.wi, x.ca, x.ro, x.ti, x.il, x.ni, x.ga, x.ri, g1]
      refine ⟨?_, f⟩
      rw [hok]
      rfl
end cways
