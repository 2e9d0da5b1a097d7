/-! PURE 54: the reference: by sets of riders whether there is a rota -/
theorem bst_none {bt : Nat → Nat → Bool} {p : Nat → Bool} : ∀ m, bst bt p m = none ↔ ∀ s, s < m → p s = false := by
  intro m
  induction m with
  | zero => exact ⟨fun _ s hs => absurd hs (Nat.not_lt_zero _), fun _ => rfl⟩
  | succ m ih =>
    rw [bst_step]
    constructor
    · intro h
      by_cases hc : p m = true ∧ (bst bt p m = none ∨ ∃ b, bst bt p m = some b ∧ bt m b = true)
      · rw [if_pos hc] at h; cases h
      · rw [if_neg hc] at h
        intro s hs
        by_cases e : s = m
        · subst e
          cases hp : p s
          · rfl
          · exact absurd ⟨hp, Or.inl h⟩ hc
        · exact ih.mp h s (by omega)
    · intro h
      rw [if_neg (fun z => by rw [h m (by omega)] at z; cases z.1)]
      exact ih.mpr fun s hs => h s (by omega)
def mayS (P : Pk) (s r : Nat) : Nat := if r < P.n ∧ s.testBit r = true then P.can r &&& (2 ^ P.hrs - 1) else 0
theorem mayS_ok {P : Pk} {s : Nat} : MayOK P (mayS P s) := by
  refine ⟨fun o ho => by unfold mayS; rw [if_neg (by omega)], fun r => ?_⟩
  unfold mayS
  split
  · exact sbs_and_r _ _
  · exact sbs_zero _
theorem lack_hall {P : Pk} {s S : Nat} (h8 : P.hrs ≤ 8) (hS : sbs S (2 ^ P.hrs - 1)) : (∃ c, Tw (okC P.most (mayS P s) 1000000 prZ) (fun r b => prS (prZ r) b) 0 P.n S c) ↔ ∀ T, sbs T S → lackB P s T = false := by
  have z : ∀ r b, prS (prZ r) b = 0 := fun r b => prS_zero
  have e1 : (∃ c, Tw (okC P.most (mayS P s) 1000000 prZ) (fun r b => prS (prZ r) b) 0 P.n S c) ↔ ∃ c, Tw (fun r b => sbs b (canS P s r) ∧ pop b ≤ P.most r) (fun r b => prS (prZ r) b) 0 P.n S c := by
    constructor
    · rintro ⟨c, h⟩
      refine ⟨c, Tw.mono _ _ _ (fun r b _ hr' hb hok => ⟨⟨?_, hok.2.1⟩, rfl⟩) h⟩
      have := hok.1
      unfold mayS at this
      unfold canS
      by_cases e : r < P.n ∧ s.testBit r = true
      · rw [if_pos e] at this
        rw [if_pos e.2]
        exact sbs_trans this (sbs_and_l _ _)
      · rw [if_neg e] at this
        have : b = 0 := by have := sbs_le this; omega
        rw [this]; exact sbs_zero _
    · rintro ⟨c, h⟩
      refine ⟨c, Tw.mono _ _ _ (fun r b _ hr' hb hok => ⟨⟨?_, hok.2, by rw [z]; exact Nat.zero_le _⟩, rfl⟩) h⟩
      have := hok.1
      unfold canS at this
      unfold mayS
      by_cases e : s.testBit r = true
      · rw [if_pos e] at this
        rw [if_pos ⟨by omega, e⟩]
        exact sbs_and this (sbs_trans hb hS)
      · rw [if_neg e] at this
        have : b = 0 := by have := sbs_le this; omega
        rw [this]; exact sbs_zero _
  rw [e1, hall P.n S (sbs_lt hS (all_lt h8))]
  refine forall_congr' fun T => forall_congr' fun _ => ?_
  unfold lackB
  rw [decide_eq_false_iff_not]
  exact ⟨fun h => by omega, fun h => by omega⟩
theorem lst_lack {P : Pk} {s : Nat} (h8 : P.hrs ≤ 8) : lstO P (mayS P s) 1000000 prZ ≠ none ↔ lackO P s = none := by
  have h1 := lack_hall (P := P) (s := s) h8 (sbs_refl (2 ^ P.hrs - 1))
  have Wp : 0 < 2 ^ P.hrs := Nat.two_pow_pos _
  unfold lackO
  rw [bst_none]
  constructor
  · intro h T hT
    obtain ⟨c, hc⟩ := lst_ne h
    exact h1.mp ⟨c, hc⟩ T (sbs_all hT)
  · intro h
    obtain ⟨c, hc⟩ := h1.mpr (fun T hT => h T (by have := sbs_le hT; omega))
    exact lst_some hc
theorem setN_self {x : Nat} : ∀ n, x < 2 ^ n → setN x.testBit n = x := fun n h => by
  apply Nat.eq_of_testBit_eq
  intro i
  rw [setN_bit]
  by_cases hi' : i < n
  · rw [decide_eq_true hi', Bool.true_and]
  · rw [decide_eq_false hi', bit_lt h (by omega)]; rfl
theorem bool0 : vp_nar .boolean 0 = 0 := by decide
theorem bool1 : vp_nar .boolean 1 = 1 := by decide
/-- by sets of riders, the ill left out -/
def CanM (τ : Hp) (P : Pk) (a : HS) (n : Nat) : Prop := ∀ s, s < n → hi τ 62 s = if lackO P (sd s a.ill) = none then 1 else 0
section mcan
variable {σ τ : Hp} {P : Pk} {a : HS}
theorem m_illB (x : MX σ P a) : f_X3_illBits (some 37) (some 38) σ = some (nI a.ill, σ) := by
  rw [m_illBits x.s x.n x.n8 (so_38 x.s) (sl_38 x.s), orI_set (p := a.ill.testBit) P.n (fun i hi' => ?_), setN_self P.n x.ok.1]
  have n8 := x.n8
  rw [x.il i (by omega)]
  by_cases e : a.ill.testBit i = true
  · rw [if_pos e, if_pos e, shl_1 (by omega)]
  · rw [if_neg e, if_neg e, shl_0 (by omega)]
theorem m_well (x : MX σ P a) : f_X3_well (some 37) σ = some (nI (wellN P a), σ) := by
  have n8 := x.n8
  refine wp_eq ?_
  unfold f_X3_well
  simp (disch := first | omega | exact x.s | exact hi_eq | ((repeat (first | exact x.s | apply sw_I | apply sw_L | apply sw_cp | apply sw_18 | apply sw_21 | apply sw_22 | apply sw_m12 | apply sw_m18)); done) | rfl) only [wp_ite, wp_some, w_jn, wp_r0, wp_r1, wp_b2, wp_nn, w_bc, w_nt, wo_37, wg_37, wi_37, wr_37_0, wl_38, ws_38, w_has3, w_isMan, w_areTwo, w_isHour3, w_in3, w_night, wtM_0, wtM_1, wtM_2, nI_add, nI_1, nI_mul, nI_and, nI_or, nI_sd, nI_sub, l_sub1, l_addm1, l_all, l_1shl, l_or0, l_add0, l_0add, l_m1, l_m1r, l_neg, l_nn, l_eq0, l_le0, l_0lt, l_eq1, l_m1lt, l_m1le, l_m1eq0, l_10, l_00, l_1le, nI_le_l, nI_lt_l, nI_eq_l, bc_nI, nt_nI, bit_nI, b2_ite, b2_ite1, nI_max, nI_min, isR_nI, n_2, n_3, hi_ne, hi_ni, hi_eq, hi_wL, hi_wR, hl_wI, hl_wR, hl_ne, hl_ni, hl_eq, hr_wI, hr_wL, if_true, if_false, if_pos, if_neg, true_and, and_true, not_true_eq_false, not_false_eq_true, x.n, x.h, x.b, x.mo, x.wi, x.ca, x.ro, x.ti, x.il, x.ni, x.ga, x.ri]
  rw [m_illB x, e_bnd]
  simp (disch := first | omega | exact x.s | exact hi_eq | ((repeat (first | exact x.s | apply sw_I | apply sw_L | apply sw_cp | apply sw_18 | apply sw_21 | apply sw_22 | apply sw_m12 | apply sw_m18)); done) | rfl) only [wp_ite, wp_some, w_jn, wp_r0, wp_r1, wp_b2, wp_nn, w_bc, w_nt, wo_37, wg_37, wi_37, wr_37_0, wl_38, ws_38, w_has3, w_isMan, w_areTwo, w_isHour3, w_in3, w_night, wtM_0, wtM_1, wtM_2, nI_add, nI_1, nI_mul, nI_and, nI_or, nI_sd, nI_sub, l_sub1, l_addm1, l_all, l_1shl, l_or0, l_add0, l_0add, l_m1, l_m1r, l_neg, l_nn, l_eq0, l_le0, l_0lt, l_eq1, l_m1lt, l_m1le, l_m1eq0, l_10, l_00, l_1le, nI_le_l, nI_lt_l, nI_eq_l, bc_nI, nt_nI, bit_nI, b2_ite, b2_ite1, nI_max, nI_min, isR_nI, n_2, n_3, hi_ne, hi_ni, hi_eq, hi_wL, hi_wR, hl_wI, hl_wR, hl_ne, hl_ni, hl_eq, hr_wI, hr_wL, if_true, if_false, if_pos, if_neg, true_and, and_true, not_true_eq_false, not_false_eq_true, x.n, x.h, x.b, x.mo, x.wi, x.ca, x.ro, x.ti, x.il, x.ni, x.ga, x.ri]
  rfl
theorem m_layCanBe (x : MX σ P a) (s : SM σ) : wp (f_X3_layCanBe (some 37) σ) (fun _ τ => Fr [47, 54, 55, 58, 59, 62] [] HG σ τ ∧ CanM τ P a (2 ^ P.n)) := by
  have n8 := x.n8
  have h8 := x.h8
  have N8 : 2 ^ P.n ≤ 256 := pow_le8 n8
  have x0 := x
  unfold f_X3_layCanBe
  refine wp_up (2 ^ P.n) (fun i y τ => y = nI i ∧ Fr [47, 54, 55, 58, 59, 62] [] HG σ τ ∧ CanM τ P a i) (fun ag i y τ hi' hJ hag => ?_) (fun ag y τ hJ => ?_) (by omega) ⟨rfl, Fr.refl, fun s hs => absurd hs (Nat.not_lt_zero _)⟩
  · obtain ⟨rfl, f, h1⟩ := hJ
    replace x := x0.fr f rfl
    have s1 : SM τ := s.fr f rfl
    unfold f_X3_layCanBe_b2
    simp (disch := first | omega | exact x.s | exact hi_eq | ((repeat (first | exact x.s | apply sw_I | apply sw_L | apply sw_cp | apply sw_18 | apply sw_21 | apply sw_22 | apply sw_m12 | apply sw_m18)); done) | rfl) only [wp_ite, wp_some, w_jn, wp_r0, wp_r1, wp_b2, wp_nn, w_bc, w_nt, wo_37, wg_37, wi_37, wr_37_41, wl_62, ws_62, w_has3, w_isMan, w_areTwo, w_isHour3, w_in3, w_night, wtM_0, wtM_1, wtM_2, nI_add, nI_1, nI_mul, nI_and, nI_or, nI_sd, nI_sub, l_sub1, l_addm1, l_all, l_1shl, l_or0, l_add0, l_0add, l_m1, l_m1r, l_neg, l_nn, l_eq0, l_le0, l_0lt, l_eq1, l_m1lt, l_m1le, l_m1eq0, l_10, l_00, l_1le, nI_le_l, nI_lt_l, nI_eq_l, bc_nI, nt_nI, bit_nI, b2_ite, b2_ite1, nI_max, nI_min, isR_nI, n_1000000000, n_2, n_3, hi_ne, hi_ni, hi_eq, hi_wL, hi_wR, hl_wI, hl_wR, hl_ne, hl_ni, hl_eq, hr_wI, hr_wL, if_true, if_false, if_pos, if_neg, true_and, and_true, not_true_eq_false, not_false_eq_true, x.n, x.h, x.b, x.mo, x.wi, x.ca, x.ro, x.ti, x.il, x.ni, x.ga, x.ri]
    rw [wp_bnd]
    refine wp_mono (m_laid x s1 (but_none n8)) (fun _ τ1 h => ?_)
    obtain ⟨f1, ld⟩ := h
    have F1 : Fr [47, 54, 55, 58, 59, 62] [] HG σ τ1 := f.then f1 rfl
    have c1 : CanM τ1 P a i := fun s hs => by rw [f1.i rfl]; exact h1 s hs
    have ms : ∀ r, (if i.testBit r then mayOf P a 0 r else 0) = mayS P (sd i a.ill) r := fun r => by
      unfold mayOf mayS
      rw [sd_bit, Nat.or_zero]
      by_cases e1 : i.testBit r = true
      · rw [if_pos e1, e1, Bool.true_and]
        by_cases e2 : r < P.n ∧ a.ill.testBit r = false
        · rw [if_pos e2, if_pos ⟨e2.1, by rw [e2.2]; rfl⟩]
        · rw [if_neg e2, if_neg (fun z => e2 ⟨z.1, by cases hb : a.ill.testBit r; rfl; rw [hb] at z; cases z.2⟩)]
      · rw [if_neg e1, Bool.eq_false_iff.mpr e1, Bool.false_and, if_neg (fun z => by cases z.2)]
    refine wp_up P.n (fun j y τ2 => y = nI j ∧ Fr [54] [] [] τ1 τ2 ∧ (∀ r, r < j → hi τ2 54 r = nI (mayS P (sd i a.ill) r)) ∧ ∀ r, j ≤ r → r < P.n → hi τ2 54 r = nI (mayOf P a 0 r)) (fun ag' j y τ2 hj hJ hag' => ?_) (fun ag' y τ2 hJ => ?_) (by omega) ⟨rfl, Fr.refl, fun r hr' => absurd hr' (Nat.not_lt_zero _), fun r _ hr' => ld.1 r hr'⟩
    · obtain ⟨rfl, f2, g1, g2⟩ := hJ
      replace x := x0.fr (F1.then f2 rfl) rfl
      have h2 := g2 j (Nat.le_refl _) hj
      have fin : ∀ v, v = nI (mayS P (sd i a.ill) j) → wp (ag' (nI (j + 1)) (wI τ2 54 j v)) (fun _ τ => Fr [47, 54, 55, 58, 59, 62] [] HG σ τ ∧ CanM τ P a (2 ^ P.n)) := fun v hv =>
        hag' _ _ ⟨rfl, f2.putI rfl, fun r hr' => by
          by_cases e : r = j
          · rw [e, hi_eq, hv]
          · rw [hi_ni e]; exact g1 r (by omega), fun r hr1 hr2 => by rw [hi_ni (by omega)]; exact g2 r (by omega) hr2⟩
      unfold f_X3_layCanBe_b19
      simp (disch := first | omega | exact x.s | exact hi_eq | ((repeat (first | exact x.s | apply sw_I | apply sw_L | apply sw_cp | apply sw_18 | apply sw_21 | apply sw_22 | apply sw_m12 | apply sw_m18)); done) | rfl) only [wp_ite, wp_some, w_jn, wp_r0, wp_r1, wp_b2, wp_nn, w_bc, w_nt, wo_37, wg_37, wi_37, wr_37_32, wl_54, ws_54, w_has3, w_isMan, w_areTwo, w_isHour3, w_in3, w_night, wtM_0, wtM_1, wtM_2, nI_add, nI_1, nI_mul, nI_and, nI_or, nI_sd, nI_sub, l_sub1, l_addm1, l_all, l_1shl, l_or0, l_add0, l_0add, l_m1, l_m1r, l_neg, l_nn, l_eq0, l_le0, l_0lt, l_eq1, l_m1lt, l_m1le, l_m1eq0, l_10, l_00, l_1le, nI_le_l, nI_lt_l, nI_eq_l, bc_nI, nt_nI, bit_nI, b2_ite, b2_ite1, nI_max, nI_min, isR_nI, n_100, n_2, n_3, n_32, hi_ne, hi_ni, hi_eq, hi_wL, hi_wR, hl_wI, hl_wR, hl_ne, hl_ni, hl_eq, hr_wI, hr_wL, if_true, if_false, if_pos, if_neg, true_and, and_true, not_true_eq_false, not_false_eq_true, x.n, x.h, x.b, x.mo, x.wi, x.ca, x.ro, x.ti, x.il, x.ni, x.ga, x.ri, h2]
      split
      · rename_i e
        exact fin _ (by rw [← ms, if_pos e])
      · rename_i e
        exact fin _ (by rw [← ms, if_neg e]; rfl)
    · obtain ⟨rfl, f2, g1, g2⟩ := hJ
      have F2 := F1.then f2 rfl
      replace x := x0.fr F2 rfl
      have ld2 : LdM τ2 P (mayS P (sd i a.ill)) (fun _ => 0) (hardN P a) 1000000000 := ⟨g1, ld.2.1.fr f2 rfl (by decide) (by decide), fun r k a1 a2 => (f2.i rfl).trans (ld.2.2.1 r k a1 a2), (f2.i rfl).trans ld.2.2.2⟩
      unfold f_X3_layCanBe_b19
      simp (disch := first | omega | exact x.s | exact hi_eq | ((repeat (first | exact x.s | apply sw_I | apply sw_L | apply sw_cp | apply sw_18 | apply sw_21 | apply sw_22 | apply sw_m12 | apply sw_m18)); done) | rfl) only [wp_ite, wp_some, w_jn, wp_r0, wp_r1, wp_b2, wp_nn, w_bc, w_nt, wo_37, wg_37, wi_37, wr_37_32, wr_37_41, wl_54, ws_54, wl_62, ws_62, w_has3, w_isMan, w_areTwo, w_isHour3, w_in3, w_night, wtM_0, wtM_1, wtM_2, nI_add, nI_1, nI_mul, nI_and, nI_or, nI_sd, nI_sub, l_sub1, l_addm1, l_all, l_1shl, l_or0, l_add0, l_0add, l_m1, l_m1r, l_neg, l_nn, l_eq0, l_le0, l_0lt, l_eq1, l_m1lt, l_m1le, l_m1eq0, l_10, l_00, l_1le, nI_le_l, nI_lt_l, nI_eq_l, bc_nI, nt_nI, bit_nI, b2_ite, b2_ite1, nI_max, nI_min, isR_nI, n_100, n_1000000000, n_2, n_3, n_32, hi_ne, hi_ni, hi_eq, hi_wL, hi_wR, hl_wI, hl_wR, hl_ne, hl_ni, hl_eq, hr_wI, hr_wL, if_true, if_false, if_pos, if_neg, true_and, and_true, not_true_eq_false, not_false_eq_true, x.n, x.h, x.b, x.mo, x.wi, x.ca, x.ro, x.ti, x.il, x.ni, x.ga, x.ri]
      rw [wp_bnd]
      refine wp_mono (m_least (pr := prZ) x ld2 mayS_ok MustI.zero (hardN_le P a) (fun _ _ => Nat.zero_le _) (Nat.le_refl _) (bd_far (hardN_le P a) (fun _ _ => Nat.zero_le _)) (m_cost2 (P := P))) (fun v τ3 h => ?_)
      obtain ⟨rfl, f3⟩ := h
      have F3 := F2.then f3 rfl
      replace x := x0.fr F3 rfl
      have fin : ∀ v, v = (if lackO P (sd i a.ill) = none then (1 : Int32) else 0) → wp (ag (nI (i + 1)) (wI τ3 62 i v)) (fun _ τ => Fr [47, 54, 55, 58, 59, 62] [] HG σ τ ∧ CanM τ P a (2 ^ P.n)) := fun v hv =>
        hag _ _ ⟨rfl, F3.putI rfl, fun s hs => by
          by_cases e : s = i
          · rw [e, hi_eq, hv]
          · rw [hi_ni e, f3.i rfl, f2.i rfl]; exact c1 s (by omega)⟩
      have hk := lst_lack (P := P) (s := sd i a.ill) h8
      cases hl2 : lstO P (mayS P (sd i a.ill)) 1000000 prZ with
      | none =>
        have hno : ¬ lackO P (sd i a.ill) = none := fun z => hk.mpr z hl2
        simp (disch := first | omega | exact x.s | exact hi_eq | ((repeat (first | exact x.s | apply sw_I | apply sw_L | apply sw_cp | apply sw_18 | apply sw_21 | apply sw_22 | apply sw_m12 | apply sw_m18)); done) | rfl) only [wp_ite, wp_some, w_jn, wp_r0, wp_r1, wp_b2, wp_nn, w_bc, w_nt, wo_37, wg_37, wi_37, wr_37_32, wr_37_41, wl_54, ws_54, wl_62, ws_62, w_has3, w_isMan, w_areTwo, w_isHour3, w_in3, w_night, wtM_0, wtM_1, wtM_2, nI_add, nI_1, nI_mul, nI_and, nI_or, nI_sd, nI_sub, l_sub1, l_addm1, l_all, l_1shl, l_or0, l_add0, l_0add, l_m1, l_m1r, l_neg, l_nn, l_eq0, l_le0, l_0lt, l_eq1, l_m1lt, l_m1le, l_m1eq0, l_10, l_00, l_1le, nI_le_l, nI_lt_l, nI_eq_l, bc_nI, nt_nI, bit_nI, b2_ite, b2_ite1, nI_max, nI_min, isR_nI, n_100, n_1000000000, n_2, n_3, n_32, hi_ne, hi_ni, hi_eq, hi_wL, hi_wR, hl_wI, hl_wR, hl_ne, hl_ni, hl_eq, hr_wI, hr_wL, if_true, if_false, if_pos, if_neg, true_and, and_true, not_true_eq_false, not_false_eq_true, x.n, x.h, x.b, x.mo, x.wi, x.ca, x.ro, x.ti, x.il, x.ni, x.ga, x.ri, Option.getD_none, bool0]
        exact fin 0 (by rw [if_neg hno])
      | some v =>
        have v8 := lst_le (fun _ _ => Nat.zero_le _) hl2
        have hy := hk.mp (by rw [hl2]; exact fun e => by cases e)
        simp (disch := first | omega | exact x.s | exact hi_eq | ((repeat (first | exact x.s | apply sw_I | apply sw_L | apply sw_cp | apply sw_18 | apply sw_21 | apply sw_22 | apply sw_m12 | apply sw_m18)); done) | rfl) only [wp_ite, wp_some, w_jn, wp_r0, wp_r1, wp_b2, wp_nn, w_bc, w_nt, wo_37, wg_37, wi_37, wr_37_32, wr_37_41, wl_54, ws_54, wl_62, ws_62, w_has3, w_isMan, w_areTwo, w_isHour3, w_in3, w_night, wtM_0, wtM_1, wtM_2, nI_add, nI_1, nI_mul, nI_and, nI_or, nI_sd, nI_sub, l_sub1, l_addm1, l_all, l_1shl, l_or0, l_add0, l_0add, l_m1, l_m1r, l_neg, l_nn, l_eq0, l_le0, l_0lt, l_eq1, l_m1lt, l_m1le, l_m1eq0, l_10, l_00, l_1le, nI_le_l, nI_lt_l, nI_eq_l, bc_nI, nt_nI, bit_nI, b2_ite, b2_ite1, nI_max, nI_min, isR_nI, n_100, n_1000000000, n_2, n_3, n_32, hi_ne, hi_ni, hi_eq, hi_wL, hi_wR, hl_wI, hl_wR, hl_ne, hl_ni, hl_eq, hr_wI, hr_wL, if_true, if_false, if_pos, if_neg, true_and, and_true, not_true_eq_false, not_false_eq_true, x.n, x.h, x.b, x.mo, x.wi, x.ca, x.ro, x.ti, x.il, x.ni, x.ga, x.ri, Option.getD_some, bool1]
        exact fin 1 (by rw [if_pos hy])
  · obtain ⟨rfl, f, h1⟩ := hJ
    replace x := x0.fr f rfl
    unfold f_X3_layCanBe_b2
    simp (disch := first | omega | exact x.s | exact hi_eq | ((repeat (first | exact x.s | apply sw_I | apply sw_L | apply sw_cp | apply sw_18 | apply sw_21 | apply sw_22 | apply sw_m12 | apply sw_m18)); done) | rfl) only [wp_ite, wp_some, w_jn, wp_r0, wp_r1, wp_b2, wp_nn, w_bc, w_nt, wo_37, wg_37, wi_37, wr_37_41, wl_62, ws_62, w_has3, w_isMan, w_areTwo, w_isHour3, w_in3, w_night, wtM_0, wtM_1, wtM_2, nI_add, nI_1, nI_mul, nI_and, nI_or, nI_sd, nI_sub, l_sub1, l_addm1, l_all, l_1shl, l_or0, l_add0, l_0add, l_m1, l_m1r, l_neg, l_nn, l_eq0, l_le0, l_0lt, l_eq1, l_m1lt, l_m1le, l_m1eq0, l_10, l_00, l_1le, nI_le_l, nI_lt_l, nI_eq_l, bc_nI, nt_nI, bit_nI, b2_ite, b2_ite1, nI_max, nI_min, isR_nI, n_1000000000, n_2, n_3, hi_ne, hi_ni, hi_eq, hi_wL, hi_wR, hl_wI, hl_wR, hl_ne, hl_ni, hl_eq, hr_wI, hr_wL, if_true, if_false, if_pos, if_neg, true_and, and_true, not_true_eq_false, not_false_eq_true, x.n, x.h, x.b, x.mo, x.wi, x.ca, x.ro, x.ti, x.il, x.ni, x.ga, x.ri]
    exact ⟨f, h1⟩
end mcan
