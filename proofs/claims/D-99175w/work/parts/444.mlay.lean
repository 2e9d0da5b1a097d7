/-! PURE 41: the reference: who may, what it costs -/
/-- the set of those that are marked -/
def setN (p : Nat → Bool) : Nat → Nat
  | 0 => 0
  | n + 1 => setN p n ||| (if p n then 2 ^ n else 0)
theorem setN_bit (p : Nat → Bool) : ∀ n i, (setN p n).testBit i = (decide (i < n) && p i) := by
  intro n
  induction n with
  | zero => intro i; show Nat.testBit 0 i = _; rw [Nat.zero_testBit]; simp
  | succ n ih =>
    intro i
    show (setN p n ||| (if p n then 2 ^ n else 0)).testBit i = _
    rw [Nat.testBit_or, ih]
    by_cases e : i = n
    · subst e
      cases hp : p i
      · simp
      · simp [bit_pow]
    · have e1 : decide (i < n + 1) = decide (i < n) := decide_eq_decide.mpr (by omega)
      rw [e1]
      cases hp : p n
      · simp
      · rw [if_pos rfl, bit_pow, decide_eq_false (show ¬ n = i from fun z => e z.symm), Bool.or_false]
theorem setN_lt (p : Nat → Bool) : ∀ n, setN p n < 2 ^ n := by
  intro n
  induction n with
  | zero => exact Nat.zero_lt_one
  | succ n ih =>
    refine Nat.or_lt_two_pow (Nat.lt_of_lt_of_le ih (Nat.pow_le_pow_right (by decide) (Nat.le_succ _))) ?_
    split
    · exact Nat.pow_lt_pow_right (by decide) (Nat.lt_succ_self _)
    · exact Nat.two_pow_pos _
theorem orI_set {f : Nat → Int32} {p : Nat → Bool} : ∀ n, (∀ i, i < n → f i = if p i then nI (2 ^ i) else 0) → orI f n = nI (setN p n) := by
  intro n
  induction n with
  | zero => intro _; rfl
  | succ n ih =>
    intro h
    show orI f n ||| f n = nI (setN p n ||| _)
    rw [ih (fun i hi' => h i (by omega)), h n (by omega), ← nI_or]
    congr 1
    split <;> rfl
/-- the hours that are one's -/
def hrsN (a : HS) (r : Nat) : Nat := setN (fun h => decide (a.rota h = nI r)) 8
theorem hrsN_lt (a : HS) (r : Nat) : hrsN a r < 256 := setN_lt _ 8
theorem hrs_nI {a : HS} {f : Nat → Int32} {r : Nat} (h : ∀ i, i < 8 → f i = a.rota i) : hoursI f (nI r) = nI (hrsN a r) := by
  unfold hoursI hrsN
  refine orI_set 8 (fun i hi' => ?_)
  rw [h i hi', shl_1 (by omega)]
  by_cases e : a.rota i = nI r
  · rw [if_pos e, decide_eq_true e]; rfl
  · rw [if_neg e, decide_eq_false e]; rfl
theorem prO_pop {P : Pk} {a : HS} {r b : Nat} (hr' : r < P.n) (hb : sbs b (2 ^ P.hrs - 1)) : pop (sd b (hrsN a r)) = prS (prO P a r) b := by
  unfold pop prS
  have : ∀ n, n ≤ 8 → cnt (sd b (hrsN a r)).testBit n = sumN (fun h => if b.testBit h then prO P a r h else 0) n := by
    intro n
    induction n with
    | zero => intro _; rfl
    | succ n ih =>
      intro hn'
      unfold cnt sumN
      rw [ih (by omega)]
      congr 1
      rw [sd_bit]
      unfold hrsN
      rw [setN_bit, decide_eq_true (show n < 8 by omega), Bool.true_and]
      cases hbn : b.testBit n
      · rfl
      · have hlt : n < P.hrs := by
          have := sbs_iff.mp hb n hbn
          rw [all_bit] at this
          exact of_decide_eq_true this
        unfold prO
        by_cases e : a.rota n = nI r
        · rw [decide_eq_true e, if_pos rfl, if_neg (fun z => z.2.2 e)]; rfl
        · rw [decide_eq_false e, if_pos rfl, if_pos ⟨hr', hlt, e⟩]; rfl
  exact this 8 (Nat.le_refl _)
section mlay
variable {σ τ : Hp} {P : Pk} {a : HS} {may must : Nat → Nat} {pr hd : Nat → Nat → Nat} {lim : Nat} {what : Int32}
theorem m_hard (x : MX σ P a) {r h : Nat} (hr' : r < P.n) (hh : h < 8) : wp (f_X3_hardOf (some 37) (some 38) (nI r) (nI h) σ) (fun y τ => y = hardI P a r h ∧ Fr [47] [] [12, 13, 14, 15, 16, 21] σ τ) :=
  m_hardOf x.s x.2.1 x.pk (so_38 x.s) (sl_38 x.s) ⟨by decide, by decide, by decide⟩ x.2.2.2.1 hr' hh
theorem m_layMay (x : MX σ P a) {but : Int32} {w : Nat} (hb : ∀ r, r < P.n → (nI r = but ↔ w.testBit r = true)) : wp (f_X3_layMay (some 37) but σ) (fun _ τ => Fr [47, 54, 55, 58] [] [12, 13, 14, 15, 16, 21] σ τ ∧ AI τ 54 P.n (mayOf P a w) ∧ AI τ 55 P.n (fun _ => 0) ∧ PrM τ P.n (hardN P a)) := by
  have n8 := x.n8
  have h8 := x.h8
  have x0 := x
  unfold f_X3_layMay
  refine wp_up P.n (fun i y τ => y = nI i ∧ Fr [47, 54, 55, 58] [] [12, 13, 14, 15, 16, 21] σ τ ∧ AI τ 54 i (mayOf P a w) ∧ AI τ 55 i (fun _ => 0) ∧ PrM τ i (hardN P a)) (fun ag i y τ hi' hJ hag => ?_) (fun ag y τ hJ => ?_) (by omega) ⟨rfl, Fr.refl, AI.nil, AI.nil, fun r h hr' => absurd hr' (Nat.not_lt_zero _)⟩
  · obtain ⟨rfl, f, h1, h2, h3⟩ := hJ
    replace x := x0.fr f rfl
    have fin : ∀ v, v = nI (mayOf P a w i) → wp (lp 2000 (f_X3_layMay_b58 (some 37) (nI i) (fun _ σ => ag (nI (i + 1)) σ)) 0 (wI (wI τ 54 i v) 55 i 0)) (fun _ τ => Fr [47, 54, 55, 58] [] [12, 13, 14, 15, 16, 21] σ τ ∧ AI τ 54 P.n (mayOf P a w) ∧ AI τ 55 P.n (fun _ => 0) ∧ PrM τ P.n (hardN P a)) := fun v hv => by
      refine wp_up 8 (fun j y τ => y = nI j ∧ Fr [47, 54, 55, 58] [] [12, 13, 14, 15, 16, 21] σ τ ∧ AI τ 54 (i + 1) (mayOf P a w) ∧ AI τ 55 (i + 1) (fun _ => 0) ∧ PrM τ i (hardN P a) ∧ ∀ h, h < j → hi τ 58 (8 * i + h) = nI (hardN P a i h)) (fun ag' j y τ hj hJ hag' => ?_) (fun ag' y τ hJ => ?_) (by decide) ⟨rfl, (f.putI rfl).putI rfl, (h1.snoc hv).ne (by decide), (h2.ne (by decide)).snoc rfl, fun q h a1 a2 => by rw [hi_ne (by decide), hi_ne (by decide)]; exact h3 q h a1 a2, fun h hh => absurd hh (Nat.not_lt_zero _)⟩
      · obtain ⟨rfl, f, h1, h2, h3, h4⟩ := hJ
        have x := x0.fr f rfl
        unfold f_X3_layMay_b58
        simp (disch := first | omega | exact x.s | exact hi_eq | ((repeat (first | exact x.s | apply sw_I | apply sw_L | apply sw_cp | apply sw_18 | apply sw_21 | apply sw_22 | apply sw_m12 | apply sw_m18)); done) | rfl) only [wp_ite, wp_some, w_jn, wp_r0, wp_r1, wp_b2, wp_nn, w_bc, w_nt, wo_37, wg_37, wi_37, wr_37_0, wr_37_36, wl_38, ws_38, wl_58, ws_58, w_has3, w_isMan, w_areTwo, w_isHour3, w_in3, w_night, wtM_0, wtM_1, wtM_2, nI_add, nI_1, nI_mul, nI_and, nI_or, nI_sd, nI_sub, l_sub1, l_addm1, l_all, l_1shl, l_or0, l_add0, l_0add, l_m1, l_m1r, l_neg, l_nn, l_eq0, l_le0, l_0lt, l_eq1, l_m1lt, l_m1le, l_m1eq0, l_10, l_00, l_1le, nI_le_l, nI_lt_l, nI_eq_l, bc_nI, nt_nI, bit_nI, b2_ite, b2_ite1, nI_max, nI_min, isR_nI, n_2, n_8, hi_ne, hi_ni, hi_eq, hi_wL, hi_wR, hl_wI, hl_wR, hl_ne, hl_ni, hl_eq, hr_wI, hr_wL, if_true, if_false, if_pos, if_neg, true_and, and_true, not_true_eq_false, not_false_eq_true, x.n, x.h, x.b, x.mo, x.wi, x.ca, x.ro, x.ti, x.il, x.ni, x.ga, x.ri]
        rw [wp_bnd]
        refine wp_mono (m_hard x hi' hj) (fun y τ' h => ?_)
        obtain ⟨rfl, f'⟩ := h
        have ff := f.then f' rfl
        have x := x0.fr ff rfl
        simp (disch := first | omega | exact x.s | exact hi_eq | ((repeat (first | exact x.s | apply sw_I | apply sw_L | apply sw_cp | apply sw_18 | apply sw_21 | apply sw_22 | apply sw_m12 | apply sw_m18)); done) | rfl) only [wp_ite, wp_some, w_jn, wp_r0, wp_r1, wp_b2, wp_nn, w_bc, w_nt, wo_37, wg_37, wi_37, wr_37_0, wr_37_36, wl_38, ws_38, wl_58, ws_58, w_has3, w_isMan, w_areTwo, w_isHour3, w_in3, w_night, wtM_0, wtM_1, wtM_2, nI_add, nI_1, nI_mul, nI_and, nI_or, nI_sd, nI_sub, l_sub1, l_addm1, l_all, l_1shl, l_or0, l_add0, l_0add, l_m1, l_m1r, l_neg, l_nn, l_eq0, l_le0, l_0lt, l_eq1, l_m1lt, l_m1le, l_m1eq0, l_10, l_00, l_1le, nI_le_l, nI_lt_l, nI_eq_l, bc_nI, nt_nI, bit_nI, b2_ite, b2_ite1, nI_max, nI_min, isR_nI, n_2, n_8, hi_ne, hi_ni, hi_eq, hi_wL, hi_wR, hl_wI, hl_wR, hl_ne, hl_ni, hl_eq, hr_wI, hr_wL, if_true, if_false, if_pos, if_neg, true_and, and_true, not_true_eq_false, not_false_eq_true, x.n, x.h, x.b, x.mo, x.wi, x.ca, x.ro, x.ti, x.il, x.ni, x.ga, x.ri, hardN_eq]
        exact hag' _ _ ⟨rfl, ff.putI rfl, (h1.fr f' rfl (by decide) (by decide)).ne (by decide), (h2.fr f' rfl (by decide) (by decide)).ne (by decide), fun q h a1 a2 => by rw [hi_ni (by omega), f'.i rfl]; exact h3 q h a1 a2, fun h hh => by
          by_cases e : h = j
          · rw [e, hi_eq]
          · rw [hi_ni (by omega), f'.i rfl]; exact h4 h (by omega)⟩
      · obtain ⟨rfl, f, h1, h2, h3, h4⟩ := hJ
        unfold f_X3_layMay_b58
        simp (disch := first | omega | exact x0.s | exact hi_eq | ((repeat (first | exact x0.s | apply sw_I | apply sw_L | apply sw_cp | apply sw_18 | apply sw_21 | apply sw_22 | apply sw_m12 | apply sw_m18)); done) | rfl) only [wp_ite, wp_some, w_jn, wp_r0, wp_r1, wp_b2, wp_nn, w_bc, w_nt, wo_37, wg_37, wi_37, wr_37_0, wr_37_36, wl_38, ws_38, wl_58, ws_58, w_has3, w_isMan, w_areTwo, w_isHour3, w_in3, w_night, wtM_0, wtM_1, wtM_2, nI_add, nI_1, nI_mul, nI_and, nI_or, nI_sd, nI_sub, l_sub1, l_addm1, l_all, l_1shl, l_or0, l_add0, l_0add, l_m1, l_m1r, l_neg, l_nn, l_eq0, l_le0, l_0lt, l_eq1, l_m1lt, l_m1le, l_m1eq0, l_10, l_00, l_1le, nI_le_l, nI_lt_l, nI_eq_l, bc_nI, nt_nI, bit_nI, b2_ite, b2_ite1, nI_max, nI_min, isR_nI, n_2, n_8, hi_ne, hi_ni, hi_eq, hi_wL, hi_wR, hl_wI, hl_wR, hl_ne, hl_ni, hl_eq, hr_wI, hr_wL, if_true, if_false, if_pos, if_neg, true_and, and_true, not_true_eq_false, not_false_eq_true, x0.n, x0.h, x0.b, x0.mo, x0.wi, x0.ca, x0.ro, x0.ti, x0.il, x0.ni, x0.ga, x0.ri]
        refine hag _ _ ⟨rfl, f, h1, h2, fun q h a1 a2 => ?_⟩
        by_cases e : q = i
        · rw [e]; exact h4 h a2
        · exact h3 q h (by omega) a2
    have hbi := hb i hi'
    unfold f_X3_layMay_b2
    simp (disch := first | omega | exact x.s | exact hi_eq | ((repeat (first | exact x.s | apply sw_I | apply sw_L | apply sw_cp | apply sw_18 | apply sw_21 | apply sw_22 | apply sw_m12 | apply sw_m18)); done) | rfl) only [wp_ite, wp_some, w_jn, wp_r0, wp_r1, wp_b2, wp_nn, w_bc, w_nt, wo_37, wg_37, wi_37, wr_37_32, wr_37_0, wr_37_6, wr_37_33, wl_38, ws_38, wl_41, ws_41, wl_54, ws_54, wl_55, ws_55, w_has3, w_isMan, w_areTwo, w_isHour3, w_in3, w_night, wtM_0, wtM_1, wtM_2, nI_add, nI_1, nI_mul, nI_and, nI_or, nI_sd, nI_sub, l_sub1, l_addm1, l_all, l_1shl, l_or0, l_add0, l_0add, l_m1, l_m1r, l_neg, l_nn, l_eq0, l_le0, l_0lt, l_eq1, l_m1lt, l_m1le, l_m1eq0, l_10, l_00, l_1le, nI_le_l, nI_lt_l, nI_eq_l, bc_nI, nt_nI, bit_nI, b2_ite, b2_ite1, nI_max, nI_min, isR_nI, n_100, n_16, n_2, n_3, n_32, n_6, hi_ne, hi_ni, hi_eq, hi_wL, hi_wR, hl_wI, hl_wR, hl_ne, hl_ni, hl_eq, hr_wI, hr_wL, if_true, if_false, if_pos, if_neg, true_and, and_true, not_true_eq_false, not_false_eq_true, x.n, x.h, x.b, x.mo, x.wi, x.ca, x.ro, x.ti, x.il, x.ni, x.ga, x.ri]
    by_cases e1 : a.ill.testBit i = true
    · simp only [e1, if_true]
      exact fin 0 (by unfold mayOf; rw [if_neg (fun z => by rw [Nat.testBit_or, e1] at z; cases z.2)]; rfl)
    · have e1' := Bool.eq_false_iff.mpr e1
      simp only [e1', Bool.false_eq_true, if_false, show ¬ (0 : Int32) = 1 by decide]
      by_cases e2 : nI i = but
      · rw [if_pos e2]
        exact fin 0 (by unfold mayOf; rw [if_neg (fun z => by rw [Nat.testBit_or, hbi.mp e2, Bool.or_true] at z; cases z.2)]; rfl)
      · rw [if_neg e2]
        refine fin _ ?_
        unfold mayOf
        rw [if_pos ⟨hi', by rw [Nat.testBit_or, e1', Bool.eq_false_iff.mpr (fun z => e2 (hbi.mpr z))]; rfl⟩]
  · obtain ⟨rfl, f, h1⟩ := hJ
    replace x := x0.fr f rfl
    unfold f_X3_layMay_b2
    simp (disch := first | omega | exact x.s | exact hi_eq | ((repeat (first | exact x.s | apply sw_I | apply sw_L | apply sw_cp | apply sw_18 | apply sw_21 | apply sw_22 | apply sw_m12 | apply sw_m18)); done) | rfl) only [wp_ite, wp_some, w_jn, wp_r0, wp_r1, wp_b2, wp_nn, w_bc, w_nt, wo_37, wg_37, wi_37, wr_37_32, wr_37_0, wr_37_6, wr_37_33, wl_38, ws_38, wl_41, ws_41, wl_54, ws_54, wl_55, ws_55, w_has3, w_isMan, w_areTwo, w_isHour3, w_in3, w_night, wtM_0, wtM_1, wtM_2, nI_add, nI_1, nI_mul, nI_and, nI_or, nI_sd, nI_sub, l_sub1, l_addm1, l_all, l_1shl, l_or0, l_add0, l_0add, l_m1, l_m1r, l_neg, l_nn, l_eq0, l_le0, l_0lt, l_eq1, l_m1lt, l_m1le, l_m1eq0, l_10, l_00, l_1le, nI_le_l, nI_lt_l, nI_eq_l, bc_nI, nt_nI, bit_nI, b2_ite, b2_ite1, nI_max, nI_min, isR_nI, n_100, n_16, n_2, n_3, n_32, n_6, hi_ne, hi_ni, hi_eq, hi_wL, hi_wR, hl_wI, hl_wR, hl_ne, hl_ni, hl_eq, hr_wI, hr_wL, if_true, if_false, if_pos, if_neg, true_and, and_true, not_true_eq_false, not_false_eq_true, x.n, x.h, x.b, x.mo, x.wi, x.ca, x.ro, x.ti, x.il, x.ni, x.ga, x.ri]
    exact ⟨f, h1⟩
theorem prH_eq {r b : Nat} (hr' : r < P.n) (hb : sbs b (2 ^ P.hrs - 1)) : prS (hardN P a r) b = prS (prH P a r) b := by
  refine prS_congr fun i _ hi' => ?_
  have : i < P.hrs := by
    have := sbs_iff.mp hb i hi'
    rw [all_bit] at this
    exact of_decide_eq_true this
  unfold prH
  rw [if_pos ⟨hr', this⟩]
theorem m_cost0 (x : MX σ P a) (hp : PrM σ P.n (hardN P a)) : CostM σ P 0 (prH P a) := by
  intro τ f r b hr' hb
  have x' := x.fr f rfl
  have b8 : b < 256 := sbs_lt hb (all_lt x.h8)
  unfold f_X3_costOf
  rw [if_pos rfl, e_ob (so_37 x'.s), m_hardBy x'.y (fun q h a1 a2 => (f.i rfl).trans (hp q h a1 a2)) (hardN_le P a) hr' b8, e_bnd, prH_eq hr' hb]
theorem m_cost1 (x : MX σ P a) : CostM σ P 1 (prO P a) := by
  intro τ f r b hr' hb
  have x' := x.fr f rfl
  have b8 : b < 256 := sbs_lt hb (all_lt x.h8)
  unfold f_X3_costOf
  rw [if_neg (by decide), if_pos rfl, e_gR (so_37 x'.s), sp_37_0 x'.s, e_ob (so_37 x'.s), m_hoursOf (so_38 x'.s) (by rw [sl_38 x'.s]; decide), e_bnd, hrs_nI (a := a) x'.ro, nI_sd, e_bc, e_bnd, bc_nI (sd_lt _ b8), prO_pop hr' hb]
theorem m_cost2 : CostM σ P 2 prZ := by
  intro τ f r b hr' hb
  unfold f_X3_costOf
  rw [if_neg (by decide), if_neg (by decide), show prS (prZ r) b = 0 from prS_zero]
  rfl
end mlay
