/-! PURE 40: the reference's least rota -/
theorem n_1000000000 : (1000000000 : Int32) = nI 1000000000 := rfl
theorem wp_eq {β : Type} {o : Option (β × Hp)} {v0 : β} {σ : Hp} (h : wp o (fun v τ => v = v0 ∧ τ = σ)) : o = some (v0, σ) := by
  obtain ⟨r, τ, e, rfl, rfl⟩ := h
  exact e
theorem l_shl8 {r : Nat} (h : r ≤ 8) : shl (nI r) (nI 8) = nI (256 * r) := by
  have : ∀ r, r < 9 → shl (nI r) (nI 8) = nI (256 * r) := by decide +kernel
  exact this r (by omega)
theorem l_or256 {r s : Nat} (h : s < 256) : 256 * r ||| s = 256 * r + s := (Nat.two_pow_add_eq_or_of_lt (i := 8) h r).symm
theorem l_or256' {r s o : Nat} (h : s < 256) (h' : o < 256) : (256 * r + s) ||| o = 256 * r + (s ||| o) := by
  rw [← l_or256 h, Nat.or_assoc, l_or256 (or_lt h h')]
theorem sd_eq0 {a b : Nat} : sd a b = 0 ↔ sbs a b := by
  constructor
  · intro h
    refine sbs_iff.mpr fun i hi' => ?_
    have : (sd a b).testBit i = false := by rw [h]; exact Nat.zero_testBit i
    rw [sd_bit, hi', Bool.true_and] at this
    cases hb : b.testBit i
    · rw [hb] at this; cases this
    · rfl
  · intro h
    apply Nat.eq_of_testBit_eq
    intro i
    rw [sd_bit, Nat.zero_testBit]
    cases ha : a.testBit i
    · rfl
    · rw [sbs_iff.mp h i ha]; rfl
theorem sbs_all {S h : Nat} (hS : S < 2 ^ h) : sbs S (2 ^ h - 1) := sbs_iff.mpr fun i hi' => by
  rw [all_bit]
  refine decide_eq_true ?_
  apply Nat.lt_of_not_le
  intro hle
  rw [bit_lt hS hle] at hi'
  cases hi'
/-- a loop over all sets below, the empty one too -/
theorem wp_subs {β : Type} {P : β → Hp → Prop} {B : (Int32 → Hp → Option (β × Hp)) → Int32 → Hp → Option (β × Hp)} {m : Nat} (hm : m < 256) (J : Nat → Hp → Prop)
    (step : ∀ ag o σ, sbs o m → o < 256 → J (o + 1) σ → (o = 0 → ∀ σ', J 0 σ' → wp (ag (-1) σ') P) → (o ≠ 0 → ∀ σ', J (((o - 1) &&& m) + 1) σ' → wp (ag (nI ((o - 1) &&& m)) σ') P) → wp (B ag (nI o) σ) P)
    (done : ∀ ag σ, J 0 σ → wp (B ag (-1) σ) P) {σ : Hp} (h : J (m + 1) σ) : wp (lp 2000 B (nI m) σ) P := by
  refine wp_lp (fun y τ => (y = -1 ∧ J 0 τ) ∨ ∃ o, y = nI o ∧ sbs o m ∧ J (o + 1) τ) (fun y _ => if y = -1 then 0 else ix y + 1) (fun ag y τ hI hag => ?_) 2000 _ _ (Or.inr ⟨m, rfl, sbs_refl m, h⟩) ?_
  · rcases hI with ⟨rfl, hJ⟩ | ⟨o, rfl, ho, hJ⟩
    · exact done ag τ hJ
    · have o8 : o < 256 := sbs_lt ho hm
      rw [if_neg (m1_ne (by omega)), ix_nI (by omega)] at hag
      refine step ag o τ ho o8 hJ (fun h0 σ' hJ' => ?_) (fun h0 σ' hJ' => ?_)
      · exact hag _ _ (Or.inl ⟨rfl, hJ'⟩) (by rw [if_pos rfl]; omega)
      · have := sub_next_lt (some := m) (show 0 < o by omega)
        exact hag _ _ (Or.inr ⟨_, rfl, sbs_and_r _ _, hJ'⟩) (by rw [if_neg (m1_ne (by omega)), ix_nI (by omega)]; omega)
  · rw [if_neg (m1_ne (by omega)), ix_nI (by omega)]; omega
/-- which are done, behind a step -/
theorem thr {o m b : Nat} (h1 : sbs o m) (h2 : sbs b m) (h0 : o ≠ 0) : ((o - 1) &&& m) + 1 ≤ b ↔ o + 1 ≤ b ∨ b = o := by
  have := sub_cut h1 h2 (show 0 < o by omega)
  constructor
  · intro h
    rcases this.mp h with g | g
    · exact Or.inl g
    · exact Or.inr g
  · intro h
    exact this.mpr (by rcases h with g | g; exact Or.inl g; exact Or.inr g)
/-- hardness by rider and hour -/
def PrM (σ : Hp) (n : Nat) (pr : Nat → Nat → Nat) : Prop := ∀ r h, r < n → h < 8 → hi σ 58 (8 * r + h) = nI (pr r h)
def okM (most may must : Nat → Nat) (lim : Nat) (hd : Nat → Nat → Nat) (r b : Nat) : Prop := sbs b (may r) ∧ pop b ≤ most r ∧ sbs (must r) b ∧ prS (hd r) b ≤ lim
section msolve
variable {σ τ : Hp} {P : Pk} {a : HS} {may must : Nat → Nat} {pr hd : Nat → Nat → Nat} {lim : Nat} {what : Int32}
theorem prS_le8 {p : Nat → Nat} (h : ∀ i, p i ≤ 999) (b : Nat) : prS p b ≤ 7992 := by
  have := prS_le (b := b) h
  have := pop_le b
  omega
theorem m_hardBy (x : MY σ P) (hp : PrM σ P.n hd) (hdl : ∀ r h, hd r h ≤ 999) {r b : Nat} (hr' : r < P.n) (hb : b < 256) : f_X3_hardBy (some 37) (nI r) (nI b) σ = some (nI (prS (hd r) b), σ) := by
  have n8 := x.n8
  refine wp_eq ?_
  unfold f_X3_hardBy
  refine wp_up 8 (fun i y τ => y = (nI (sumN (fun h => if b.testBit h then hd r h else 0) i), nI i) ∧ τ = σ) (fun ag i y τ hi' hJ hag => ?_) (fun ag y τ hJ => ?_) (by decide) ⟨rfl, rfl⟩
  · obtain ⟨rfl, rfl⟩ := hJ
    have h1 := hp r i hr' hi'
    unfold f_X3_hardBy_b5
    simp (disch := first | omega | exact x.s | exact hi_eq | ((repeat (first | exact x.s | apply sw_I | apply sw_L | apply sw_cp | apply sw_18 | apply sw_21 | apply sw_22 | apply sw_m12 | apply sw_m18)); done) | rfl) only [wp_ite, wp_some, w_jn, wp_r0, wp_r1, wp_b2, wp_nn, w_bc, w_nt, wo_37, wg_37, wi_37, wr_37_36, wl_58, ws_58, w_has3, w_isMan, w_areTwo, w_isHour3, w_in3, w_night, wtM_0, wtM_1, wtM_2, nI_add, nI_1, nI_mul, nI_and, nI_or, nI_sd, nI_sub, l_sub1, l_addm1, l_all, l_1shl, l_or0, l_add0, l_0add, l_m1, l_m1r, l_neg, l_nn, l_eq0, l_le0, l_0lt, l_eq1, l_m1lt, l_m1le, l_m1eq0, l_10, l_00, l_1le, nI_le_l, nI_lt_l, nI_eq_l, bc_nI, nt_nI, bit_nI, b2_ite, b2_ite1, nI_max, nI_min, isR_nI, n_100, n_2, n_8, hi_ne, hi_ni, hi_eq, hi_wL, hi_wR, hl_wI, hl_wR, hl_ne, hl_ni, hl_eq, hr_wI, hr_wL, if_true, if_false, if_pos, if_neg, true_and, and_true, not_true_eq_false, not_false_eq_true, x.n, x.h, x.b, x.mo, x.wi, x.ca, h1]
    split
    · rename_i e
      exact hag _ _ ⟨by show _ = (nI (_ + (if b.testBit i then hd r i else 0)), _); rw [if_pos e], rfl⟩
    · rename_i e
      exact hag _ _ ⟨by show _ = (nI (_ + (if b.testBit i then hd r i else 0)), _); rw [if_neg e]; rfl, rfl⟩
  · obtain ⟨rfl, rfl⟩ := hJ
    unfold f_X3_hardBy_b5
    simp (disch := first | omega | exact x.s | exact hi_eq | ((repeat (first | exact x.s | apply sw_I | apply sw_L | apply sw_cp | apply sw_18 | apply sw_21 | apply sw_22 | apply sw_m12 | apply sw_m18)); done) | rfl) only [wp_ite, wp_some, w_jn, wp_r0, wp_r1, wp_b2, wp_nn, w_bc, w_nt, wo_37, wg_37, wi_37, wr_37_36, wl_58, ws_58, w_has3, w_isMan, w_areTwo, w_isHour3, w_in3, w_night, wtM_0, wtM_1, wtM_2, nI_add, nI_1, nI_mul, nI_and, nI_or, nI_sd, nI_sub, l_sub1, l_addm1, l_all, l_1shl, l_or0, l_add0, l_0add, l_m1, l_m1r, l_neg, l_nn, l_eq0, l_le0, l_0lt, l_eq1, l_m1lt, l_m1le, l_m1eq0, l_10, l_00, l_1le, nI_le_l, nI_lt_l, nI_eq_l, bc_nI, nt_nI, bit_nI, b2_ite, b2_ite1, nI_max, nI_min, isR_nI, n_100, n_2, n_8, hi_ne, hi_ni, hi_eq, hi_wL, hi_wR, hl_wI, hl_wR, hl_ne, hl_ni, hl_eq, hr_wI, hr_wL, if_true, if_false, if_pos, if_neg, true_and, and_true, not_true_eq_false, not_false_eq_true, x.n, x.h, x.b, x.mo, x.wi, x.ca]
    rfl
theorem m_canTake (x : MY σ P) (hu : AI σ 55 P.n must) (hul : ∀ r, must r < 256) (hp : PrM σ P.n hd) (hdl : ∀ r h, hd r h ≤ 999) (hl' : hi σ 37 39 = nI lim) (hlim : lim ≤ 1000000000) {r b : Nat} (hr' : r < P.n) (hb : b < 256) : f_X3_canTake (some 37) (nI r) (nI b) σ = some (b2 (pop b ≤ P.most r ∧ sbs (must r) b ∧ prS (hd r) b ≤ lim), σ) := by
  have n8 := x.n8
  have p8 := pop_le b
  have m4 := x.m4 r
  have q8 := prS_le8 (hdl r) b
  have sl := sd_lt b (hul r)
  have h1 := hu r hr'
  refine wp_eq ?_
  unfold f_X3_canTake
  simp (disch := first | omega | exact x.s | exact hi_eq | ((repeat (first | exact x.s | apply sw_I | apply sw_L | apply sw_cp | apply sw_18 | apply sw_21 | apply sw_22 | apply sw_m12 | apply sw_m18)); done) | rfl) only [wp_ite, wp_some, w_jn, wp_r0, wp_r1, wp_b2, wp_nn, w_bc, w_nt, wo_37, wg_37, wi_37, wr_37_33, wr_37_4, wl_39, ws_39, wl_55, ws_55, w_has3, w_isMan, w_areTwo, w_isHour3, w_in3, w_night, wtM_0, wtM_1, wtM_2, nI_add, nI_1, nI_mul, nI_and, nI_or, nI_sd, nI_sub, l_sub1, l_addm1, l_all, l_1shl, l_or0, l_add0, l_0add, l_m1, l_m1r, l_neg, l_nn, l_eq0, l_le0, l_0lt, l_eq1, l_m1lt, l_m1le, l_m1eq0, l_10, l_00, l_1le, nI_le_l, nI_lt_l, nI_eq_l, bc_nI, nt_nI, bit_nI, b2_ite, b2_ite1, nI_max, nI_min, isR_nI, n_100, n_2, n_4, hi_ne, hi_ni, hi_eq, hi_wL, hi_wR, hl_wI, hl_wR, hl_ne, hl_ni, hl_eq, hr_wI, hr_wL, if_true, if_false, if_pos, if_neg, true_and, and_true, not_true_eq_false, not_false_eq_true, x.n, x.h, x.b, x.mo, x.wi, x.ca, h1]
  by_cases e1 : P.most r < pop b
  · rw [if_pos e1]
    unfold b2; rw [if_neg (by omega)]
  · rw [if_neg e1]
    by_cases e2 : sd (must r) b = 0
    · rw [if_pos e2, m_hardBy x hp hdl hr' hb, e_bnd]
      simp (disch := first | omega | exact x.s | exact hi_eq | ((repeat (first | exact x.s | apply sw_I | apply sw_L | apply sw_cp | apply sw_18 | apply sw_21 | apply sw_22 | apply sw_m12 | apply sw_m18)); done) | rfl) only [wp_ite, wp_some, w_jn, wp_r0, wp_r1, wp_b2, wp_nn, w_bc, w_nt, wo_37, wg_37, wi_37, wr_37_33, wr_37_4, wl_39, ws_39, wl_55, ws_55, w_has3, w_isMan, w_areTwo, w_isHour3, w_in3, w_night, wtM_0, wtM_1, wtM_2, nI_add, nI_1, nI_mul, nI_and, nI_or, nI_sd, nI_sub, l_sub1, l_addm1, l_all, l_1shl, l_or0, l_add0, l_0add, l_m1, l_m1r, l_neg, l_nn, l_eq0, l_le0, l_0lt, l_eq1, l_m1lt, l_m1le, l_m1eq0, l_10, l_00, l_1le, nI_le_l, nI_lt_l, nI_eq_l, bc_nI, nt_nI, bit_nI, b2_ite, b2_ite1, nI_max, nI_min, isR_nI, n_100, n_2, n_4, hi_ne, hi_ni, hi_eq, hi_wL, hi_wR, hl_wI, hl_wR, hl_ne, hl_ni, hl_eq, hr_wI, hr_wL, if_true, if_false, if_pos, if_neg, true_and, and_true, not_true_eq_false, not_false_eq_true, x.n, x.h, x.b, x.mo, x.wi, x.ca, hl']
      by_cases e3 : lim < prS (hd r) b
      · rw [if_pos e3]
        unfold b2; rw [if_neg (by omega)]
      · rw [if_neg e3]
        unfold b2; rw [if_pos ⟨by omega, sd_eq0.mp e2, by omega⟩]
    · rw [if_neg e2]
      unfold b2; rw [if_neg (fun z => e2 (sd_eq0.mpr z.2.1))]
/-- what is asked of a rota -/
def CostM (σ : Hp) (P : Pk) (what : Int32) (pr : Nat → Nat → Nat) : Prop := ∀ τ, Fr [59] [] [] σ τ → ∀ r b, r < P.n → sbs b (2 ^ P.hrs - 1) → f_X3_costOf (some 37) what (nI r) (nI b) τ = some (nI (prS (pr r) b), τ)
def LeM (ok : Nat → Nat → Prop) (pr : Nat → Nat → Nat) (τ : Hp) (r k S : Nat) : Prop := ∃ v, hi τ 59 (256 * r + S) = nI v ∧ IsMin (Tw ok (fun r b => prS (pr r) b) r k S) 1000000000 v
theorem m_solve (x : MY σ P) (hm : AI σ 54 P.n may) (hml : ∀ r, sbs (may r) (2 ^ P.hrs - 1)) (hu : AI σ 55 P.n must) (hul : ∀ r, must r < 256) (hp : PrM σ P.n hd) (hdl : ∀ r h, hd r h ≤ 999) (hpl : ∀ r h, pr r h ≤ 999) (hl' : hi σ 37 39 = nI lim) (hlim : lim ≤ 1000000000) (hc : CostM σ P what pr) : wp (f_X3_solve (some 37) what σ) (fun v τ => v = nI ((minO (Tw (okM P.most may must lim hd) (fun r b => prS (pr r) b) 0 P.n (2 ^ P.hrs - 1))).getD 1000000000) ∧ Fr [59] [] [] σ τ ∧ ∀ S, S < 2 ^ P.hrs → LeM (okM P.most may must lim hd) pr τ 0 P.n S) := by
  have n8 := x.n8
  have h8 := x.h8
  have x0 := x
  have W8 : 2 ^ P.hrs ≤ 256 := pow_le8 h8
  have Wp : 0 < 2 ^ P.hrs := Nat.two_pow_pos _
  have W1 : 2 ^ P.hrs - 1 < 256 := by omega
  generalize hQ : (fun (v : Int32) (τ : Hp) => v = nI ((minO (Tw (okM P.most may must lim hd) (fun r b => prS (pr r) b) 0 P.n (2 ^ P.hrs - 1))).getD 1000000000) ∧ Fr [59] [] [] σ τ ∧ ∀ S, S < 2 ^ P.hrs → LeM (okM P.most may must lim hd) pr τ 0 P.n S) = Q
  obtain ⟨ok, hok⟩ : ∃ ok, ok = okM P.most may must lim hd := ⟨_, rfl⟩
  have okb : ∀ r b, ok r b ↔ sbs b (may r) ∧ pop b ≤ P.most r ∧ sbs (must r) b ∧ prS (hd r) b ≤ lim := fun r b => by rw [hok]; exact Iff.rfl
  have prl : ∀ r b, prS (pr r) b ≤ 7992 := fun r b => prS_le8 (hpl r) b
  have twl : ∀ i j S c, Tw ok (fun r b => prS (pr r) b) i j S c → c ≤ 7992 := fun i j S c h => by
    have := Tw.bound (m := 999) _ _ _ (fun r b _ _ _ => prS_le (hpl r)) h
    have := pop_le S
    omega
  unfold f_X3_solve
  refine wp_up (2 ^ P.hrs) (fun i y τ => y = nI i ∧ Fr [59] [] [] σ τ ∧ ∀ S, S < i → LeM ok pr τ P.n 0 S) (fun ag i y τ hi' hJ hag => ?_) (fun ag y τ hJ => ?_) (by omega) ⟨rfl, Fr.refl, fun S hS => absurd hS (Nat.not_lt_zero _)⟩
  · obtain ⟨rfl, f, h1⟩ := hJ
    replace x := x0.fr f rfl
    have fin : ∀ v, IsMin (Tw ok (fun r b => prS (pr r) b) P.n 0 i) 1000000000 v → wp (ag (nI (i + 1)) (wI τ 59 (256 * P.n + i) (nI v))) Q := fun v hv =>
      hag _ _ ⟨rfl, f.putI rfl, fun S hS => by
        by_cases e : S = i
        · rw [e]; exact ⟨v, hi_eq, hv⟩
        · obtain ⟨w, g1, g2⟩ := h1 S (by omega)
          exact ⟨w, by rw [hi_ni (by omega)]; exact g1, g2⟩⟩
    unfold f_X3_solve_b2
    simp (disch := first | omega | exact x.s | exact hi_eq | ((repeat (first | exact x.s | apply sw_I | apply sw_L | apply sw_cp | apply sw_18 | apply sw_21 | apply sw_22 | apply sw_m12 | apply sw_m18)); done) | rfl) only [wp_ite, wp_some, w_jn, wp_r0, wp_r1, wp_b2, wp_nn, w_bc, w_nt, wo_37, wg_37, wi_37, wr_37_37, wl_59, ws_59, w_has3, w_isMan, w_areTwo, w_isHour3, w_in3, w_night, wtM_0, wtM_1, wtM_2, nI_add, nI_1, nI_mul, nI_and, nI_or, nI_sd, nI_sub, l_sub1, l_addm1, l_all, l_1shl, l_or0, l_add0, l_0add, l_m1, l_m1r, l_neg, l_nn, l_eq0, l_le0, l_0lt, l_eq1, l_m1lt, l_m1le, l_m1eq0, l_10, l_00, l_1le, nI_le_l, nI_lt_l, nI_eq_l, bc_nI, nt_nI, bit_nI, b2_ite, b2_ite1, nI_max, nI_min, isR_nI, n_1000000000, n_2, n_3, n_8, hi_ne, hi_ni, hi_eq, hi_wL, hi_wR, hl_wI, hl_wR, hl_ne, hl_ni, hl_eq, hr_wI, hr_wL, if_true, if_false, if_pos, if_neg, true_and, and_true, not_true_eq_false, not_false_eq_true, x.n, x.h, x.b, x.mo, x.wi, x.ca, l_shl8, l_or256]
    split
    · rename_i e
      exact fin 0 (Or.inr ⟨by decide, ⟨e, rfl⟩, fun c _ => Nat.zero_le _⟩)
    · rename_i e
      exact fin 1000000000 (Or.inl ⟨rfl, fun c hc => e hc.1⟩)
  · obtain ⟨rfl, f, h1⟩ := hJ
    replace x := x0.fr f rfl
    unfold f_X3_solve_b2
    simp (disch := first | omega | exact x.s | exact hi_eq | ((repeat (first | exact x.s | apply sw_I | apply sw_L | apply sw_cp | apply sw_18 | apply sw_21 | apply sw_22 | apply sw_m12 | apply sw_m18)); done) | rfl) only [wp_ite, wp_some, w_jn, wp_r0, wp_r1, wp_b2, wp_nn, w_bc, w_nt, wo_37, wg_37, wi_37, wr_37_37, wl_59, ws_59, w_has3, w_isMan, w_areTwo, w_isHour3, w_in3, w_night, wtM_0, wtM_1, wtM_2, nI_add, nI_1, nI_mul, nI_and, nI_or, nI_sd, nI_sub, l_sub1, l_addm1, l_all, l_1shl, l_or0, l_add0, l_0add, l_m1, l_m1r, l_neg, l_nn, l_eq0, l_le0, l_0lt, l_eq1, l_m1lt, l_m1le, l_m1eq0, l_10, l_00, l_1le, nI_le_l, nI_lt_l, nI_eq_l, bc_nI, nt_nI, bit_nI, b2_ite, b2_ite1, nI_max, nI_min, isR_nI, n_100, n_1000000000, n_2, n_3, n_8, hi_ne, hi_ni, hi_eq, hi_wL, hi_wR, hl_wI, hl_wR, hl_ne, hl_ni, hl_eq, hr_wI, hr_wL, if_true, if_false, if_pos, if_neg, true_and, and_true, not_true_eq_false, not_false_eq_true, x.n, x.h, x.b, x.mo, x.wi, x.ca]
    refine wp_up P.n (fun i y τ => y = (if i < P.n then nI (P.n - 1 - i) else -1) ∧ Fr [59] [] [] σ τ ∧ ∀ S, S < 2 ^ P.hrs → LeM ok pr τ (P.n - i) i S) (fun ag i y τ hi' hJ hag => ?_) (fun ag y τ hJ => ?_) (by omega) ⟨?_, f, fun S hS => h1 S hS⟩
    · obtain ⟨rfl, f, h1⟩ := hJ
      rw [if_pos hi']
      obtain ⟨r, hr'⟩ : ∃ r, P.n - 1 - i = r := ⟨_, rfl⟩
      have hrn : r < P.n := by omega
      have hri : P.n - i = r + 1 := by omega
      rw [hr']
      rw [hri] at h1
      replace x := x0.fr f rfl
      unfold f_X3_solve_b47
      simp (disch := first | omega | exact x.s | exact hi_eq | ((repeat (first | exact x.s | apply sw_I | apply sw_L | apply sw_cp | apply sw_18 | apply sw_21 | apply sw_22 | apply sw_m12 | apply sw_m18)); done) | rfl) only [wp_ite, wp_some, w_jn, wp_r0, wp_r1, wp_b2, wp_nn, w_bc, w_nt, wo_37, wg_37, wi_37, wr_37_32, wl_54, ws_54, w_has3, w_isMan, w_areTwo, w_isHour3, w_in3, w_night, wtM_0, wtM_1, wtM_2, nI_add, nI_1, nI_mul, nI_and, nI_or, nI_sd, nI_sub, l_sub1, l_addm1, l_all, l_1shl, l_or0, l_add0, l_0add, l_m1, l_m1r, l_neg, l_nn, l_eq0, l_le0, l_0lt, l_eq1, l_m1lt, l_m1le, l_m1eq0, l_10, l_00, l_1le, nI_le_l, nI_lt_l, nI_eq_l, bc_nI, nt_nI, bit_nI, b2_ite, b2_ite1, nI_max, nI_min, isR_nI, n_100, n_2, n_32, hi_ne, hi_ni, hi_eq, hi_wL, hi_wR, hl_wI, hl_wR, hl_ne, hl_ni, hl_eq, hr_wI, hr_wL, if_true, if_false, if_pos, if_neg, true_and, and_true, not_true_eq_false, not_false_eq_true, x.n, x.h, x.b, x.mo, x.wi, x.ca]
      refine wp_up (2 ^ P.hrs) (fun j y τ' => y = nI j ∧ Fr [59] [] [] σ τ' ∧ (∀ S, S < 2 ^ P.hrs → LeM ok pr τ' (r + 1) i S) ∧ ∀ S, S < j → hi τ' 59 (256 * r + S) = nI 1000000000) (fun ag' j y τ hj hJ hag' => ?_) (fun ag' y τ hJ => ?_) (by omega) ⟨rfl, f, h1, fun S hS => absurd hS (Nat.not_lt_zero _)⟩
      · obtain ⟨rfl, f, h1, h2⟩ := hJ
        replace x := x0.fr f rfl
        unfold f_X3_solve_b53
        simp (disch := first | omega | exact x.s | exact hi_eq | ((repeat (first | exact x.s | apply sw_I | apply sw_L | apply sw_cp | apply sw_18 | apply sw_21 | apply sw_22 | apply sw_m12 | apply sw_m18)); done) | rfl) only [wp_ite, wp_some, w_jn, wp_r0, wp_r1, wp_b2, wp_nn, w_bc, w_nt, wo_37, wg_37, wi_37, wr_37_37, wl_59, ws_59, w_has3, w_isMan, w_areTwo, w_isHour3, w_in3, w_night, wtM_0, wtM_1, wtM_2, nI_add, nI_1, nI_mul, nI_and, nI_or, nI_sd, nI_sub, l_sub1, l_addm1, l_all, l_1shl, l_or0, l_add0, l_0add, l_m1, l_m1r, l_neg, l_nn, l_eq0, l_le0, l_0lt, l_eq1, l_m1lt, l_m1le, l_m1eq0, l_10, l_00, l_1le, nI_le_l, nI_lt_l, nI_eq_l, bc_nI, nt_nI, bit_nI, b2_ite, b2_ite1, nI_max, nI_min, isR_nI, n_1000000000, n_2, n_8, hi_ne, hi_ni, hi_eq, hi_wL, hi_wR, hl_wI, hl_wR, hl_ne, hl_ni, hl_eq, hr_wI, hr_wL, if_true, if_false, if_pos, if_neg, true_and, and_true, not_true_eq_false, not_false_eq_true, x.n, x.h, x.b, x.mo, x.wi, x.ca, l_shl8, l_or256]
        refine hag' _ _ ⟨rfl, f.putI rfl, fun S hS => ?_, fun S hS => ?_⟩
        · obtain ⟨v, g1, g2⟩ := h1 S hS
          exact ⟨v, by rw [hi_ni (by omega)]; exact g1, g2⟩
        · by_cases e : S = j
          · rw [e, hi_eq]
          · rw [hi_ni (by omega)]; exact h2 S (by omega)
      · obtain ⟨rfl, f, h1, h2⟩ := hJ
        replace x := x0.fr f rfl
        have hmr : hi τ 54 r = nI (may r) := (f.i rfl).trans (hm r hrn)
        have mr8 : may r < 256 := sbs_lt (hml r) W1
        unfold f_X3_solve_b53
        simp (disch := first | omega | exact x.s | exact hi_eq | ((repeat (first | exact x.s | apply sw_I | apply sw_L | apply sw_cp | apply sw_18 | apply sw_21 | apply sw_22 | apply sw_m12 | apply sw_m18)); done) | rfl) only [wp_ite, wp_some, w_jn, wp_r0, wp_r1, wp_b2, wp_nn, w_bc, w_nt, wo_37, wg_37, wi_37, wr_37_32, wr_37_37, wl_54, ws_54, wl_59, ws_59, w_has3, w_isMan, w_areTwo, w_isHour3, w_in3, w_night, wtM_0, wtM_1, wtM_2, nI_add, nI_1, nI_mul, nI_and, nI_or, nI_sd, nI_sub, l_sub1, l_addm1, l_all, l_1shl, l_or0, l_add0, l_0add, l_m1, l_m1r, l_neg, l_nn, l_eq0, l_le0, l_0lt, l_eq1, l_m1lt, l_m1le, l_m1eq0, l_10, l_00, l_1le, nI_le_l, nI_lt_l, nI_eq_l, bc_nI, nt_nI, bit_nI, b2_ite, b2_ite1, nI_max, nI_min, isR_nI, n_100, n_1000000000, n_2, n_32, n_8, hi_ne, hi_ni, hi_eq, hi_wL, hi_wR, hl_wI, hl_wR, hl_ne, hl_ni, hl_eq, hr_wI, hr_wL, if_true, if_false, if_pos, if_neg, true_and, and_true, not_true_eq_false, not_false_eq_true, x.n, x.h, x.b, x.mo, x.wi, x.ca, hmr]
        refine wp_subs mr8 (fun t τ' => Fr [59] [] [] σ τ' ∧ (∀ S, S < 2 ^ P.hrs → LeM ok pr τ' (r + 1) i S) ∧ ∀ S, S < 2 ^ P.hrs → ∃ v, hi τ' 59 (256 * r + S) = nI v ∧ IsMin (fun c => ∃ b c', t ≤ b ∧ ok r b ∧ sbs b S ∧ Tw ok (fun r b => prS (pr r) b) (r + 1) i (sd S b) c' ∧ c = c' + prS (pr r) b) 1000000000 v) (fun ag'' o τ ho o8 hJ hz hn' => ?_) (fun ag'' τ hJ => ?_) ⟨f, h1, fun S hS => ⟨1000000000, h2 S hS, Or.inl ⟨rfl, ?_⟩⟩⟩
        · obtain ⟨f, h1, h2⟩ := hJ
          replace x := x0.fr f rfl
          have cnt := m_canTake x (hu.fr f rfl (by decide) (by decide)) hul (fun q h a1 a2 => (f.i rfl).trans (hp q h a1 a2)) hdl ((f.i rfl).trans hl') hlim hrn o8
          have ob' : ok r o ↔ pop o ≤ P.most r ∧ sbs (must r) o ∧ prS (hd r) o ≤ lim := (okb r o).trans ⟨fun z => z.2, fun z => ⟨ho, z⟩⟩
          have hmr : hi τ 54 r = nI (may r) := (f.i rfl).trans (hm r hrn)
          have on : sbs o (2 ^ P.hrs - 1) := sbs_trans ho (hml r)
          have next : ∀ τ', Fr [59] [] [] σ τ' → (∀ S, S < 2 ^ P.hrs → LeM ok pr τ' (r + 1) i S) → (∀ S, S < 2 ^ P.hrs → ∃ v, hi τ' 59 (256 * r + S) = nI v ∧ IsMin (fun c => ∃ b c', o ≤ b ∧ ok r b ∧ sbs b S ∧ Tw ok (fun r b => prS (pr r) b) (r + 1) i (sd S b) c' ∧ c = c' + prS (pr r) b) 1000000000 v) → if o = 0 then wp (ag'' (-1) τ') Q else wp (ag'' (nI ((o - 1) &&& may r)) τ') Q := fun τ' f' g1 g2 => by
            by_cases h0 : o = 0
            · rw [if_pos h0]
              refine hz h0 τ' ⟨f', g1, fun S hS => ?_⟩
              rw [h0] at g2
              exact g2 S hS
            · rw [if_neg h0]
              refine hn' h0 τ' ⟨f', g1, fun S hS => ?_⟩
              obtain ⟨v, k1, k2⟩ := g2 S hS
              refine ⟨v, k1, k2.congr fun c => exists_congr fun b => exists_congr fun c' => ⟨fun z => ⟨(thr ho ((okb r b).mp z.2.1).1 h0).mpr (by omega), z.2⟩, fun z => ⟨?_, z.2⟩⟩⟩
              have := (thr ho ((okb r b).mp z.2.1).1 h0).mp z.1
              omega
          unfold f_X3_solve_b87
          simp (disch := first | omega | exact x.s | exact hi_eq | ((repeat (first | exact x.s | apply sw_I | apply sw_L | apply sw_cp | apply sw_18 | apply sw_21 | apply sw_22 | apply sw_m12 | apply sw_m18)); done) | rfl) only [wp_ite, wp_some, w_jn, wp_r0, wp_r1, wp_b2, wp_nn, w_bc, w_nt, wo_37, wg_37, wi_37, wr_37_32, wl_54, ws_54, w_has3, w_isMan, w_areTwo, w_isHour3, w_in3, w_night, wtM_0, wtM_1, wtM_2, nI_add, nI_1, nI_mul, nI_and, nI_or, nI_sd, nI_sub, l_sub1, l_addm1, l_all, l_1shl, l_or0, l_add0, l_0add, l_m1, l_m1r, l_neg, l_nn, l_eq0, l_le0, l_0lt, l_eq1, l_m1lt, l_m1le, l_m1eq0, l_10, l_00, l_1le, nI_le_l, nI_lt_l, nI_eq_l, bc_nI, nt_nI, bit_nI, b2_ite, b2_ite1, nI_max, nI_min, isR_nI, n_100, n_2, n_32, hi_ne, hi_ni, hi_eq, hi_wL, hi_wR, hl_wI, hl_wR, hl_ne, hl_ni, hl_eq, hr_wI, hr_wL, if_true, if_false, if_pos, if_neg, true_and, and_true, not_true_eq_false, not_false_eq_true, x.n, x.h, x.b, x.mo, x.wi, x.ca]
          rw [cnt, e_bnd]
          simp (disch := first | omega | exact x.s | exact hi_eq | ((repeat (first | exact x.s | apply sw_I | apply sw_L | apply sw_cp | apply sw_18 | apply sw_21 | apply sw_22 | apply sw_m12 | apply sw_m18)); done) | rfl) only [wp_ite, wp_some, w_jn, wp_r0, wp_r1, wp_b2, wp_nn, w_bc, w_nt, wo_37, wg_37, wi_37, wr_37_32, wl_54, ws_54, w_has3, w_isMan, w_areTwo, w_isHour3, w_in3, w_night, wtM_0, wtM_1, wtM_2, nI_add, nI_1, nI_mul, nI_and, nI_or, nI_sd, nI_sub, l_sub1, l_addm1, l_all, l_1shl, l_or0, l_add0, l_0add, l_m1, l_m1r, l_neg, l_nn, l_eq0, l_le0, l_0lt, l_eq1, l_m1lt, l_m1le, l_m1eq0, l_10, l_00, l_1le, nI_le_l, nI_lt_l, nI_eq_l, bc_nI, nt_nI, bit_nI, b2_ite, b2_ite1, nI_max, nI_min, isR_nI, n_100, n_2, n_32, hi_ne, hi_ni, hi_eq, hi_wL, hi_wR, hl_wI, hl_wR, hl_ne, hl_ni, hl_eq, hr_wI, hr_wL, if_true, if_false, if_pos, if_neg, true_and, and_true, not_true_eq_false, not_false_eq_true, x.n, x.h, x.b, x.mo, x.wi, x.ca, hmr]
          by_cases hko : pop o ≤ P.most r ∧ sbs (must r) o ∧ prS (hd r) o ≤ lim
          · rw [if_pos hko, hc τ f r o hrn on, e_bnd]
            have oko := ob'.mpr hko
            have rs8 : sd (2 ^ P.hrs - 1) o < 256 := sd_lt o W1
            have po := prl r o
            simp (disch := first | omega | exact x.s | exact hi_eq | ((repeat (first | exact x.s | apply sw_I | apply sw_L | apply sw_cp | apply sw_18 | apply sw_21 | apply sw_22 | apply sw_m12 | apply sw_m18)); done) | rfl) only [wp_ite, wp_some, w_jn, wp_r0, wp_r1, wp_b2, wp_nn, w_bc, w_nt, wo_37, wg_37, wi_37, wr_37_32, wl_54, ws_54, w_has3, w_isMan, w_areTwo, w_isHour3, w_in3, w_night, wtM_0, wtM_1, wtM_2, nI_add, nI_1, nI_mul, nI_and, nI_or, nI_sd, nI_sub, l_sub1, l_addm1, l_all, l_1shl, l_or0, l_add0, l_0add, l_m1, l_m1r, l_neg, l_nn, l_eq0, l_le0, l_0lt, l_eq1, l_m1lt, l_m1le, l_m1eq0, l_10, l_00, l_1le, nI_le_l, nI_lt_l, nI_eq_l, bc_nI, nt_nI, bit_nI, b2_ite, b2_ite1, nI_max, nI_min, isR_nI, n_100, n_2, n_32, hi_ne, hi_ni, hi_eq, hi_wL, hi_wR, hl_wI, hl_wR, hl_ne, hl_ni, hl_eq, hr_wI, hr_wL, if_true, if_false, if_pos, if_neg, true_and, and_true, not_true_eq_false, not_false_eq_true, x.n, x.h, x.b, x.mo, x.wi, x.ca]
            refine wp_subs rs8 (fun u τ' => Fr [59] [] [] σ τ' ∧ (∀ S, S < 2 ^ P.hrs → LeM ok pr τ' (r + 1) i S) ∧ ∀ S, S < 2 ^ P.hrs → ∃ v, hi τ' 59 (256 * r + S) = nI v ∧ IsMin (fun c => (∃ b c', o + 1 ≤ b ∧ ok r b ∧ sbs b S ∧ Tw ok (fun r b => prS (pr r) b) (r + 1) i (sd S b) c' ∧ c = c' + prS (pr r) b) ∨ (sbs o S ∧ u ≤ sd S o ∧ ∃ c', Tw ok (fun r b => prS (pr r) b) (r + 1) i (sd S o) c' ∧ c = c' + prS (pr r) o)) 1000000000 v) (fun ag3 s τ' hs s8 hJ hz3 hn3 => ?_) (fun ag3 τ' hJ => ?_) ⟨f, h1, fun S hS => ?_⟩
            · obtain ⟨f, h1, h2⟩ := hJ
              replace x := x0.fr f rfl
              obtain ⟨sn, so⟩ := sbs_sd_iff.mp hs
              have sW : s < 2 ^ P.hrs := by have := sbs_le sn; omega
              have so8 := or_lt s8 o8
              have soW : s ||| o < 2 ^ P.hrs := by have := sbs_le (sbs_or sn on); omega
              have sub_rest : ∀ S, S < 2 ^ P.hrs → sbs (sd S o) (sd (2 ^ P.hrs - 1) o) := fun S hS => sbs_sd_iff.mpr ⟨sbs_trans (sbs_sd S o) (sbs_all hS), sd_and_self S o⟩
              have next3 : ∀ τ', Fr [59] [] [] σ τ' → (∀ S, S < 2 ^ P.hrs → LeM ok pr τ' (r + 1) i S) → (∀ S, S < 2 ^ P.hrs → ∃ v, hi τ' 59 (256 * r + S) = nI v ∧ IsMin (fun c => (∃ b c', o + 1 ≤ b ∧ ok r b ∧ sbs b S ∧ Tw ok (fun r b => prS (pr r) b) (r + 1) i (sd S b) c' ∧ c = c' + prS (pr r) b) ∨ (sbs o S ∧ s ≤ sd S o ∧ ∃ c', Tw ok (fun r b => prS (pr r) b) (r + 1) i (sd S o) c' ∧ c = c' + prS (pr r) o)) 1000000000 v) → if s = 0 then wp (ag3 (-1) τ') Q else wp (ag3 (nI ((s - 1) &&& sd (2 ^ P.hrs - 1) o)) τ') Q := fun τ' f' g1 g2 => by
                by_cases h0 : s = 0
                · rw [if_pos h0]
                  refine hz3 h0 τ' ⟨f', g1, fun S hS => ?_⟩
                  rw [h0] at g2
                  exact g2 S hS
                · rw [if_neg h0]
                  refine hn3 h0 τ' ⟨f', g1, fun S hS => ?_⟩
                  obtain ⟨v, k1, k2⟩ := g2 S hS
                  have ht := thr hs (sub_rest S hS) h0
                  refine ⟨v, k1, k2.congr fun c => or_congr_right ⟨fun z => ⟨z.1, ht.mpr (by omega), z.2.2⟩, fun z => ⟨z.1, ?_, z.2.2⟩⟩⟩
                  have := ht.mp z.2.1
                  omega
              have sdso : sd (s ||| o) o = s := by
                apply Nat.eq_of_testBit_eq
                intro k
                rw [sd_bit, Nat.testBit_or]
                have := and_zero_iff.mp so k
                cases hsk : s.testBit k <;> cases hok2 : o.testBit k <;> simp_all
              have back : ∀ S, sbs o S → sd S o = s → S = s ||| o := fun S h1 h2 => by rw [← h2]; exact (sd_or_self h1).symm
              obtain ⟨w, g1, g2⟩ := h1 s sW
              have gw := g2.le
              obtain ⟨v, k1, k2⟩ := h2 (s ||| o) soW
              have kv := k2.le
              unfold f_X3_solve_b126
              simp (disch := first | omega | exact x.s | exact hi_eq | ((repeat (first | exact x.s | apply sw_I | apply sw_L | apply sw_cp | apply sw_18 | apply sw_21 | apply sw_22 | apply sw_m12 | apply sw_m18)); done) | rfl) only [wp_ite, wp_some, w_jn, wp_r0, wp_r1, wp_b2, wp_nn, w_bc, w_nt, wo_37, wg_37, wi_37, wr_37_37, wl_59, ws_59, w_has3, w_isMan, w_areTwo, w_isHour3, w_in3, w_night, wtM_0, wtM_1, wtM_2, nI_add, nI_1, nI_mul, nI_and, nI_or, nI_sd, nI_sub, l_sub1, l_addm1, l_all, l_1shl, l_or0, l_add0, l_0add, l_m1, l_m1r, l_neg, l_nn, l_eq0, l_le0, l_0lt, l_eq1, l_m1lt, l_m1le, l_m1eq0, l_10, l_00, l_1le, nI_le_l, nI_lt_l, nI_eq_l, bc_nI, nt_nI, bit_nI, b2_ite, b2_ite1, nI_max, nI_min, isR_nI, n_100, n_1000000000, n_2, n_8, hi_ne, hi_ni, hi_eq, hi_wL, hi_wR, hl_wI, hl_wR, hl_ne, hl_ni, hl_eq, hr_wI, hr_wL, if_true, if_false, if_pos, if_neg, true_and, and_true, not_true_eq_false, not_false_eq_true, x.n, x.h, x.b, x.mo, x.wi, x.ca, g1, l_shl8, l_or256, l_or256', k1]
              by_cases hw : 1000000000 ≤ w
              · rw [if_pos hw]
                have hno := g2.inf_iff.mp (by omega)
                refine next3 τ' f h1 (fun S hS => ?_)
                obtain ⟨v', k1', k2'⟩ := h2 S hS
                refine ⟨v', k1', k2'.congr fun c => or_congr_right ⟨fun z => ⟨z.1, by omega, z.2.2⟩, fun z => ⟨z.1, ?_, z.2.2⟩⟩⟩
                obtain ⟨z1, z2, c', z3, z4⟩ := z
                by_cases e : sd S o = s
                · rw [e] at z3; exact absurd z3 (hno c')
                · omega
              · rw [if_neg hw]
                refine next3 _ (f.putI rfl) (fun S hS => ?_) (fun S hS => ?_)
                · obtain ⟨v', k1', k2'⟩ := h1 S hS
                  exact ⟨v', by rw [hi_ni (by omega)]; exact k1', k2'⟩
                · by_cases e : S = s ||| o
                  · rw [e]
                    refine ⟨min v (w + prS (pr r) o), hi_eq, ?_⟩
                    have hmin := k2.or2 (g2.add (prS (pr r) o) (fun c hc => by have := twl _ _ _ _ hc; omega))
                    rw [show min v (w + prS (pr r) o) = min v (min 1000000000 (w + prS (pr r) o)) by omega]
                    refine hmin.congr fun c => ?_
                    rw [sdso]
                    constructor
                    · rintro ((z | z) | z)
                      · exact Or.inl z
                      · omega
                      · exact Or.inr ⟨Nat.or_comm s o ▸ sbs_iff.mpr fun k hk' => by rw [Nat.testBit_or, hk']; rfl, Nat.le_refl _, z⟩
                    · rintro (z | z)
                      · exact Or.inl (Or.inl z)
                      · exact Or.inr z.2.2
                  · obtain ⟨v', k1', k2'⟩ := h2 S hS
                    refine ⟨v', by rw [hi_ni (by omega)]; exact k1', k2'.congr fun c => or_congr_right ⟨fun z => ⟨z.1, by omega, z.2.2⟩, fun z => ⟨z.1, ?_, z.2.2⟩⟩⟩
                    have : sd S o ≠ s := fun e2 => e (back S z.1 e2)
                    omega
            · obtain ⟨f, h1, h2⟩ := hJ
              replace x := x0.fr f rfl
              have hmr : hi τ' 54 r = nI (may r) := (f.i rfl).trans (hm r hrn)
              unfold f_X3_solve_b126
              simp (disch := first | omega | exact x.s | exact hi_eq | ((repeat (first | exact x.s | apply sw_I | apply sw_L | apply sw_cp | apply sw_18 | apply sw_21 | apply sw_22 | apply sw_m12 | apply sw_m18)); done) | rfl) only [wp_ite, wp_some, w_jn, wp_r0, wp_r1, wp_b2, wp_nn, w_bc, w_nt, wo_37, wg_37, wi_37, wr_37_32, wr_37_37, wl_54, ws_54, wl_59, ws_59, w_has3, w_isMan, w_areTwo, w_isHour3, w_in3, w_night, wtM_0, wtM_1, wtM_2, nI_add, nI_1, nI_mul, nI_and, nI_or, nI_sd, nI_sub, l_sub1, l_addm1, l_all, l_1shl, l_or0, l_add0, l_0add, l_m1, l_m1r, l_neg, l_nn, l_eq0, l_le0, l_0lt, l_eq1, l_m1lt, l_m1le, l_m1eq0, l_10, l_00, l_1le, nI_le_l, nI_lt_l, nI_eq_l, bc_nI, nt_nI, bit_nI, b2_ite, b2_ite1, nI_max, nI_min, isR_nI, n_100, n_1000000000, n_2, n_32, n_8, hi_ne, hi_ni, hi_eq, hi_wL, hi_wR, hl_wI, hl_wR, hl_ne, hl_ni, hl_eq, hr_wI, hr_wL, if_true, if_false, if_pos, if_neg, true_and, and_true, not_true_eq_false, not_false_eq_true, x.n, x.h, x.b, x.mo, x.wi, x.ca, hmr]
              refine next τ' f h1 (fun S hS => ?_)
              obtain ⟨v, k1, k2⟩ := h2 S hS
              refine ⟨v, k1, k2.congr fun c => ⟨fun z => ?_, fun z => ?_⟩⟩
              · rcases z with ⟨b, c', z1, z2⟩ | ⟨z1, -, c', z2, z3⟩
                · exact ⟨b, c', by omega, z2⟩
                · exact ⟨o, c', Nat.le_refl _, oko, z1, z2, z3⟩
              · obtain ⟨b, c', z1, z2, z3, z4, z5⟩ := z
                by_cases e : b = o
                · subst e; exact Or.inr ⟨z3, Nat.zero_le _, c', z4, z5⟩
                · exact Or.inl ⟨b, c', by omega, z2, z3, z4, z5⟩
            · obtain ⟨v, k1, k2⟩ := h2 S hS
              refine ⟨v, k1, k2.congr fun c => ⟨fun z => Or.inl z, fun z => ?_⟩⟩
              rcases z with z | z
              · exact z
              · have := sbs_le (show sbs (sd S o) (sd (2 ^ P.hrs - 1) o) from sbs_sd_iff.mpr ⟨sbs_trans (sbs_sd S o) (sbs_all hS), sd_and_self S o⟩)
                omega
          · rw [if_neg hko]
            refine next τ f h1 (fun S hS => ?_)
            obtain ⟨v, k1, k2⟩ := h2 S hS
            refine ⟨v, k1, k2.congr fun c => exists_congr fun b => exists_congr fun c' => ⟨fun z => ⟨by omega, z.2⟩, fun z => ⟨?_, z.2⟩⟩⟩
            have : b ≠ o := fun e => hko (ob'.mp (by rw [← e]; exact z.2.1))
            omega
        · obtain ⟨f, h1, h2⟩ := hJ
          replace x := x0.fr f rfl
          have fin : wp (ag (if i + 1 < P.n then nI (P.n - 1 - (i + 1)) else -1) τ) Q := hag _ _ ⟨rfl, f, fun S hS => by
            obtain ⟨v, k1, k2⟩ := h2 S hS
            rw [show P.n - (i + 1) = r by omega]
            refine ⟨v, k1, k2.congr fun c => ?_⟩
            rw [Tw.peel]
            exact exists_congr fun b => exists_congr fun c' => ⟨fun z => z.2, fun z => ⟨Nat.zero_le _, z⟩⟩⟩
          unfold f_X3_solve_b87
          by_cases h0 : r = 0
          · rw [if_neg (by omega)] at fin
            simp (disch := first | omega | exact x.s | exact hi_eq | ((repeat (first | exact x.s | apply sw_I | apply sw_L | apply sw_cp | apply sw_18 | apply sw_21 | apply sw_22 | apply sw_m12 | apply sw_m18)); done) | rfl) only [wp_ite, wp_some, w_jn, wp_r0, wp_r1, wp_b2, wp_nn, w_bc, w_nt, wo_37, wg_37, wi_37, wr_37_32, wl_54, ws_54, w_has3, w_isMan, w_areTwo, w_isHour3, w_in3, w_night, wtM_0, wtM_1, wtM_2, nI_add, nI_1, nI_mul, nI_and, nI_or, nI_sd, nI_sub, l_sub1, l_addm1, l_all, l_1shl, l_or0, l_add0, l_0add, l_m1, l_m1r, l_neg, l_nn, l_eq0, l_le0, l_0lt, l_eq1, l_m1lt, l_m1le, l_m1eq0, l_10, l_00, l_1le, nI_le_l, nI_lt_l, nI_eq_l, bc_nI, nt_nI, bit_nI, b2_ite, b2_ite1, nI_max, nI_min, isR_nI, n_100, n_2, n_32, hi_ne, hi_ni, hi_eq, hi_wL, hi_wR, hl_wI, hl_wR, hl_ne, hl_ni, hl_eq, hr_wI, hr_wL, if_true, if_false, if_pos, if_neg, true_and, and_true, not_true_eq_false, not_false_eq_true, x.n, x.h, x.b, x.mo, x.wi, x.ca]
            rw [h0]
            exact fin
          · rw [if_pos (by omega), show P.n - 1 - (i + 1) = r - 1 by omega] at fin
            simp (disch := first | omega | exact x.s | exact hi_eq | ((repeat (first | exact x.s | apply sw_I | apply sw_L | apply sw_cp | apply sw_18 | apply sw_21 | apply sw_22 | apply sw_m12 | apply sw_m18)); done) | rfl) only [wp_ite, wp_some, w_jn, wp_r0, wp_r1, wp_b2, wp_nn, w_bc, w_nt, wo_37, wg_37, wi_37, wr_37_32, wl_54, ws_54, w_has3, w_isMan, w_areTwo, w_isHour3, w_in3, w_night, wtM_0, wtM_1, wtM_2, nI_add, nI_1, nI_mul, nI_and, nI_or, nI_sd, nI_sub, l_sub1, l_addm1, l_all, l_1shl, l_or0, l_add0, l_0add, l_m1, l_m1r, l_neg, l_nn, l_eq0, l_le0, l_0lt, l_eq1, l_m1lt, l_m1le, l_m1eq0, l_10, l_00, l_1le, nI_le_l, nI_lt_l, nI_eq_l, bc_nI, nt_nI, bit_nI, b2_ite, b2_ite1, nI_max, nI_min, isR_nI, n_100, n_2, n_32, hi_ne, hi_ni, hi_eq, hi_wL, hi_wR, hl_wI, hl_wR, hl_ne, hl_ni, hl_eq, hr_wI, hr_wL, if_true, if_false, if_pos, if_neg, true_and, and_true, not_true_eq_false, not_false_eq_true, x.n, x.h, x.b, x.mo, x.wi, x.ca]
            exact fin
        · rintro c ⟨b, c', z1, z2, -⟩
          have := sbs_le ((okb r b).mp z2).1
          omega
    · obtain ⟨rfl, f, h1⟩ := hJ
      replace x := x0.fr f rfl
      rw [if_neg (Nat.lt_irrefl _)]
      rw [Nat.sub_self] at h1
      obtain ⟨v, g1, g2⟩ := h1 (2 ^ P.hrs - 1) (by omega)
      rw [Nat.mul_zero, Nat.zero_add] at g1
      unfold f_X3_solve_b47
      simp (disch := first | omega | exact x.s | exact hi_eq | ((repeat (first | exact x.s | apply sw_I | apply sw_L | apply sw_cp | apply sw_18 | apply sw_21 | apply sw_22 | apply sw_m12 | apply sw_m18)); done) | rfl) only [wp_ite, wp_some, w_jn, wp_r0, wp_r1, wp_b2, wp_nn, w_bc, w_nt, wo_37, wg_37, wi_37, wr_37_32, wr_37_37, wl_54, ws_54, wl_59, ws_59, w_has3, w_isMan, w_areTwo, w_isHour3, w_in3, w_night, wtM_0, wtM_1, wtM_2, nI_add, nI_1, nI_mul, nI_and, nI_or, nI_sd, nI_sub, l_sub1, l_addm1, l_all, l_1shl, l_or0, l_add0, l_0add, l_m1, l_m1r, l_neg, l_nn, l_eq0, l_le0, l_0lt, l_eq1, l_m1lt, l_m1le, l_m1eq0, l_10, l_00, l_1le, nI_le_l, nI_lt_l, nI_eq_l, bc_nI, nt_nI, bit_nI, b2_ite, b2_ite1, nI_max, nI_min, isR_nI, n_100, n_2, n_3, n_32, hi_ne, hi_ni, hi_eq, hi_wL, hi_wR, hl_wI, hl_wR, hl_ne, hl_ni, hl_eq, hr_wI, hr_wL, if_true, if_false, if_pos, if_neg, true_and, and_true, not_true_eq_false, not_false_eq_true, x.n, x.h, x.b, x.mo, x.wi, x.ca, g1]
      rw [← hQ]
      refine ⟨?_, f, fun S hS => by rw [← hok]; exact h1 S hS⟩
      rw [(minO_of g2).1, hok]
    · by_cases h0 : P.n = 0
      · rw [h0]; rfl
      · rw [if_pos (by omega), l_sub1 (by omega)]; rfl
end msolve
