/-! PURE 75: who rode when: what is left to each -/
/-- findings: how many; hour, rider, whether it was so -/
abbrev FD : Type := Nat × (Nat → Nat) × (Nat → Nat) × (Nat → Bool)
def FD.m (F : FD) : Nat := F.1
def FD.h (F : FD) : Nat → Nat := F.2.1
def FD.r (F : FD) : Nat → Nat := F.2.2.1
def FD.b (F : FD) : Nat → Bool := F.2.2.2
def FOK (n : Nat) (F : FD) : Prop := F.m ≤ 12 ∧ ∀ k, k < F.m → F.h k < 8 ∧ F.r k < n
def FC (σ : Hp) (F : FD) : Prop := hi σ 0 44 = nI F.m ∧ ∀ k, k < F.m → hi σ 31 k = nI (F.h k) ∧ hi σ 32 k = nI (F.r k) ∧ hi σ 33 k = if F.b k then 1 else 0
def FM (σ : Hp) (F : FD) : Prop := hi σ 37 45 = nI F.m ∧ (∀ k, k < F.m → hi σ 63 k = nI (F.h k) ∧ hi σ 64 k = nI (F.r k)) ∧ ∃ b, b < 4096 ∧ hi σ 37 44 = nI b ∧ ∀ k, k < F.m → b.testBit k = F.b k
/-- what each may, must after so many findings -/
def fdS (P : Pk) (a : HS) (F : FD) : Nat → (Nat → Nat) × (Nat → Nat)
  | 0 => (mayOf P a 0, fun _ => 0)
  | k + 1 => if F.h k < P.hrs then (if F.b k then (fixM (fdS P a F k).1 (F.h k) (F.r k), up1 (fdS P a F k).2 (F.r k) ((fdS P a F k).2 (F.r k) ||| 2 ^ F.h k)) else (up1 (fdS P a F k).1 (F.r k) (sd ((fdS P a F k).1 (F.r k)) (2 ^ F.h k)), (fdS P a F k).2)) else fdS P a F k
def fdM (P : Pk) (a : HS) (F : FD) : Nat → Nat := (fdS P a F F.m).1
theorem fd_ok {P : Pk} {a : HS} {F : FD} (hF : FOK P.n F) : ∀ k, k ≤ F.m → MayOK P (fdS P a F k).1 ∧ MustI P (fdS P a F k).1 (fdS P a F k).2 := by
  intro k
  induction k with
  | zero => intro _; exact ⟨mayOf_ok, MustI.zero⟩
  | succ k ih =>
    intro hk'
    obtain ⟨i1, i2⟩ := ih (by omega)
    obtain ⟨g1, g2⟩ := hF.2 k (by omega)
    unfold fdS
    by_cases c1 : F.h k < P.hrs
    · rw [if_pos c1]
      by_cases c2 : F.b k = true
      · rw [if_pos c2]
        exact ⟨i1.fix _ _, i2.fix c1⟩
      · rw [if_neg c2]
        have hs : ∀ o, sbs (up1 (fdS P a F k).1 (F.r k) (sd ((fdS P a F k).1 (F.r k)) (2 ^ F.h k)) o) ((fdS P a F k).1 o) := fun o => by
          unfold up1
          by_cases e : o = F.r k
          · rw [if_pos e, e]; exact sbs_sd _ _
          · rw [if_neg e]; exact sbs_refl _
        refine ⟨⟨fun o ho => ?_, fun o => sbs_trans (hs o) (i1.2 o)⟩, i2.less hs⟩
        dsimp only
        rw [up1_ne (by omega)]
        exact i1.1 o ho
    · rw [if_neg c1]; exact ⟨i1, i2⟩
def mxN (f : Nat → Nat) : Nat → Nat
  | 0 => 0
  | n + 1 => max (mxN f n) (f n)
theorem mxN_le {f : Nat → Nat} {m : Nat} (h : ∀ i, f i ≤ m) : ∀ n, mxN f n ≤ m := by
  intro n
  induction n with
  | zero => exact Nat.zero_le _
  | succ n ih => exact Nat.max_le.mpr ⟨ih, h n⟩
/-- so many rotas fit, one having an hour besides -/
def fitW (P : Pk) (m : Nat → Nat) (h r : Nat) : Nat := cntW P (fixM m h r)
def askO (w : Nat → Nat) : Nat → Option (Nat × Nat)
  | 0 => none
  | h + 1 => match askO w h with
    | none => some (h, w h)
    | some x => if w h < x.2 then some (h, w h) else some x
theorem askO_lt {w : Nat → Nat} {m : Nat} (hw : ∀ h, w h ≤ m) : ∀ h x, askO w h = some x → x.1 < h ∧ x.2 ≤ m := by
  intro h
  induction h with
  | zero => intro x hx; cases hx
  | succ h ih =>
    intro x hx
    unfold askO at hx
    cases ho : askO w h with
    | none => rw [ho] at hx; cases hx; exact ⟨Nat.lt_succ_self _, hw h⟩
    | some y =>
      rw [ho] at hx
      dsimp only at hx
      split at hx
      · cases hx; exact ⟨Nat.lt_succ_self _, hw h⟩
      · cases hx; obtain ⟨h1, h2⟩ := ih _ ho; exact ⟨by omega, h2⟩
theorem askO_some {w : Nat → Nat} {h : Nat} (hh : 0 < h) : ∃ x, askO w h = some x := by
  cases h with
  | zero => omega
  | succ h =>
    unfold askO
    cases askO w h with
    | none => exact ⟨_, rfl⟩
    | some y =>
      dsimp only
      split
      · exact ⟨_, rfl⟩
      · exact ⟨_, rfl⟩
def askR (P : Pk) (m : Nat → Nat) : Int32 × Option (List Int64) := if cntW P m = 0 then (-2, none) else match askO (fun h => mxN (fitW P m h) P.n) P.hrs with
  | none => (0, none)
  | some x => (nI x.1, some [nL x.2])
def sureR (P : Pk) (m : Nat → Nat) (h r : Nat) : Int32 × Option (List Int64) := if cntW P m = 0 then (-2, none) else (nI (fitW P m h r), some (fracL (fitW P m h r) (cntW P m)))
def aI (o : Option (Nat × Nat)) : Int32 × Int64 := match o with
  | none => (0, 9223372036854775807)
  | some x => (nI x.1, nL x.2)
def aM (o : Option (Nat × Nat)) : Int32 × Int32 := match o with
  | none => (-1, 1000000000)
  | some x => (nI x.1, nI x.2)
theorem nL_max {a b : Nat} (ha : a < 2 ^ 63) (hb : b < 2 ^ 63) : lmax (nL a) (nL b) = nL (max a b) := by
  unfold lmax
  simp only [nL_lt hb ha]
  split
  · rw [Nat.max_eq_left (by omega)]
  · rw [Nat.max_eq_right (by omega)]
section cfound
variable {σ τ : Hp} {P : Pk} {a : HS} {F : FD} {D G : List Nat} {E : List Nat}
theorem FC.fr (h : FC σ F) (f : Fr D E G σ τ) (q : (dn D E G 0 44 && !D.contains 31 && !D.contains 32 && !D.contains 33) = true) : FC τ F := by
  simp only [Bool.and_eq_true, Bool.not_eq_true'] at q
  obtain ⟨⟨⟨q1, q2⟩, q3⟩, q4⟩ := q
  refine ⟨(f.i q1).trans h.1, fun k hk' => ?_⟩
  rw [f.i (dn_out q2 (by decide) (by decide)), f.i (dn_out q3 (by decide) (by decide)), f.i (dn_out q4 (by decide) (by decide))]
  exact h.2 k hk'
theorem FM.fr (h : FM σ F) (f : Fr D E G σ τ) (q : (dn D E G 37 45 && dn D E G 37 44 && !D.contains 63 && !D.contains 64) = true) : FM τ F := by
  simp only [Bool.and_eq_true, Bool.not_eq_true'] at q
  obtain ⟨⟨⟨q1, q2⟩, q3⟩, q4⟩ := q
  obtain ⟨h1, h2, b, h3, h4, h5⟩ := h
  refine ⟨(f.i q1).trans h1, fun k hk' => ?_, b, h3, (f.i q2).trans h4, h5⟩
  rw [f.i (dn_out q3 (by decide) (by decide)), f.i (dn_out q4 (by decide) (by decide))]
  exact h2 k hk'
theorem c_opensFound (x : CX σ P a) (hF : FOK P.n F) (hc : FC σ F) : wp (f_X1_opensFound (some 0) σ) (fun _ τ => Fr [24, 26] [] [] σ τ ∧ AI τ 24 8 (fdM P a F) ∧ AI τ 26 64 (fun _ => 0)) := by
  have x0 := x
  have h8 := x.h8
  have n8 := x.n8
  have m12 := hF.1
  generalize hQ : (fun (_ : Unit) τ => Fr [24, 26] [] [] σ τ ∧ AI τ 24 8 (fdM P a F) ∧ AI τ 26 64 (fun _ => 0)) = Q
  unfold f_X1_opensFound
  simp (disch := first | omega | exact x.s | exact hi_eq | ((repeat (first | exact x.s | apply sw_I | apply sw_L | apply sw_cp | apply sw_18 | apply sw_21 | apply sw_22 | apply sw_m12 | apply sw_m18)); done) | rfl) only [wp_ite, wp_some, y_jn, wp_r0, wp_r1, wp_b2, y_nn, w_bc, w_nt, wo_0, wg_0, wi_0, w_has, w_isRider, w_isPair, w_isHour, w_in, w_in0, w_in_0_1, w_in_0_10, w_in_0_3, w_in_0_30, w_in_0_60, w_in_0_7, w_in_0_9, w_in_0_999, w_in_1_60, w_in_20_27, w_in_2_40, w_in_48_57, w_whole, w_all, wt_0, wt_1, wt_2, nI_add, nI_1, nI_mul, nI_and, nI_or, nI_sd, nI_sub, l_sub1, l_addm1, l_all, l_1shl, l_or0, l_add0, l_0add, l_m1, l_m1r, l_neg, l_nn, l_eq0, l_le0, l_0lt, l_eq1, l_m1lt, l_m1le, l_m1eq0, l_10, l_00, l_1le, nI_le_l, nI_lt_l, nI_eq_l, bc_nI, nt_nI, bit_nI, b2_ite, b2_ite1, nI_max, nI_min, isR_nI, hi_ne, hi_ni, hi_eq, y_iL, y_iR, y_lI, y_lR, hl_ne, hl_ni, hl_eq, y_rI, y_rL, if_true, if_false, if_pos, if_neg, true_and, and_true, not_true_eq_false, not_false_eq_true, x.n, x.h, x.b, x.mo, x.wi, x.ca, x.ro, x.ti, x.il, x.ni, x.ga, x.ri]
  rw [wp_bnd]
  refine wp_mono (c_opens x (w := 0) (by decide)) (fun _ τ h => ?_)
  obtain ⟨f, h1, h2⟩ := h
  refine wp_up F.m (fun k y τ => y = nI k ∧ Fr [24, 26] [] [] σ τ ∧ AI τ 24 8 (fdS P a F k).1 ∧ AI τ 26 64 (fun _ => 0)) (fun ag k y τ hk' hJ hag => ?_) (fun ag y τ hJ => ?_) (by omega) ⟨rfl, f, h1, h2⟩
  · obtain ⟨rfl, f, h1, h2⟩ := hJ
    replace x := x0.fr f rfl
    obtain ⟨e44, hf⟩ := hc.fr f rfl
    obtain ⟨e31, e32, e33⟩ := hf k hk'
    obtain ⟨g1, g2⟩ := hF.2 k hk'
    obtain ⟨mk, -⟩ := fd_ok (a := a) hF k (by omega)
    have st : fdS P a F (k + 1) = if F.h k < P.hrs then (if F.b k then (fixM (fdS P a F k).1 (F.h k) (F.r k), up1 (fdS P a F k).2 (F.r k) ((fdS P a F k).2 (F.r k) ||| 2 ^ F.h k)) else (up1 (fdS P a F k).1 (F.r k) (sd ((fdS P a F k).1 (F.r k)) (2 ^ F.h k)), (fdS P a F k).2)) else fdS P a F k := rfl
    rw [st] at hag
    generalize fdS P a F k = s at *
    have e24 := h1 (F.r k) (by omega)
    unfold f_X1_opensFound_b7
    by_cases c1 : F.h k < P.hrs
    · rw [if_pos c1] at hag
      cases hb : F.b k with
      | true =>
        rw [hb, if_pos rfl] at hag e33
        simp (disch := first | omega | exact x.s | exact hi_eq | ((repeat (first | exact x.s | apply sw_I | apply sw_L | apply sw_cp | apply sw_18 | apply sw_21 | apply sw_22 | apply sw_m12 | apply sw_m18)); done) | rfl) only [wp_ite, wp_some, y_jn, wp_r0, wp_r1, wp_b2, y_nn, w_bc, w_nt, wo_0, wg_0, wi_0, wr_0_35, wr_0_45, wr_0_46, wr_0_47, wl_24, ws_24, wl_31, ws_31, wl_32, ws_32, wl_33, ws_33, w_has, w_isRider, w_isPair, w_isHour, w_in, w_in0, w_in_0_1, w_in_0_10, w_in_0_3, w_in_0_30, w_in_0_60, w_in_0_7, w_in_0_9, w_in_0_999, w_in_1_60, w_in_20_27, w_in_2_40, w_in_48_57, w_whole, w_all, wt_0, wt_1, wt_2, nI_add, nI_1, nI_mul, nI_and, nI_or, nI_sd, nI_sub, l_sub1, l_addm1, l_all, l_1shl, l_or0, l_add0, l_0add, l_m1, l_m1r, l_neg, l_nn, l_eq0, l_le0, l_0lt, l_eq1, l_m1lt, l_m1le, l_m1eq0, l_10, l_00, l_1le, nI_le_l, nI_lt_l, nI_eq_l, bc_nI, nt_nI, bit_nI, b2_ite, b2_ite1, nI_max, nI_min, isR_nI, n_100, hi_ne, hi_ni, hi_eq, y_iL, y_iR, y_lI, y_lR, hl_ne, hl_ni, hl_eq, y_rI, y_rL, if_true, if_false, if_pos, if_neg, true_and, and_true, not_true_eq_false, not_false_eq_true, x.n, x.h, x.b, x.mo, x.wi, x.ca, x.ro, x.ti, x.il, x.ni, x.ga, x.ri, e44, e31, e32, e33, c1]
        rw [wp_bnd]
        refine wp_mono (c_fixes x g1 (show F.r k < 256 by omega) h1 mk) (fun _ τ2 h => ?_)
        exact hag _ _ ⟨rfl, f.then h.1 rfl, h.2, h2.fr h.1 rfl (by decide) (by decide)⟩
      | false =>
        rw [hb, if_neg (by decide)] at hag e33
        simp (disch := first | omega | exact x.s | exact hi_eq | ((repeat (first | exact x.s | apply sw_I | apply sw_L | apply sw_cp | apply sw_18 | apply sw_21 | apply sw_22 | apply sw_m12 | apply sw_m18)); done) | rfl) only [wp_ite, wp_some, y_jn, wp_r0, wp_r1, wp_b2, y_nn, w_bc, w_nt, wo_0, wg_0, wi_0, wr_0_35, wr_0_45, wr_0_46, wr_0_47, wl_24, ws_24, wl_31, ws_31, wl_32, ws_32, wl_33, ws_33, w_has, w_isRider, w_isPair, w_isHour, w_in, w_in0, w_in_0_1, w_in_0_10, w_in_0_3, w_in_0_30, w_in_0_60, w_in_0_7, w_in_0_9, w_in_0_999, w_in_1_60, w_in_20_27, w_in_2_40, w_in_48_57, w_whole, w_all, wt_0, wt_1, wt_2, nI_add, nI_1, nI_mul, nI_and, nI_or, nI_sd, nI_sub, l_sub1, l_addm1, l_all, l_1shl, l_or0, l_add0, l_0add, l_m1, l_m1r, l_neg, l_nn, l_eq0, l_le0, l_0lt, l_eq1, l_m1lt, l_m1le, l_m1eq0, l_10, l_00, l_1le, nI_le_l, nI_lt_l, nI_eq_l, bc_nI, nt_nI, bit_nI, b2_ite, b2_ite1, nI_max, nI_min, isR_nI, n_100, hi_ne, hi_ni, hi_eq, y_iL, y_iR, y_lI, y_lR, hl_ne, hl_ni, hl_eq, y_rI, y_rL, if_true, if_false, if_pos, if_neg, true_and, and_true, not_true_eq_false, not_false_eq_true, x.n, x.h, x.b, x.mo, x.wi, x.ca, x.ro, x.ti, x.il, x.ni, x.ga, x.ri, e44, e31, e32, e33, c1, l_01, e24]
        exact hag _ _ ⟨rfl, f.putI rfl, h1.put _ _, h2.ne (by decide)⟩
    · rw [if_neg c1] at hag
      simp (disch := first | omega | exact x.s | exact hi_eq | ((repeat (first | exact x.s | apply sw_I | apply sw_L | apply sw_cp | apply sw_18 | apply sw_21 | apply sw_22 | apply sw_m12 | apply sw_m18)); done) | rfl) only [wp_ite, wp_some, y_jn, wp_r0, wp_r1, wp_b2, y_nn, w_bc, w_nt, wo_0, wg_0, wi_0, wr_0_35, wr_0_45, wr_0_46, wr_0_47, wl_24, ws_24, wl_31, ws_31, wl_32, ws_32, wl_33, ws_33, w_has, w_isRider, w_isPair, w_isHour, w_in, w_in0, w_in_0_1, w_in_0_10, w_in_0_3, w_in_0_30, w_in_0_60, w_in_0_7, w_in_0_9, w_in_0_999, w_in_1_60, w_in_20_27, w_in_2_40, w_in_48_57, w_whole, w_all, wt_0, wt_1, wt_2, nI_add, nI_1, nI_mul, nI_and, nI_or, nI_sd, nI_sub, l_sub1, l_addm1, l_all, l_1shl, l_or0, l_add0, l_0add, l_m1, l_m1r, l_neg, l_nn, l_eq0, l_le0, l_0lt, l_eq1, l_m1lt, l_m1le, l_m1eq0, l_10, l_00, l_1le, nI_le_l, nI_lt_l, nI_eq_l, bc_nI, nt_nI, bit_nI, b2_ite, b2_ite1, nI_max, nI_min, isR_nI, n_100, hi_ne, hi_ni, hi_eq, y_iL, y_iR, y_lI, y_lR, hl_ne, hl_ni, hl_eq, y_rI, y_rL, if_true, if_false, if_pos, if_neg, true_and, and_true, not_true_eq_false, not_false_eq_true, x.n, x.h, x.b, x.mo, x.wi, x.ca, x.ro, x.ti, x.il, x.ni, x.ga, x.ri, e44, e31, c1]
      exact hag _ _ ⟨rfl, f, h1, h2⟩
  · obtain ⟨rfl, f, h1, h2⟩ := hJ
    replace x := x0.fr f rfl
    obtain ⟨e44, hf⟩ := hc.fr f rfl
    unfold f_X1_opensFound_b7
    simp (disch := first | omega | exact x.s | exact hi_eq | ((repeat (first | exact x.s | apply sw_I | apply sw_L | apply sw_cp | apply sw_18 | apply sw_21 | apply sw_22 | apply sw_m12 | apply sw_m18)); done) | rfl) only [wp_ite, wp_some, y_jn, wp_r0, wp_r1, wp_b2, y_nn, w_bc, w_nt, wo_0, wg_0, wi_0, wr_0_35, wr_0_45, wr_0_46, wr_0_47, wl_24, ws_24, wl_31, ws_31, wl_32, ws_32, wl_33, ws_33, w_has, w_isRider, w_isPair, w_isHour, w_in, w_in0, w_in_0_1, w_in_0_10, w_in_0_3, w_in_0_30, w_in_0_60, w_in_0_7, w_in_0_9, w_in_0_999, w_in_1_60, w_in_20_27, w_in_2_40, w_in_48_57, w_whole, w_all, wt_0, wt_1, wt_2, nI_add, nI_1, nI_mul, nI_and, nI_or, nI_sd, nI_sub, l_sub1, l_addm1, l_all, l_1shl, l_or0, l_add0, l_0add, l_m1, l_m1r, l_neg, l_nn, l_eq0, l_le0, l_0lt, l_eq1, l_m1lt, l_m1le, l_m1eq0, l_10, l_00, l_1le, nI_le_l, nI_lt_l, nI_eq_l, bc_nI, nt_nI, bit_nI, b2_ite, b2_ite1, nI_max, nI_min, isR_nI, n_100, hi_ne, hi_ni, hi_eq, y_iL, y_iR, y_lI, y_lR, hl_ne, hl_ni, hl_eq, y_rI, y_rL, if_true, if_false, if_pos, if_neg, true_and, and_true, not_true_eq_false, not_false_eq_true, x.n, x.h, x.b, x.mo, x.wi, x.ca, x.ro, x.ti, x.il, x.ni, x.ga, x.ri, e44]
    rw [← hQ]
    exact ⟨f, h1, h2⟩
theorem c_fitsIf (x : CX σ P a) (hF : FOK P.n F) (hc : FC σ F) {h r : Nat} (hh : h < 8) (hr' : r < P.n) : wp (f_X1_fitsIf (some 0) (nI h) (nI r) σ) (fun v τ => v = nL (fitW P (fdM P a F) h r) ∧ Fr [24, 26, 30] [] [] σ τ) := by
  have x0 := x
  have n8 := x.n8
  have mk := (fd_ok (a := a) hF F.m (Nat.le_refl _)).1
  unfold f_X1_fitsIf
  simp (disch := first | omega | exact x.s | exact hi_eq | ((repeat (first | exact x.s | apply sw_I | apply sw_L | apply sw_cp | apply sw_18 | apply sw_21 | apply sw_22 | apply sw_m12 | apply sw_m18)); done) | rfl) only [wp_ite, wp_some, y_jn, wp_r0, wp_r1, wp_b2, y_nn, w_bc, w_nt, wo_0, wg_0, wi_0, w_has, w_isRider, w_isPair, w_isHour, w_in, w_in0, w_in_0_1, w_in_0_10, w_in_0_3, w_in_0_30, w_in_0_60, w_in_0_7, w_in_0_9, w_in_0_999, w_in_1_60, w_in_20_27, w_in_2_40, w_in_48_57, w_whole, w_all, wt_0, wt_1, wt_2, nI_add, nI_1, nI_mul, nI_and, nI_or, nI_sd, nI_sub, l_sub1, l_addm1, l_all, l_1shl, l_or0, l_add0, l_0add, l_m1, l_m1r, l_neg, l_nn, l_eq0, l_le0, l_0lt, l_eq1, l_m1lt, l_m1le, l_m1eq0, l_10, l_00, l_1le, nI_le_l, nI_lt_l, nI_eq_l, bc_nI, nt_nI, bit_nI, b2_ite, b2_ite1, nI_max, nI_min, isR_nI, hi_ne, hi_ni, hi_eq, y_iL, y_iR, y_lI, y_lR, hl_ne, hl_ni, hl_eq, y_rI, y_rL, if_true, if_false, if_pos, if_neg, true_and, and_true, not_true_eq_false, not_false_eq_true, x.n, x.h, x.b, x.mo, x.wi, x.ca, x.ro, x.ti, x.il, x.ni, x.ga, x.ri]
  rw [wp_bnd]
  refine wp_mono (c_opensFound x hF hc) (fun _ τ h => ?_)
  obtain ⟨f, h1, h2⟩ := h
  replace x := x0.fr f rfl
  simp (disch := first | omega | exact x.s | exact hi_eq | ((repeat (first | exact x.s | apply sw_I | apply sw_L | apply sw_cp | apply sw_18 | apply sw_21 | apply sw_22 | apply sw_m12 | apply sw_m18)); done) | rfl) only [wp_ite, wp_some, y_jn, wp_r0, wp_r1, wp_b2, y_nn, w_bc, w_nt, wo_0, wg_0, wi_0, w_has, w_isRider, w_isPair, w_isHour, w_in, w_in0, w_in_0_1, w_in_0_10, w_in_0_3, w_in_0_30, w_in_0_60, w_in_0_7, w_in_0_9, w_in_0_999, w_in_1_60, w_in_20_27, w_in_2_40, w_in_48_57, w_whole, w_all, wt_0, wt_1, wt_2, nI_add, nI_1, nI_mul, nI_and, nI_or, nI_sd, nI_sub, l_sub1, l_addm1, l_all, l_1shl, l_or0, l_add0, l_0add, l_m1, l_m1r, l_neg, l_nn, l_eq0, l_le0, l_0lt, l_eq1, l_m1lt, l_m1le, l_m1eq0, l_10, l_00, l_1le, nI_le_l, nI_lt_l, nI_eq_l, bc_nI, nt_nI, bit_nI, b2_ite, b2_ite1, nI_max, nI_min, isR_nI, hi_ne, hi_ni, hi_eq, y_iL, y_iR, y_lI, y_lR, hl_ne, hl_ni, hl_eq, y_rI, y_rL, if_true, if_false, if_pos, if_neg, true_and, and_true, not_true_eq_false, not_false_eq_true, x.n, x.h, x.b, x.mo, x.wi, x.ca, x.ro, x.ti, x.il, x.ni, x.ga, x.ri]
  rw [wp_bnd]
  refine wp_mono (c_fixes x hh (show r < 256 by omega) h1 mk) (fun _ τ2 h => ?_)
  obtain ⟨f2, h3⟩ := h
  have ff : Fr [24, 26, 30] [] [] σ τ2 := (f.mono rfl).then f2 rfl
  replace x := x0.fr ff rfl
  simp (disch := first | omega | exact x.s | exact hi_eq | ((repeat (first | exact x.s | apply sw_I | apply sw_L | apply sw_cp | apply sw_18 | apply sw_21 | apply sw_22 | apply sw_m12 | apply sw_m18)); done) | rfl) only [wp_ite, wp_some, y_jn, wp_r0, wp_r1, wp_b2, y_nn, w_bc, w_nt, wo_0, wg_0, wi_0, w_has, w_isRider, w_isPair, w_isHour, w_in, w_in0, w_in_0_1, w_in_0_10, w_in_0_3, w_in_0_30, w_in_0_60, w_in_0_7, w_in_0_9, w_in_0_999, w_in_1_60, w_in_20_27, w_in_2_40, w_in_48_57, w_whole, w_all, wt_0, wt_1, wt_2, nI_add, nI_1, nI_mul, nI_and, nI_or, nI_sd, nI_sub, l_sub1, l_addm1, l_all, l_1shl, l_or0, l_add0, l_0add, l_m1, l_m1r, l_neg, l_nn, l_eq0, l_le0, l_0lt, l_eq1, l_m1lt, l_m1le, l_m1eq0, l_10, l_00, l_1le, nI_le_l, nI_lt_l, nI_eq_l, bc_nI, nt_nI, bit_nI, b2_ite, b2_ite1, nI_max, nI_min, isR_nI, hi_ne, hi_ni, hi_eq, y_iL, y_iR, y_lI, y_lR, hl_ne, hl_ni, hl_eq, y_rI, y_rL, if_true, if_false, if_pos, if_neg, true_and, and_true, not_true_eq_false, not_false_eq_true, x.n, x.h, x.b, x.mo, x.wi, x.ca, x.ro, x.ti, x.il, x.ni, x.ga, x.ri]
  rw [wp_bnd]
  refine wp_mono (c_laysWays x h3) (fun v τ3 h => ?_)
  rw [wp_some]
  exact ⟨h.1, ff.then h.2 rfl⟩
theorem c_fits (x : CX σ P a) (s : SC σ) (hF : FOK P.n F) (hc : FC σ F) : wp (f_X1_fits (some 0) σ) (QuC σ (nI (cntW P (fdM P a F))) (some (wayW P (fdM P a F)))) := by
  have x0 := x
  have mk := (fd_ok (a := a) hF F.m (Nat.le_refl _)).1
  unfold f_X1_fits
  simp (disch := first | omega | exact x.s | exact hi_eq | ((repeat (first | exact x.s | apply sw_I | apply sw_L | apply sw_cp | apply sw_18 | apply sw_21 | apply sw_22 | apply sw_m12 | apply sw_m18)); done) | rfl) only [wp_ite, wp_some, y_jn, wp_r0, wp_r1, wp_b2, y_nn, w_bc, w_nt, wo_0, wg_0, wi_0, w_has, w_isRider, w_isPair, w_isHour, w_in, w_in0, w_in_0_1, w_in_0_10, w_in_0_3, w_in_0_30, w_in_0_60, w_in_0_7, w_in_0_9, w_in_0_999, w_in_1_60, w_in_20_27, w_in_2_40, w_in_48_57, w_whole, w_all, wt_0, wt_1, wt_2, nI_add, nI_1, nI_mul, nI_and, nI_or, nI_sd, nI_sub, l_sub1, l_addm1, l_all, l_1shl, l_or0, l_add0, l_0add, l_m1, l_m1r, l_neg, l_nn, l_eq0, l_le0, l_0lt, l_eq1, l_m1lt, l_m1le, l_m1eq0, l_10, l_00, l_1le, nI_le_l, nI_lt_l, nI_eq_l, bc_nI, nt_nI, bit_nI, b2_ite, b2_ite1, nI_max, nI_min, isR_nI, hi_ne, hi_ni, hi_eq, y_iL, y_iR, y_lI, y_lR, hl_ne, hl_ni, hl_eq, y_rI, y_rL, if_true, if_false, if_pos, if_neg, true_and, and_true, not_true_eq_false, not_false_eq_true, x.n, x.h, x.b, x.mo, x.wi, x.ca, x.ro, x.ti, x.il, x.ni, x.ga, x.ri]
  rw [wp_bnd]
  refine wp_mono (c_opensFound x hF hc) (fun _ τ h => ?_)
  obtain ⟨f, h1, h2⟩ := h
  replace x := x0.fr f rfl
  simp (disch := first | omega | exact x.s | exact hi_eq | ((repeat (first | exact x.s | apply sw_I | apply sw_L | apply sw_cp | apply sw_18 | apply sw_21 | apply sw_22 | apply sw_m12 | apply sw_m18)); done) | rfl) only [wp_ite, wp_some, y_jn, wp_r0, wp_r1, wp_b2, y_nn, w_bc, w_nt, wo_0, wg_0, wi_0, w_has, w_isRider, w_isPair, w_isHour, w_in, w_in0, w_in_0_1, w_in_0_10, w_in_0_3, w_in_0_30, w_in_0_60, w_in_0_7, w_in_0_9, w_in_0_999, w_in_1_60, w_in_20_27, w_in_2_40, w_in_48_57, w_whole, w_all, wt_0, wt_1, wt_2, nI_add, nI_1, nI_mul, nI_and, nI_or, nI_sd, nI_sub, l_sub1, l_addm1, l_all, l_1shl, l_or0, l_add0, l_0add, l_m1, l_m1r, l_neg, l_nn, l_eq0, l_le0, l_0lt, l_eq1, l_m1lt, l_m1le, l_m1eq0, l_10, l_00, l_1le, nI_le_l, nI_lt_l, nI_eq_l, bc_nI, nt_nI, bit_nI, b2_ite, b2_ite1, nI_max, nI_min, isR_nI, hi_ne, hi_ni, hi_eq, y_iL, y_iR, y_lI, y_lR, hl_ne, hl_ni, hl_eq, y_rI, y_rL, if_true, if_false, if_pos, if_neg, true_and, and_true, not_true_eq_false, not_false_eq_true, x.n, x.h, x.b, x.mo, x.wi, x.ca, x.ro, x.ti, x.il, x.ni, x.ga, x.ri]
  rw [wp_bnd]
  refine wp_mono (c_tellsWays x ⟨h1, fun r h a1 a2 => h2 _ (by omega), (f.i rfl).trans s.1, (f.i rfl).trans s.2⟩ mk) (fun y τ' h => ?_)
  obtain ⟨rfl, f', s', hr'⟩ := h
  rw [wp_some]
  exact ⟨rfl, (f.mono rfl).trans (f'.mono rfl), s', hr'⟩
theorem c_sure (x : CX σ P a) (s : SC σ) (hF : FOK P.n F) (hc : FC σ F) {h r : Nat} (hh : h < P.hrs) (hr' : r < P.n) : wp (f_X1_sure (some 0) (nI h) (nI r) σ) (QuC σ (sureR P (fdM P a F) h r).1 (sureR P (fdM P a F) h r).2) := by
  have x0 := x
  have n8 := x.n8
  have h8 := x.h8
  have b1 := cntW_le (may := fdM P a F) h8 n8
  have b2' : fitW P (fdM P a F) h r ≤ 16777216 := cntW_le h8 n8
  generalize hQ : QuC σ (sureR P (fdM P a F) h r).1 (sureR P (fdM P a F) h r).2 = Q
  unfold sureR at hQ
  unfold f_X1_sure
  simp (disch := first | omega | exact x.s | exact hi_eq | ((repeat (first | exact x.s | apply sw_I | apply sw_L | apply sw_cp | apply sw_18 | apply sw_21 | apply sw_22 | apply sw_m12 | apply sw_m18)); done) | rfl) only [wp_ite, wp_some, y_jn, wp_r0, wp_r1, wp_b2, y_nn, w_bc, w_nt, wo_0, wg_0, wi_0, w_has, w_isRider, w_isPair, w_isHour, w_in, w_in0, w_in_0_1, w_in_0_10, w_in_0_3, w_in_0_30, w_in_0_60, w_in_0_7, w_in_0_9, w_in_0_999, w_in_1_60, w_in_20_27, w_in_2_40, w_in_48_57, w_whole, w_all, wt_0, wt_1, wt_2, nI_add, nI_1, nI_mul, nI_and, nI_or, nI_sd, nI_sub, l_sub1, l_addm1, l_all, l_1shl, l_or0, l_add0, l_0add, l_m1, l_m1r, l_neg, l_nn, l_eq0, l_le0, l_0lt, l_eq1, l_m1lt, l_m1le, l_m1eq0, l_10, l_00, l_1le, nI_le_l, nI_lt_l, nI_eq_l, bc_nI, nt_nI, bit_nI, b2_ite, b2_ite1, nI_max, nI_min, isR_nI, n_2, hi_ne, hi_ni, hi_eq, y_iL, y_iR, y_lI, y_lR, hl_ne, hl_ni, hl_eq, y_rI, y_rL, if_true, if_false, if_pos, if_neg, true_and, and_true, not_true_eq_false, not_false_eq_true, x.n, x.h, x.b, x.mo, x.wi, x.ca, x.ro, x.ti, x.il, x.ni, x.ga, x.ri, hh, hr']
  rw [wp_bnd]
  refine wp_mono (c_opensFound x hF hc) (fun _ τ h => ?_)
  obtain ⟨f, h1, h2⟩ := h
  replace x := x0.fr f rfl
  simp (disch := first | omega | exact x.s | exact hi_eq | ((repeat (first | exact x.s | apply sw_I | apply sw_L | apply sw_cp | apply sw_18 | apply sw_21 | apply sw_22 | apply sw_m12 | apply sw_m18)); done) | rfl) only [wp_ite, wp_some, y_jn, wp_r0, wp_r1, wp_b2, y_nn, w_bc, w_nt, wo_0, wg_0, wi_0, w_has, w_isRider, w_isPair, w_isHour, w_in, w_in0, w_in_0_1, w_in_0_10, w_in_0_3, w_in_0_30, w_in_0_60, w_in_0_7, w_in_0_9, w_in_0_999, w_in_1_60, w_in_20_27, w_in_2_40, w_in_48_57, w_whole, w_all, wt_0, wt_1, wt_2, nI_add, nI_1, nI_mul, nI_and, nI_or, nI_sd, nI_sub, l_sub1, l_addm1, l_all, l_1shl, l_or0, l_add0, l_0add, l_m1, l_m1r, l_neg, l_nn, l_eq0, l_le0, l_0lt, l_eq1, l_m1lt, l_m1le, l_m1eq0, l_10, l_00, l_1le, nI_le_l, nI_lt_l, nI_eq_l, bc_nI, nt_nI, bit_nI, b2_ite, b2_ite1, nI_max, nI_min, isR_nI, n_2, hi_ne, hi_ni, hi_eq, y_iL, y_iR, y_lI, y_lR, hl_ne, hl_ni, hl_eq, y_rI, y_rL, if_true, if_false, if_pos, if_neg, true_and, and_true, not_true_eq_false, not_false_eq_true, x.n, x.h, x.b, x.mo, x.wi, x.ca, x.ro, x.ti, x.il, x.ni, x.ga, x.ri]
  rw [wp_bnd]
  refine wp_mono (c_laysWays x h1) (fun v τ2 h => ?_)
  obtain ⟨rfl, f2⟩ := h
  have f3 : Fr [24, 26, 30] [] [] σ τ2 := (f.mono rfl).then f2 rfl
  replace x := x0.fr f3 rfl
  by_cases c : cntW P (fdM P a F) = 0
  · rw [if_pos c] at hQ
    rw [if_pos ((lg0 (by omega)).mpr c), wp_some, ← hQ]
    exact ⟨rfl, f3.mono rfl, s.fr f3 rfl, RwC.fr f3 rfl⟩
  · rw [if_neg c] at hQ
    rw [if_neg (fun z => c ((lg0 (by omega)).mp z))]
    simp (disch := first | omega | exact x.s | exact hi_eq | ((repeat (first | exact x.s | apply sw_I | apply sw_L | apply sw_cp | apply sw_18 | apply sw_21 | apply sw_22 | apply sw_m12 | apply sw_m18)); done) | rfl) only [wp_ite, wp_some, y_jn, wp_r0, wp_r1, wp_b2, y_nn, w_bc, w_nt, wo_0, wg_0, wi_0, w_has, w_isRider, w_isPair, w_isHour, w_in, w_in0, w_in_0_1, w_in_0_10, w_in_0_3, w_in_0_30, w_in_0_60, w_in_0_7, w_in_0_9, w_in_0_999, w_in_1_60, w_in_20_27, w_in_2_40, w_in_48_57, w_whole, w_all, wt_0, wt_1, wt_2, nI_add, nI_1, nI_mul, nI_and, nI_or, nI_sd, nI_sub, l_sub1, l_addm1, l_all, l_1shl, l_or0, l_add0, l_0add, l_m1, l_m1r, l_neg, l_nn, l_eq0, l_le0, l_0lt, l_eq1, l_m1lt, l_m1le, l_m1eq0, l_10, l_00, l_1le, nI_le_l, nI_lt_l, nI_eq_l, bc_nI, nt_nI, bit_nI, b2_ite, b2_ite1, nI_max, nI_min, isR_nI, n_2, hi_ne, hi_ni, hi_eq, y_iL, y_iR, y_lI, y_lR, hl_ne, hl_ni, hl_eq, y_rI, y_rL, if_true, if_false, if_pos, if_neg, true_and, and_true, not_true_eq_false, not_false_eq_true, x.n, x.h, x.b, x.mo, x.wi, x.ca, x.ro, x.ti, x.il, x.ni, x.ga, x.ri]
    rw [wp_bnd]
    refine wp_mono (c_fitsIf x hF (hc.fr f3 rfl) (by omega) hr') (fun v τ3 h => ?_)
    obtain ⟨rfl, f4⟩ := h
    have f5 := f3.then f4 rfl
    replace x := x0.fr f5 rfl
    simp (disch := first | omega | exact x.s | exact hi_eq | ((repeat (first | exact x.s | apply sw_I | apply sw_L | apply sw_cp | apply sw_18 | apply sw_21 | apply sw_22 | apply sw_m12 | apply sw_m18)); done) | rfl) only [wp_ite, wp_some, y_jn, wp_r0, wp_r1, wp_b2, y_nn, w_bc, w_nt, wo_0, wg_0, wi_0, w_has, w_isRider, w_isPair, w_isHour, w_in, w_in0, w_in_0_1, w_in_0_10, w_in_0_3, w_in_0_30, w_in_0_60, w_in_0_7, w_in_0_9, w_in_0_999, w_in_1_60, w_in_20_27, w_in_2_40, w_in_48_57, w_whole, w_all, wt_0, wt_1, wt_2, nI_add, nI_1, nI_mul, nI_and, nI_or, nI_sd, nI_sub, l_sub1, l_addm1, l_all, l_1shl, l_or0, l_add0, l_0add, l_m1, l_m1r, l_neg, l_nn, l_eq0, l_le0, l_0lt, l_eq1, l_m1lt, l_m1le, l_m1eq0, l_10, l_00, l_1le, nI_le_l, nI_lt_l, nI_eq_l, bc_nI, nt_nI, bit_nI, b2_ite, b2_ite1, nI_max, nI_min, isR_nI, n_2, hi_ne, hi_ni, hi_eq, y_iL, y_iR, y_lI, y_lR, hl_ne, hl_ni, hl_eq, y_rI, y_rL, if_true, if_false, if_pos, if_neg, true_and, and_true, not_true_eq_false, not_false_eq_true, x.n, x.h, x.b, x.mo, x.wi, x.ca, x.ro, x.ti, x.il, x.ni, x.ga, x.ri]
    rw [wp_bnd]
    refine wp_mono (c_fraction x (by omega) (by omega) (by omega)) (fun _ τ4 h => ?_)
    rw [wp_some, nL_i, ← hQ]
    have f6 : Fr [24, 26, 30, 36] [52] [] σ τ4 := (f5.mono rfl).then h.1 rfl
    exact ⟨rfl, f6.mono rfl, s.fr f6 rfl, h.2⟩
theorem c_askIn (x : CX σ P a) (hF : FOK P.n F) (hc : FC σ F) {h : Nat} (hh : h < 8) {k0 : Int64 → Hp → Option (Int32 × Hp)} {Q : Int32 → Hp → Prop} (hk0 : ∀ τ, Fr [24, 26, 30] [] [] σ τ → wp (k0 (nL (mxN (fitW P (fdM P a F) h) P.n)) τ) Q) : wp (lp 2000 (f_X1_ask_b40 (some 0) (nI h) k0) (0, 0) σ) Q := by
  have x0 := x
  have n8 := x.n8
  have h8 := x.h8
  have bw : ∀ r, fitW P (fdM P a F) h r ≤ 16777216 := fun r => cntW_le h8 n8
  refine wp_up P.n (fun r y τ => y = (nL (mxN (fitW P (fdM P a F) h) r), nI r) ∧ Fr [24, 26, 30] [] [] σ τ) (fun ag r y τ hr' hJ hag => ?_) (fun ag y τ hJ => ?_) (by omega) ⟨rfl, Fr.refl⟩
  · obtain ⟨rfl, f⟩ := hJ
    replace x := x0.fr f rfl
    have b1 := bw r
    have b2' := mxN_le bw r
    unfold f_X1_ask_b40
    simp (disch := first | omega | exact x.s | exact hi_eq | ((repeat (first | exact x.s | apply sw_I | apply sw_L | apply sw_cp | apply sw_18 | apply sw_21 | apply sw_22 | apply sw_m12 | apply sw_m18)); done) | rfl) only [wp_ite, wp_some, y_jn, wp_r0, wp_r1, wp_b2, y_nn, w_bc, w_nt, wo_0, wg_0, wi_0, w_has, w_isRider, w_isPair, w_isHour, w_in, w_in0, w_in_0_1, w_in_0_10, w_in_0_3, w_in_0_30, w_in_0_60, w_in_0_7, w_in_0_9, w_in_0_999, w_in_1_60, w_in_20_27, w_in_2_40, w_in_48_57, w_whole, w_all, wt_0, wt_1, wt_2, nI_add, nI_1, nI_mul, nI_and, nI_or, nI_sd, nI_sub, l_sub1, l_addm1, l_all, l_1shl, l_or0, l_add0, l_0add, l_m1, l_m1r, l_neg, l_nn, l_eq0, l_le0, l_0lt, l_eq1, l_m1lt, l_m1le, l_m1eq0, l_10, l_00, l_1le, nI_le_l, nI_lt_l, nI_eq_l, bc_nI, nt_nI, bit_nI, b2_ite, b2_ite1, nI_max, nI_min, isR_nI, n_5, hi_ne, hi_ni, hi_eq, y_iL, y_iR, y_lI, y_lR, hl_ne, hl_ni, hl_eq, y_rI, y_rL, if_true, if_false, if_pos, if_neg, true_and, and_true, not_true_eq_false, not_false_eq_true, x.n, x.h, x.b, x.mo, x.wi, x.ca, x.ro, x.ti, x.il, x.ni, x.ga, x.ri]
    rw [wp_bnd]
    refine wp_mono (c_fitsIf x hF (hc.fr f rfl) hh hr') (fun v τ2 h => ?_)
    obtain ⟨rfl, f2⟩ := h
    rw [nL_max (by omega) (by omega)]
    exact hag _ _ ⟨rfl, f.then f2 rfl⟩
  · obtain ⟨rfl, f⟩ := hJ
    replace x := x0.fr f rfl
    unfold f_X1_ask_b40
    simp (disch := first | omega | exact x.s | exact hi_eq | ((repeat (first | exact x.s | apply sw_I | apply sw_L | apply sw_cp | apply sw_18 | apply sw_21 | apply sw_22 | apply sw_m12 | apply sw_m18)); done) | rfl) only [wp_ite, wp_some, y_jn, wp_r0, wp_r1, wp_b2, y_nn, w_bc, w_nt, wo_0, wg_0, wi_0, w_has, w_isRider, w_isPair, w_isHour, w_in, w_in0, w_in_0_1, w_in_0_10, w_in_0_3, w_in_0_30, w_in_0_60, w_in_0_7, w_in_0_9, w_in_0_999, w_in_1_60, w_in_20_27, w_in_2_40, w_in_48_57, w_whole, w_all, wt_0, wt_1, wt_2, nI_add, nI_1, nI_mul, nI_and, nI_or, nI_sd, nI_sub, l_sub1, l_addm1, l_all, l_1shl, l_or0, l_add0, l_0add, l_m1, l_m1r, l_neg, l_nn, l_eq0, l_le0, l_0lt, l_eq1, l_m1lt, l_m1le, l_m1eq0, l_10, l_00, l_1le, nI_le_l, nI_lt_l, nI_eq_l, bc_nI, nt_nI, bit_nI, b2_ite, b2_ite1, nI_max, nI_min, isR_nI, n_5, hi_ne, hi_ni, hi_eq, y_iL, y_iR, y_lI, y_lR, hl_ne, hl_ni, hl_eq, y_rI, y_rL, if_true, if_false, if_pos, if_neg, true_and, and_true, not_true_eq_false, not_false_eq_true, x.n, x.h, x.b, x.mo, x.wi, x.ca, x.ro, x.ti, x.il, x.ni, x.ga, x.ri]
    exact hk0 _ f
theorem c_ask (x : CX σ P a) (s : SC σ) (hF : FOK P.n F) (hc : FC σ F) : wp (f_X1_ask (some 0) σ) (QuC σ (askR P (fdM P a F)).1 (askR P (fdM P a F)).2) := by
  have x0 := x
  have n8 := x.n8
  have h8 := x.h8
  have hh1 := x.h1
  have b1 := cntW_le (may := fdM P a F) h8 n8
  have bw : ∀ h, mxN (fitW P (fdM P a F) h) P.n ≤ 16777216 := fun h => mxN_le (fun r => cntW_le h8 n8) P.n
  generalize hQ : QuC σ (askR P (fdM P a F)).1 (askR P (fdM P a F)).2 = Q
  unfold askR at hQ
  unfold f_X1_ask
  simp (disch := first | omega | exact x.s | exact hi_eq | ((repeat (first | exact x.s | apply sw_I | apply sw_L | apply sw_cp | apply sw_18 | apply sw_21 | apply sw_22 | apply sw_m12 | apply sw_m18)); done) | rfl) only [wp_ite, wp_some, y_jn, wp_r0, wp_r1, wp_b2, y_nn, w_bc, w_nt, wo_0, wg_0, wi_0, w_has, w_isRider, w_isPair, w_isHour, w_in, w_in0, w_in_0_1, w_in_0_10, w_in_0_3, w_in_0_30, w_in_0_60, w_in_0_7, w_in_0_9, w_in_0_999, w_in_1_60, w_in_20_27, w_in_2_40, w_in_48_57, w_whole, w_all, wt_0, wt_1, wt_2, nI_add, nI_1, nI_mul, nI_and, nI_or, nI_sd, nI_sub, l_sub1, l_addm1, l_all, l_1shl, l_or0, l_add0, l_0add, l_m1, l_m1r, l_neg, l_nn, l_eq0, l_le0, l_0lt, l_eq1, l_m1lt, l_m1le, l_m1eq0, l_10, l_00, l_1le, nI_le_l, nI_lt_l, nI_eq_l, bc_nI, nt_nI, bit_nI, b2_ite, b2_ite1, nI_max, nI_min, isR_nI, n_2, hi_ne, hi_ni, hi_eq, y_iL, y_iR, y_lI, y_lR, hl_ne, hl_ni, hl_eq, y_rI, y_rL, if_true, if_false, if_pos, if_neg, true_and, and_true, not_true_eq_false, not_false_eq_true, x.n, x.h, x.b, x.mo, x.wi, x.ca, x.ro, x.ti, x.il, x.ni, x.ga, x.ri]
  rw [wp_bnd]
  refine wp_mono (c_opensFound x hF hc) (fun _ τ h => ?_)
  obtain ⟨f, h1, h2⟩ := h
  replace x := x0.fr f rfl
  simp (disch := first | omega | exact x.s | exact hi_eq | ((repeat (first | exact x.s | apply sw_I | apply sw_L | apply sw_cp | apply sw_18 | apply sw_21 | apply sw_22 | apply sw_m12 | apply sw_m18)); done) | rfl) only [wp_ite, wp_some, y_jn, wp_r0, wp_r1, wp_b2, y_nn, w_bc, w_nt, wo_0, wg_0, wi_0, w_has, w_isRider, w_isPair, w_isHour, w_in, w_in0, w_in_0_1, w_in_0_10, w_in_0_3, w_in_0_30, w_in_0_60, w_in_0_7, w_in_0_9, w_in_0_999, w_in_1_60, w_in_20_27, w_in_2_40, w_in_48_57, w_whole, w_all, wt_0, wt_1, wt_2, nI_add, nI_1, nI_mul, nI_and, nI_or, nI_sd, nI_sub, l_sub1, l_addm1, l_all, l_1shl, l_or0, l_add0, l_0add, l_m1, l_m1r, l_neg, l_nn, l_eq0, l_le0, l_0lt, l_eq1, l_m1lt, l_m1le, l_m1eq0, l_10, l_00, l_1le, nI_le_l, nI_lt_l, nI_eq_l, bc_nI, nt_nI, bit_nI, b2_ite, b2_ite1, nI_max, nI_min, isR_nI, n_2, hi_ne, hi_ni, hi_eq, y_iL, y_iR, y_lI, y_lR, hl_ne, hl_ni, hl_eq, y_rI, y_rL, if_true, if_false, if_pos, if_neg, true_and, and_true, not_true_eq_false, not_false_eq_true, x.n, x.h, x.b, x.mo, x.wi, x.ca, x.ro, x.ti, x.il, x.ni, x.ga, x.ri]
  rw [wp_bnd]
  refine wp_mono (c_laysWays x h1) (fun v τ2 h => ?_)
  obtain ⟨rfl, f2⟩ := h
  have f3 : Fr [24, 26, 30] [] [] σ τ2 := (f.mono rfl).then f2 rfl
  replace x := x0.fr f3 rfl
  by_cases c : cntW P (fdM P a F) = 0
  · rw [if_pos c] at hQ
    rw [if_pos ((lg0 (by omega)).mpr c), wp_some, ← hQ]
    exact ⟨rfl, f3.mono rfl, s.fr f3 rfl, RwC.fr f3 rfl⟩
  · rw [if_neg c] at hQ
    rw [if_neg (fun z => c ((lg0 (by omega)).mp z))]
    generalize hw : (fun h => mxN (fitW P (fdM P a F) h) P.n) = w at *
    have ew : ∀ h, mxN (fitW P (fdM P a F) h) P.n = w h := fun h => by rw [← hw]
    have bw' : ∀ h, w h ≤ 16777216 := fun h => by rw [← ew]; exact bw h
    refine wp_up P.hrs (fun h y τ => y = ((aI (askO w h)).1, (aI (askO w h)).2, nI h) ∧ Fr [24, 26, 30] [] [] σ τ) (fun ag h y τ hh hJ hag => ?_) (fun ag y τ hJ => ?_) (by omega) ⟨rfl, f3⟩
    · obtain ⟨rfl, f⟩ := hJ
      replace x := x0.fr f rfl
      have kl := askO_lt bw' h
      have b3 := bw' h
      have st : askO w (h + 1) = (match askO w h with
        | none => some (h, w h)
        | some x => if w h < x.2 then some (h, w h) else some x) := rfl
      rw [st] at hag
      unfold f_X1_ask_b25
      simp (disch := first | omega | exact x.s | exact hi_eq | ((repeat (first | exact x.s | apply sw_I | apply sw_L | apply sw_cp | apply sw_18 | apply sw_21 | apply sw_22 | apply sw_m12 | apply sw_m18)); done) | rfl) only [wp_ite, wp_some, wp_r0, wp_r1, wp_b2, y_nn, w_bc, w_nt, wo_0, wg_0, wi_0, w_has, w_isRider, w_isPair, w_isHour, w_in, w_in0, w_in_0_1, w_in_0_10, w_in_0_3, w_in_0_30, w_in_0_60, w_in_0_7, w_in_0_9, w_in_0_999, w_in_1_60, w_in_20_27, w_in_2_40, w_in_48_57, w_whole, w_all, wt_0, wt_1, wt_2, nI_add, nI_1, nI_mul, nI_and, nI_or, nI_sd, nI_sub, l_sub1, l_addm1, l_all, l_1shl, l_or0, l_add0, l_0add, l_m1, l_m1r, l_neg, l_nn, l_eq0, l_le0, l_0lt, l_eq1, l_m1lt, l_m1le, l_m1eq0, l_10, l_00, l_1le, nI_le_l, nI_lt_l, nI_eq_l, bc_nI, nt_nI, bit_nI, b2_ite, b2_ite1, nI_max, nI_min, isR_nI, n_6, hi_ne, hi_ni, hi_eq, y_iL, y_iR, y_lI, y_lR, hl_ne, hl_ni, hl_eq, y_rI, y_rL, if_true, if_false, if_pos, if_neg, true_and, and_true, not_true_eq_false, not_false_eq_true, x.n, x.h, x.b, x.mo, x.wi, x.ca, x.ro, x.ti, x.il, x.ni, x.ga, x.ri]
      refine c_askIn x hF (hc.fr f rfl) (show h < 8 by omega) (fun τ3 f4 => ?_)
      rw [ew]
      have f5 := f.then f4 rfl
      have i63 : w h < 2 ^ 63 := by omega
      have lg1 : ∀ y : Int64, (0 ≤ lg_cmp (nL (w h)) y) = ¬ (nL (w h) < y) := fun y => by
        rw [← lg_cmp_lt]
        exact propext Int32.not_lt.symm
      simp only [y_jn, lg1]
      cases hk' : askO w h with
      | none =>
        rw [hk'] at hag
        have h1 : nL (w h) < 9223372036854775807 := by rw [show (9223372036854775807 : Int64) = nL 9223372036854775807 from rfl, nL_lt i63 (by decide)]; omega
        unfold aI lmin at *
        dsimp only at *
        rw [if_neg (fun z => z h1), if_pos h1]
        exact hag _ _ ⟨rfl, f5⟩
      | some y =>
        rw [hk'] at hag
        obtain ⟨y1, y2⟩ := kl y hk'
        dsimp only at hag
        by_cases h1 : w h < y.2
        · rw [if_pos h1] at hag
          have h2 : nL (w h) < nL y.2 := by rw [nL_lt i63 (by omega)]; exact h1
          unfold aI lmin at *
          dsimp only at *
          rw [if_neg (fun z => z h2), if_pos h2]
          exact hag _ _ ⟨rfl, f5⟩
        · rw [if_neg h1] at hag
          have h2 : ¬ nL (w h) < nL y.2 := by rw [nL_lt i63 (by omega)]; exact h1
          unfold aI lmin at *
          dsimp only at *
          rw [if_pos h2, if_neg h2]
          exact hag _ _ ⟨rfl, f5⟩
    · obtain ⟨rfl, f⟩ := hJ
      replace x := x0.fr f rfl
      obtain ⟨y, hy⟩ := askO_some (w := w) (show 0 < P.hrs by omega)
      rw [hy] at hQ ⊢
      dsimp only [aI] at hQ ⊢
      unfold f_X1_ask_b25
      simp (disch := first | omega | exact x.s | exact hi_eq | ((repeat (first | exact x.s | apply sw_I | apply sw_L | apply sw_cp | apply sw_18 | apply sw_21 | apply sw_22 | apply sw_m12 | apply sw_m18)); done) | rfl) only [wp_ite, wp_some, y_jn, wp_r0, wp_r1, wp_b2, y_nn, w_bc, w_nt, wo_0, wg_0, wi_0, w_has, w_isRider, w_isPair, w_isHour, w_in, w_in0, w_in_0_1, w_in_0_10, w_in_0_3, w_in_0_30, w_in_0_60, w_in_0_7, w_in_0_9, w_in_0_999, w_in_1_60, w_in_20_27, w_in_2_40, w_in_48_57, w_whole, w_all, wt_0, wt_1, wt_2, nI_add, nI_1, nI_mul, nI_and, nI_or, nI_sd, nI_sub, l_sub1, l_addm1, l_all, l_1shl, l_or0, l_add0, l_0add, l_m1, l_m1r, l_neg, l_nn, l_eq0, l_le0, l_0lt, l_eq1, l_m1lt, l_m1le, l_m1eq0, l_10, l_00, l_1le, nI_le_l, nI_lt_l, nI_eq_l, bc_nI, nt_nI, bit_nI, b2_ite, b2_ite1, nI_max, nI_min, isR_nI, n_2, n_6, hi_ne, hi_ni, hi_eq, y_iL, y_iR, y_lI, y_lR, hl_ne, hl_ni, hl_eq, y_rI, y_rL, if_true, if_false, if_pos, if_neg, true_and, and_true, not_true_eq_false, not_false_eq_true, x.n, x.h, x.b, x.mo, x.wi, x.ca, x.ro, x.ti, x.il, x.ni, x.ga, x.ri]
      rw [← hQ]
      exact ⟨rfl, (by repeat (first | exact f.mono rfl | exact (f.mono rfl).mono rfl | refine Fr.putI ?_ rfl | refine Fr.putL ?_ rfl | refine Fr.putR ?_ rfl)), s.fr (D := [24, 26, 30, 36]) (F := [52]) (G := []) (by repeat (first | exact f.mono rfl | exact (f.mono rfl).mono rfl | refine Fr.putI ?_ rfl | refine Fr.putL ?_ rfl | refine Fr.putR ?_ rfl)) rfl, row1⟩
end cfound
