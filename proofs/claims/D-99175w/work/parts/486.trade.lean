/-! PURE 63: two hours exchanged -/
def swp (a : HS) (i j : Nat) : HS := ((fun h => if h = j then a.rota i else if h = i then a.rota j else a.rota h), a.2)
abbrev TS : Type := Option (Nat × Nat × Nat)
def trU (P : Pk) (a : HS) (o : TS) (i j : Nat) : TS := match o with
  | none => some (i, j, pop (gapN P (swp a i j)))
  | some x => if pop (gapN P (swp a i j)) < x.2.2 then some (i, j, pop (gapN P (swp a i j))) else some x
def trJ (P : Pk) (a : HS) (o : TS) (i : Nat) : Nat → TS
  | 0 => o
  | m + 1 => trU P a (trJ P a o i m) i (i + 1 + m)
def trO (P : Pk) (a : HS) : Nat → TS
  | 0 => none
  | i + 1 => trJ P a (trO P a i) i (P.hrs - (i + 1))
def tdC (o : TS) : Int32 × Int32 × Int32 := match o with
  | none => (0, 0, nI 1000000)
  | some x => (nI x.1, nI x.2.1, nI x.2.2)
def tdM (o : TS) : Int32 × Int32 × Int32 := match o with
  | none => (nI 1000000000, -1, -1)
  | some x => (nI x.2.2, nI x.1, nI x.2.1)
def trR (P : Pk) (a : HS) (o : TS) : Int32 × Option (List Int64) := match o with
  | none => (-2, none)
  | some x => (nI x.2.2, some [(nI x.1).toInt64, (nI x.2.1).toInt64, (nI (pop (gapN P a))).toInt64])
theorem swp_ok {n : Nat} {a : HS} (h : HOK n a) {i j : Nat} (hi' : i < 8) (hj : j < 8) : HOK n (swp a i j) := by
  refine ⟨h.1, fun k hk' => ?_⟩
  show okR n (if k = j then a.rota i else if k = i then a.rota j else a.rota k)
  split
  · exact h.2 i hi'
  · split
    · exact h.2 j hj
    · exact h.2 k hk'
theorem trU_le {P : Pk} {a : HS} {o : TS} (h : ∀ x, o = some x → x.2.2 ≤ 8) (i j : Nat) : ∃ x, trU P a o i j = some x ∧ x.2.2 ≤ 8 := by
  have := pop_le (gapN P (swp a i j))
  cases o with
  | none => exact ⟨_, rfl, this⟩
  | some y =>
    unfold trU
    dsimp only
    split
    · exact ⟨_, rfl, this⟩
    · exact ⟨y, rfl, h y rfl⟩
theorem trJ_le {P : Pk} {a : HS} {o : TS} (h : ∀ x, o = some x → x.2.2 ≤ 8) (i : Nat) : ∀ m x, trJ P a o i m = some x → x.2.2 ≤ 8 := by
  intro m
  induction m with
  | zero => exact h
  | succ m ih =>
    intro x hx
    obtain ⟨y, h1, h2⟩ := trU_le ih i (i + 1 + m)
    have : trJ P a o i (m + 1) = trU P a (trJ P a o i m) i (i + 1 + m) := rfl
    rw [this, h1] at hx
    cases hx
    exact h2
theorem trO_le {P : Pk} {a : HS} : ∀ i x, trO P a i = some x → x.2.2 ≤ 8 := by
  intro i
  induction i with
  | zero => intro x h; cases h
  | succ i ih => exact trJ_le ih i _
theorem trO_some {P : Pk} {a : HS} (h2 : 2 ≤ P.hrs) : ∃ x, trO P a P.hrs = some x := by
  have key : ∀ (o : TS) i m, (∃ x, o = some x) → ∃ x, trJ P a o i m = some x := by
    intro o i m
    induction m with
    | zero => intro h; exact h
    | succ m ih =>
      intro h
      obtain ⟨x, hx⟩ := ih h
      show ∃ x, trU P a (trJ P a o i m) i (i + 1 + m) = some x
      rw [hx]
      unfold trU
      dsimp only
      split
      · exact ⟨_, rfl⟩
      · exact ⟨_, rfl⟩
  have h1 : ∃ x, trO P a 1 = some x := by
    show ∃ x, trJ P a none 0 (P.hrs - 1) = some x
    obtain ⟨m, hm⟩ : ∃ m, P.hrs - 1 = m + 1 := ⟨P.hrs - 2, by omega⟩
    rw [hm]
    show ∃ x, trU P a (trJ P a none 0 m) 0 (0 + 1 + m) = some x
    cases trJ P a none 0 m with
    | none => exact ⟨_, rfl⟩
    | some y =>
      unfold trU
      dsimp only
      split
      · exact ⟨_, rfl⟩
      · exact ⟨_, rfl⟩
  have h3 : ∀ k, ∃ x, trO P a (k + 1) = some x := by
    intro k
    induction k with
    | zero => exact h1
    | succ k ih => exact key _ _ _ ih
  have := h3 (P.hrs - 1)
  rw [show P.hrs - 1 + 1 = P.hrs by omega] at this
  exact this
section trade
variable {σ τ : Hp} {P : Pk} {a : HS}
theorem c_trade (x : CX σ P a) (s : SC σ) (h2 : 2 ≤ P.hrs) : wp (f_X1_trade (some 0) σ) (QuC σ (trR P a (trO P a P.hrs)).1 (trR P a (trO P a P.hrs)).2) := by
  have x0 := x
  have h8 := x.h8
  have g8 := gapN_lt x.pk x.ok
  generalize hQ : QuC σ (trR P a (trO P a P.hrs)).1 (trR P a (trO P a P.hrs)).2 = Q
  unfold f_X1_trade
  simp (disch := first | omega | exact x.s | exact hi_eq | ((repeat (first | exact x.s | apply sw_I | apply sw_L | apply sw_cp | apply sw_18 | apply sw_21 | apply sw_22 | apply sw_m12 | apply sw_m18)); done) | rfl) only [wp_ite, wp_some, y_jn, wp_r0, wp_r1, wp_b2, y_nn, w_bc, w_nt, wo_0, wg_0, wi_0, wr_0_0, wo_1, wg_1, wi_1, wr_1_0, wr_1_1, wl_2, ws_2, wl_3, ws_3, w_has, w_isRider, w_isPair, w_isHour, w_in, w_in0, w_in_0_1, w_in_0_10, w_in_0_3, w_in_0_30, w_in_0_60, w_in_0_7, w_in_0_9, w_in_0_999, w_in_1_60, w_in_20_27, w_in_2_40, w_in_48_57, w_whole, w_all, wt_0, wt_1, wt_2, nI_add, nI_1, nI_mul, nI_and, nI_or, nI_sd, nI_sub, l_sub1, l_addm1, l_all, l_1shl, l_or0, l_add0, l_0add, l_m1, l_m1r, l_neg, l_nn, l_eq0, l_le0, l_0lt, l_eq1, l_m1lt, l_m1le, l_m1eq0, l_10, l_00, l_1le, nI_le_l, nI_lt_l, nI_eq_l, bc_nI, nt_nI, bit_nI, b2_ite, b2_ite1, nI_max, nI_min, isR_nI, n_1000000, n_2, n_6, hi_ne, hi_ni, hi_eq, y_iL, y_iR, y_lI, y_lR, hl_ne, hl_ni, hl_eq, y_rI, y_rL, if_true, if_false, if_pos, if_neg, true_and, and_true, not_true_eq_false, not_false_eq_true, x.n, x.h, x.b, x.mo, x.wi, x.ca, x.ro, x.ti, x.il, x.ni, x.ga, x.ri]
  rw [wp_bnd]
  refine wp_mono (c_rides x.s x.2.1 x.pk x.2.2.2.1 x.ok (Or.inl rfl)) (fun _ τ h => ?_)
  obtain ⟨f, h1, -, -⟩ := h
  have ff : Fr [4, 5, 6, 18, 19] [18, 19, 20, 28, 29] [] σ τ := f.mono rfl
  replace x := x0.fr ff rfl
  simp (disch := first | omega | exact x.s | exact hi_eq | ((repeat (first | exact x.s | apply sw_I | apply sw_L | apply sw_cp | apply sw_18 | apply sw_21 | apply sw_22 | apply sw_m12 | apply sw_m18)); done) | rfl) only [wp_ite, wp_some, y_jn, wp_r0, wp_r1, wp_b2, y_nn, w_bc, w_nt, wo_0, wg_0, wi_0, wr_0_0, wo_1, wg_1, wi_1, wr_1_0, wr_1_1, wl_2, ws_2, wl_3, ws_3, w_has, w_isRider, w_isPair, w_isHour, w_in, w_in0, w_in_0_1, w_in_0_10, w_in_0_3, w_in_0_30, w_in_0_60, w_in_0_7, w_in_0_9, w_in_0_999, w_in_1_60, w_in_20_27, w_in_2_40, w_in_48_57, w_whole, w_all, wt_0, wt_1, wt_2, nI_add, nI_1, nI_mul, nI_and, nI_or, nI_sd, nI_sub, l_sub1, l_addm1, l_all, l_1shl, l_or0, l_add0, l_0add, l_m1, l_m1r, l_neg, l_nn, l_eq0, l_le0, l_0lt, l_eq1, l_m1lt, l_m1le, l_m1eq0, l_10, l_00, l_1le, nI_le_l, nI_lt_l, nI_eq_l, bc_nI, nt_nI, bit_nI, b2_ite, b2_ite1, nI_max, nI_min, isR_nI, n_1000000, n_2, n_6, hi_ne, hi_ni, hi_eq, y_iL, y_iR, y_lI, y_lR, hl_ne, hl_ni, hl_eq, y_rI, y_rL, if_true, if_false, if_pos, if_neg, true_and, and_true, not_true_eq_false, not_false_eq_true, x.n, x.h, x.b, x.mo, x.wi, x.ca, x.ro, x.ti, x.il, x.ni, x.ga, x.ri, h1]
  refine wp_up P.hrs (fun i y τ' => y = ((tdC (trO P a i)).1, (tdC (trO P a i)).2.1, (tdC (trO P a i)).2.2, nI i) ∧ Fr [4, 5, 6, 18, 19] [18, 19, 20, 28, 29] [] σ τ') (fun ag i y τ' hi' hJ hag => ?_) (fun ag y τ' hJ => ?_) (by omega) ⟨rfl, ff⟩
  · obtain ⟨rfl, f1⟩ := hJ
    replace x := x0.fr f1 rfl
    have tl := trO_le (P := P) (a := a) i
    have st : trO P a (i + 1) = trJ P a (trO P a i) i (P.hrs - (i + 1)) := rfl
    rw [st] at hag
    generalize trO P a i = o at *
    unfold f_X1_trade_b38
    simp (disch := first | omega | exact x.s | exact hi_eq | ((repeat (first | exact x.s | apply sw_I | apply sw_L | apply sw_cp | apply sw_18 | apply sw_21 | apply sw_22 | apply sw_m12 | apply sw_m18)); done) | rfl) only [wp_ite, wp_some, y_jn, wp_r0, wp_r1, wp_b2, y_nn, w_bc, w_nt, wo_0, wg_0, wi_0, w_has, w_isRider, w_isPair, w_isHour, w_in, w_in0, w_in_0_1, w_in_0_10, w_in_0_3, w_in_0_30, w_in_0_60, w_in_0_7, w_in_0_9, w_in_0_999, w_in_1_60, w_in_20_27, w_in_2_40, w_in_48_57, w_whole, w_all, wt_0, wt_1, wt_2, nI_add, nI_1, nI_mul, nI_and, nI_or, nI_sd, nI_sub, l_sub1, l_addm1, l_all, l_1shl, l_or0, l_add0, l_0add, l_m1, l_m1r, l_neg, l_nn, l_eq0, l_le0, l_0lt, l_eq1, l_m1lt, l_m1le, l_m1eq0, l_10, l_00, l_1le, nI_le_l, nI_lt_l, nI_eq_l, bc_nI, nt_nI, bit_nI, b2_ite, b2_ite1, nI_max, nI_min, isR_nI, n_6, hi_ne, hi_ni, hi_eq, y_iL, y_iR, y_lI, y_lR, hl_ne, hl_ni, hl_eq, y_rI, y_rL, if_true, if_false, if_pos, if_neg, true_and, and_true, not_true_eq_false, not_false_eq_true, x.n, x.h, x.b, x.mo, x.wi, x.ca, x.ro, x.ti, x.il, x.ni, x.ga, x.ri]
    refine wp_up (P.hrs - (i + 1)) (fun m y τ' => y = ((tdC (trJ P a o i m)).1, (tdC (trJ P a o i m)).2.1, (tdC (trJ P a o i m)).2.2, nI (i + 1 + m)) ∧ Fr [4, 5, 6, 18, 19] [18, 19, 20, 28, 29] [] σ τ') (fun ag' m y τ2 hm hJ hag' => ?_) (fun ag' y τ2 hJ => ?_) (by omega) ⟨rfl, f1⟩
    · obtain ⟨rfl, f2⟩ := hJ
      replace x := x0.fr f2 rfl
      have jl := trJ_le (P := P) (a := a) tl i m
      have st2 : trJ P a o i (m + 1) = trU P a (trJ P a o i m) i (i + 1 + m) := rfl
      rw [st2] at hag'
      generalize trJ P a o i m = o2 at *
      unfold f_X1_trade_b53
      simp (disch := first | omega | exact x.s | exact hi_eq | ((repeat (first | exact x.s | apply sw_I | apply sw_L | apply sw_cp | apply sw_18 | apply sw_21 | apply sw_22 | apply sw_m12 | apply sw_m18)); done) | rfl) only [wp_ite, wp_some, y_jn, wp_r0, wp_r1, wp_b2, y_nn, w_bc, w_nt, wo_0, wg_0, wi_0, wr_0_0, wr_0_1, wo_1, wg_1, wi_1, wr_1_0, wr_1_1, wl_2, ws_2, wl_3, ws_3, wo_4, wg_4, wi_4, wr_4_0, wr_4_1, wl_5, ws_5, wl_6, ws_6, w_has, w_isRider, w_isPair, w_isHour, w_in, w_in0, w_in_0_1, w_in_0_10, w_in_0_3, w_in_0_30, w_in_0_60, w_in_0_7, w_in_0_9, w_in_0_999, w_in_1_60, w_in_20_27, w_in_2_40, w_in_48_57, w_whole, w_all, wt_0, wt_1, wt_2, nI_add, nI_1, nI_mul, nI_and, nI_or, nI_sd, nI_sub, l_sub1, l_addm1, l_all, l_1shl, l_or0, l_add0, l_0add, l_m1, l_m1r, l_neg, l_nn, l_eq0, l_le0, l_0lt, l_eq1, l_m1lt, l_m1le, l_m1eq0, l_10, l_00, l_1le, nI_le_l, nI_lt_l, nI_eq_l, bc_nI, nt_nI, bit_nI, b2_ite, b2_ite1, nI_max, nI_min, isR_nI, n_100, n_6, hi_ne, hi_ni, hi_eq, y_iL, y_iR, y_lI, y_lR, hl_ne, hl_ni, hl_eq, y_rI, y_rL, if_true, if_false, if_pos, if_neg, true_and, and_true, not_true_eq_false, not_false_eq_true, x.n, x.h, x.b, x.mo, x.wi, x.ca, x.ro, x.ti, x.il, x.ni, x.ga, x.ri]
      rw [wp_bnd]
      refine wp_mono (c_becomes (ho_4 x.s) x.2.2.2.1 (Or.inl (by decide))) (fun _ τ3 h => ?_)
      obtain ⟨hb, hc⟩ := h
      have f3 := f2.then hb.fr4 rfl
      replace x := x0.fr f3 rfl
      simp (disch := first | omega | exact x.s | exact hi_eq | ((repeat (first | exact x.s | apply sw_I | apply sw_L | apply sw_cp | apply sw_18 | apply sw_21 | apply sw_22 | apply sw_m12 | apply sw_m18)); done) | rfl) only [wp_ite, wp_some, y_jn, wp_r0, wp_r1, wp_b2, y_nn, w_bc, w_nt, wo_0, wg_0, wi_0, wr_0_0, wr_0_1, wo_1, wg_1, wi_1, wr_1_0, wr_1_1, wl_2, ws_2, wl_3, ws_3, wo_4, wg_4, wi_4, wr_4_0, wr_4_1, wl_5, ws_5, wl_6, ws_6, w_has, w_isRider, w_isPair, w_isHour, w_in, w_in0, w_in_0_1, w_in_0_10, w_in_0_3, w_in_0_30, w_in_0_60, w_in_0_7, w_in_0_9, w_in_0_999, w_in_1_60, w_in_20_27, w_in_2_40, w_in_48_57, w_whole, w_all, wt_0, wt_1, wt_2, nI_add, nI_1, nI_mul, nI_and, nI_or, nI_sd, nI_sub, l_sub1, l_addm1, l_all, l_1shl, l_or0, l_add0, l_0add, l_m1, l_m1r, l_neg, l_nn, l_eq0, l_le0, l_0lt, l_eq1, l_m1lt, l_m1le, l_m1eq0, l_10, l_00, l_1le, nI_le_l, nI_lt_l, nI_eq_l, bc_nI, nt_nI, bit_nI, b2_ite, b2_ite1, nI_max, nI_min, isR_nI, n_100, n_6, hi_ne, hi_ni, hi_eq, y_iL, y_iR, y_lI, y_lR, hl_ne, hl_ni, hl_eq, y_rI, y_rL, if_true, if_false, if_pos, if_neg, true_and, and_true, not_true_eq_false, not_false_eq_true, x.n, x.h, x.b, x.mo, x.wi, x.ca, x.ro, x.ti, x.il, x.ni, x.ga, x.ri]
      have f4 : Fr [4, 5, 6, 18, 19] [18, 19, 20, 28, 29] [] σ (wI (wI τ3 5 i (a.rota (i + 1 + m))) 5 (i + 1 + m) (a.rota i)) := (f3.putI rfl).putI rfl
      have hc4 : CH (wI (wI τ3 5 i (a.rota (i + 1 + m))) 5 (i + 1 + m) (a.rota i)) 4 (swp a i (i + 1 + m)) := by
        obtain ⟨hc1, hc2, hc3, hc5, hc6, hc7, hc8⟩ := hc
        refine ⟨hc1, fun h hh => ?_, fun r hr' => ?_, ?_, ?_, ?_, ?_⟩
        · show hi _ 5 h = (if h = i + 1 + m then a.rota i else if h = i then a.rota (i + 1 + m) else a.rota h)
          by_cases e1 : h = i + 1 + m
          · rw [if_pos e1, e1, hi_eq]
          · rw [if_neg e1, hi_ni e1]
            by_cases e2 : h = i
            · rw [if_pos e2, e2, hi_eq]
            · rw [if_neg e2, hi_ni e2]; exact hc2 h hh
        · rw [hi_ne (by decide), hi_ne (by decide)]; exact hc3 r hr'
        · rw [hi_ne (by decide), hi_ne (by decide)]; exact hc5
        · rw [hi_ne (by decide), hi_ne (by decide)]; exact hc6
        · rw [hi_ne (by decide), hi_ne (by decide)]; exact hc7
        · rw [hi_ne (by decide), hi_ne (by decide)]; exact hc8
      have x4 := x0.fr f4 rfl
      have ok4 := swp_ok x.ok (i := i) (j := i + 1 + m) (by omega) (by omega)
      have g8 := gapN_lt x.pk ok4
      rw [wp_bnd]
      refine wp_mono (c_rides x4.s x4.2.1 x4.pk hc4 ok4 (Or.inr rfl)) (fun _ τ5 h => ?_)
      obtain ⟨f5, k1, -, -⟩ := h
      have f6 := f4.then f5 rfl
      replace x := x0.fr f6 rfl
      have fin : ∀ o3, trU P a o2 i (i + 1 + m) = o3 → wp (ag' ((tdC o3).1, (tdC o3).2.1, (tdC o3).2.2, nI (i + 1 + (m + 1))) τ5) Q := fun o3 ho => hag' _ _ ⟨by rw [ho], f6⟩
      rw [show i + 1 + (m + 1) = i + 1 + m + 1 by omega] at fin
      unfold trU at fin
      generalize gapN P (swp a i (i + 1 + m)) = g at *
      have p8 := pop_le g
      cases o2 with
      | none =>
        have := fin _ rfl
        unfold tdC at this ⊢
        dsimp only at this ⊢
        simp (disch := first | omega | exact x.s | exact hi_eq | ((repeat (first | exact x.s | apply sw_I | apply sw_L | apply sw_cp | apply sw_18 | apply sw_21 | apply sw_22 | apply sw_m12 | apply sw_m18)); done) | rfl) only [wp_ite, wp_some, y_jn, wp_r0, wp_r1, wp_b2, y_nn, w_bc, w_nt, wo_0, wg_0, wi_0, wr_0_0, wr_0_1, wo_1, wg_1, wi_1, wr_1_0, wr_1_1, wl_2, ws_2, wl_3, ws_3, wo_4, wg_4, wi_4, wr_4_0, wr_4_1, wl_5, ws_5, wl_6, ws_6, w_has, w_isRider, w_isPair, w_isHour, w_in, w_in0, w_in_0_1, w_in_0_10, w_in_0_3, w_in_0_30, w_in_0_60, w_in_0_7, w_in_0_9, w_in_0_999, w_in_1_60, w_in_20_27, w_in_2_40, w_in_48_57, w_whole, w_all, wt_0, wt_1, wt_2, nI_add, nI_1, nI_mul, nI_and, nI_or, nI_sd, nI_sub, l_sub1, l_addm1, l_all, l_1shl, l_or0, l_add0, l_0add, l_m1, l_m1r, l_neg, l_nn, l_eq0, l_le0, l_0lt, l_eq1, l_m1lt, l_m1le, l_m1eq0, l_10, l_00, l_1le, nI_le_l, nI_lt_l, nI_eq_l, bc_nI, nt_nI, bit_nI, b2_ite, b2_ite1, nI_max, nI_min, isR_nI, n_100, n_6, hi_ne, hi_ni, hi_eq, y_iL, y_iR, y_lI, y_lR, hl_ne, hl_ni, hl_eq, y_rI, y_rL, if_true, if_false, if_pos, if_neg, true_and, and_true, not_true_eq_false, not_false_eq_true, x.n, x.h, x.b, x.mo, x.wi, x.ca, x.ro, x.ti, x.il, x.ni, x.ga, x.ri, k1]
        exact this
      | some y =>
        have yl := jl y rfl
        dsimp only at fin
        unfold tdC
        dsimp only
        simp (disch := first | omega | exact x.s | exact hi_eq | ((repeat (first | exact x.s | apply sw_I | apply sw_L | apply sw_cp | apply sw_18 | apply sw_21 | apply sw_22 | apply sw_m12 | apply sw_m18)); done) | rfl) only [wp_ite, wp_some, y_jn, wp_r0, wp_r1, wp_b2, y_nn, w_bc, w_nt, wo_0, wg_0, wi_0, wr_0_0, wr_0_1, wo_1, wg_1, wi_1, wr_1_0, wr_1_1, wl_2, ws_2, wl_3, ws_3, wo_4, wg_4, wi_4, wr_4_0, wr_4_1, wl_5, ws_5, wl_6, ws_6, w_has, w_isRider, w_isPair, w_isHour, w_in, w_in0, w_in_0_1, w_in_0_10, w_in_0_3, w_in_0_30, w_in_0_60, w_in_0_7, w_in_0_9, w_in_0_999, w_in_1_60, w_in_20_27, w_in_2_40, w_in_48_57, w_whole, w_all, wt_0, wt_1, wt_2, nI_add, nI_1, nI_mul, nI_and, nI_or, nI_sd, nI_sub, l_sub1, l_addm1, l_all, l_1shl, l_or0, l_add0, l_0add, l_m1, l_m1r, l_neg, l_nn, l_eq0, l_le0, l_0lt, l_eq1, l_m1lt, l_m1le, l_m1eq0, l_10, l_00, l_1le, nI_le_l, nI_lt_l, nI_eq_l, bc_nI, nt_nI, bit_nI, b2_ite, b2_ite1, nI_max, nI_min, isR_nI, n_100, n_6, hi_ne, hi_ni, hi_eq, y_iL, y_iR, y_lI, y_lR, hl_ne, hl_ni, hl_eq, y_rI, y_rL, if_true, if_false, if_pos, if_neg, true_and, and_true, not_true_eq_false, not_false_eq_true, x.n, x.h, x.b, x.mo, x.wi, x.ca, x.ro, x.ti, x.il, x.ni, x.ga, x.ri, k1]
        by_cases e : pop g < y.2.2
        · rw [if_pos e] at fin ⊢
          exact fin _ rfl
        · rw [if_neg e] at fin ⊢
          exact fin _ rfl
    · obtain ⟨rfl, f2⟩ := hJ
      replace x := x0.fr f2 rfl
      rw [show i + 1 + (P.hrs - (i + 1)) = P.hrs by omega]
      unfold f_X1_trade_b53
      simp (disch := first | omega | exact x.s | exact hi_eq | ((repeat (first | exact x.s | apply sw_I | apply sw_L | apply sw_cp | apply sw_18 | apply sw_21 | apply sw_22 | apply sw_m12 | apply sw_m18)); done) | rfl) only [wp_ite, wp_some, y_jn, wp_r0, wp_r1, wp_b2, y_nn, w_bc, w_nt, wo_0, wg_0, wi_0, wr_0_0, wr_0_1, wo_1, wg_1, wi_1, wr_1_0, wr_1_1, wl_2, ws_2, wl_3, ws_3, wo_4, wg_4, wi_4, wr_4_0, wr_4_1, wl_5, ws_5, wl_6, ws_6, w_has, w_isRider, w_isPair, w_isHour, w_in, w_in0, w_in_0_1, w_in_0_10, w_in_0_3, w_in_0_30, w_in_0_60, w_in_0_7, w_in_0_9, w_in_0_999, w_in_1_60, w_in_20_27, w_in_2_40, w_in_48_57, w_whole, w_all, wt_0, wt_1, wt_2, nI_add, nI_1, nI_mul, nI_and, nI_or, nI_sd, nI_sub, l_sub1, l_addm1, l_all, l_1shl, l_or0, l_add0, l_0add, l_m1, l_m1r, l_neg, l_nn, l_eq0, l_le0, l_0lt, l_eq1, l_m1lt, l_m1le, l_m1eq0, l_10, l_00, l_1le, nI_le_l, nI_lt_l, nI_eq_l, bc_nI, nt_nI, bit_nI, b2_ite, b2_ite1, nI_max, nI_min, isR_nI, n_100, n_6, hi_ne, hi_ni, hi_eq, y_iL, y_iR, y_lI, y_lR, hl_ne, hl_ni, hl_eq, y_rI, y_rL, if_true, if_false, if_pos, if_neg, true_and, and_true, not_true_eq_false, not_false_eq_true, x.n, x.h, x.b, x.mo, x.wi, x.ca, x.ro, x.ti, x.il, x.ni, x.ga, x.ri]
      exact hag _ _ ⟨rfl, f2⟩
  · obtain ⟨rfl, f1⟩ := hJ
    replace x := x0.fr f1 rfl
    unfold f_X1_trade_b38
    simp (disch := first | omega | exact x.s | exact hi_eq | ((repeat (first | exact x.s | apply sw_I | apply sw_L | apply sw_cp | apply sw_18 | apply sw_21 | apply sw_22 | apply sw_m12 | apply sw_m18)); done) | rfl) only [wp_ite, wp_some, y_jn, wp_r0, wp_r1, wp_b2, y_nn, w_bc, w_nt, wo_0, wg_0, wi_0, wr_0_0, wo_1, wg_1, wi_1, wr_1_0, wr_1_1, wl_2, ws_2, wl_3, ws_3, w_has, w_isRider, w_isPair, w_isHour, w_in, w_in0, w_in_0_1, w_in_0_10, w_in_0_3, w_in_0_30, w_in_0_60, w_in_0_7, w_in_0_9, w_in_0_999, w_in_1_60, w_in_20_27, w_in_2_40, w_in_48_57, w_whole, w_all, wt_0, wt_1, wt_2, nI_add, nI_1, nI_mul, nI_and, nI_or, nI_sd, nI_sub, l_sub1, l_addm1, l_all, l_1shl, l_or0, l_add0, l_0add, l_m1, l_m1r, l_neg, l_nn, l_eq0, l_le0, l_0lt, l_eq1, l_m1lt, l_m1le, l_m1eq0, l_10, l_00, l_1le, nI_le_l, nI_lt_l, nI_eq_l, bc_nI, nt_nI, bit_nI, b2_ite, b2_ite1, nI_max, nI_min, isR_nI, hi_ne, hi_ni, hi_eq, y_iL, y_iR, y_lI, y_lR, hl_ne, hl_ni, hl_eq, y_rI, y_rL, if_true, if_false, if_pos, if_neg, true_and, and_true, not_true_eq_false, not_false_eq_true, x.n, x.h, x.b, x.mo, x.wi, x.ca, x.ro, x.ti, x.il, x.ni, x.ga, x.ri]
    rw [← hQ]
    obtain ⟨y, hy⟩ := trO_some (P := P) (a := a) h2
    rw [hy]
    exact ⟨rfl, (by repeat (first | exact f1 | exact (f1).mono rfl | refine Fr.putI ?_ rfl | refine Fr.putL ?_ rfl | refine Fr.putR ?_ rfl)), s.fr (D := [4, 5, 6, 18, 19, 36]) (F := [18, 19, 20, 28, 29, 52]) (G := []) (by repeat (first | exact f1 | exact (f1).mono rfl | refine Fr.putI ?_ rfl | refine Fr.putL ?_ rfl | refine Fr.putR ?_ rfl)) rfl, row3⟩
theorem m_trade (x : MX σ P a) (s : SM σ) (h2 : 2 ≤ P.hrs) : wp (f_X3_trade (some 37) σ) (QuM σ (trR P a (trO P a P.hrs)).1 (trR P a (trO P a P.hrs)).2) := by
  have x0 := x
  have h8 := x.h8
  have g8 := gapN_lt x.pk x.ok
  generalize hQ : QuM σ (trR P a (trO P a P.hrs)).1 (trR P a (trO P a P.hrs)).2 = Q
  have f0 : Fr [47, 50, 51, 52] [] [11, 12, 13, 14, 15, 16, 21, 27, 28] σ (wI σ 37 11 0) := Fr.refl.putI rfl
  unfold f_X3_trade
  simp (disch := first | omega | exact x.s | exact hi_eq | ((repeat (first | exact x.s | apply sw_I | apply sw_L | apply sw_cp | apply sw_18 | apply sw_21 | apply sw_22 | apply sw_m12 | apply sw_m18)); done) | rfl) only [wp_ite, wp_some, y_jn, wp_r0, wp_r1, wp_b2, y_nn, w_bc, w_nt, wo_37, wg_37, wi_37, wr_37_0, wr_37_26, wl_38, ws_38, wl_50, ws_50, w_has3, w_isMan, w_areTwo, w_isHour3, w_in3, w_night, wtM_0, wtM_1, wtM_2, nI_add, nI_1, nI_mul, nI_and, nI_or, nI_sd, nI_sub, l_sub1, l_addm1, l_all, l_1shl, l_or0, l_add0, l_0add, l_m1, l_m1r, l_neg, l_nn, l_eq0, l_le0, l_0lt, l_eq1, l_m1lt, l_m1le, l_m1eq0, l_10, l_00, l_1le, nI_le_l, nI_lt_l, nI_eq_l, bc_nI, nt_nI, bit_nI, b2_ite, b2_ite1, nI_max, nI_min, isR_nI, n_10, n_1000000000, n_11, n_2, n_26, n_27, hi_ne, hi_ni, hi_eq, y_iL, y_iR, y_lI, y_lR, hl_ne, hl_ni, hl_eq, y_rI, y_rL, if_true, if_false, if_pos, if_neg, true_and, and_true, not_true_eq_false, not_false_eq_true, x.n, x.h, x.b, x.mo, x.wi, x.ca, x.ro, x.ti, x.il, x.ni, x.ga, x.ri]
  refine wp_up P.hrs (fun i y τ' => y = ((tdM (trO P a i)).1, (tdM (trO P a i)).2.1, (tdM (trO P a i)).2.2, nI i) ∧ Fr [47, 50, 51, 52] [] [11, 12, 13, 14, 15, 16, 21, 27, 28] σ τ') (fun ag i y τ' hi' hJ hag => ?_) (fun ag y τ' hJ => ?_) (by omega) ⟨rfl, f0⟩
  · obtain ⟨rfl, f1⟩ := hJ
    replace x := x0.fr f1 rfl
    have tl := trO_le (P := P) (a := a) i
    have st : trO P a (i + 1) = trJ P a (trO P a i) i (P.hrs - (i + 1)) := rfl
    rw [st] at hag
    generalize trO P a i = o at *
    unfold f_X3_trade_b26
    simp (disch := first | omega | exact x.s | exact hi_eq | ((repeat (first | exact x.s | apply sw_I | apply sw_L | apply sw_cp | apply sw_18 | apply sw_21 | apply sw_22 | apply sw_m12 | apply sw_m18)); done) | rfl) only [wp_ite, wp_some, y_jn, wp_r0, wp_r1, wp_b2, y_nn, w_bc, w_nt, wo_37, wg_37, wi_37, w_has3, w_isMan, w_areTwo, w_isHour3, w_in3, w_night, wtM_0, wtM_1, wtM_2, nI_add, nI_1, nI_mul, nI_and, nI_or, nI_sd, nI_sub, l_sub1, l_addm1, l_all, l_1shl, l_or0, l_add0, l_0add, l_m1, l_m1r, l_neg, l_nn, l_eq0, l_le0, l_0lt, l_eq1, l_m1lt, l_m1le, l_m1eq0, l_10, l_00, l_1le, nI_le_l, nI_lt_l, nI_eq_l, bc_nI, nt_nI, bit_nI, b2_ite, b2_ite1, nI_max, nI_min, isR_nI, n_2, hi_ne, hi_ni, hi_eq, y_iL, y_iR, y_lI, y_lR, hl_ne, hl_ni, hl_eq, y_rI, y_rL, if_true, if_false, if_pos, if_neg, true_and, and_true, not_true_eq_false, not_false_eq_true, x.n, x.h, x.b, x.mo, x.wi, x.ca, x.ro, x.ti, x.il, x.ni, x.ga, x.ri]
    refine wp_up (P.hrs - (i + 1)) (fun m y τ' => y = ((tdM (trJ P a o i m)).1, (tdM (trJ P a o i m)).2.1, (tdM (trJ P a o i m)).2.2, nI (i + 1 + m)) ∧ Fr [47, 50, 51, 52] [] [11, 12, 13, 14, 15, 16, 21, 27, 28] σ τ') (fun ag' m y τ2 hm hJ hag' => ?_) (fun ag' y τ2 hJ => ?_) (by omega) ⟨rfl, f1⟩
    · obtain ⟨rfl, f2⟩ := hJ
      replace x := x0.fr f2 rfl
      have jl := trJ_le (P := P) (a := a) tl i m
      have st2 : trJ P a o i (m + 1) = trU P a (trJ P a o i m) i (i + 1 + m) := rfl
      rw [st2] at hag'
      generalize trJ P a o i m = o2 at *
      unfold f_X3_trade_b41
      simp (disch := first | omega | exact x.s | exact hi_eq | ((repeat (first | exact x.s | apply sw_I | apply sw_L | apply sw_cp | apply sw_18 | apply sw_21 | apply sw_22 | apply sw_m12 | apply sw_m18)); done) | rfl) only [wp_ite, wp_some, y_jn, wp_r0, wp_r1, wp_b2, y_nn, w_bc, w_nt, wo_37, wg_37, wi_37, wr_37_0, wr_37_26, wl_38, ws_38, wl_50, ws_50, w_has3, w_isMan, w_areTwo, w_isHour3, w_in3, w_night, wtM_0, wtM_1, wtM_2, nI_add, nI_1, nI_mul, nI_and, nI_or, nI_sd, nI_sub, l_sub1, l_addm1, l_all, l_1shl, l_or0, l_add0, l_0add, l_m1, l_m1r, l_neg, l_nn, l_eq0, l_le0, l_0lt, l_eq1, l_m1lt, l_m1le, l_m1eq0, l_10, l_00, l_1le, nI_le_l, nI_lt_l, nI_eq_l, bc_nI, nt_nI, bit_nI, b2_ite, b2_ite1, nI_max, nI_min, isR_nI, n_100, n_2, n_26, n_27, hi_ne, hi_ni, hi_eq, y_iL, y_iR, y_lI, y_lR, hl_ne, hl_ni, hl_eq, y_rI, y_rL, if_true, if_false, if_pos, if_neg, true_and, and_true, not_true_eq_false, not_false_eq_true, x.n, x.h, x.b, x.mo, x.wi, x.ca, x.ro, x.ti, x.il, x.ni, x.ga, x.ri]
      rw [wp_bnd]
      refine wp_mono (m_lay50 x) (fun _ τ3 h => ?_)
      obtain ⟨hb, hc⟩ := h
      have f3 := f2.then hb rfl
      replace x := x0.fr f3 rfl
      simp (disch := first | omega | exact x.s | exact hi_eq | ((repeat (first | exact x.s | apply sw_I | apply sw_L | apply sw_cp | apply sw_18 | apply sw_21 | apply sw_22 | apply sw_m12 | apply sw_m18)); done) | rfl) only [wp_ite, wp_some, y_jn, wp_r0, wp_r1, wp_b2, y_nn, w_bc, w_nt, wo_37, wg_37, wi_37, wr_37_0, wr_37_26, wl_38, ws_38, wl_50, ws_50, w_has3, w_isMan, w_areTwo, w_isHour3, w_in3, w_night, wtM_0, wtM_1, wtM_2, nI_add, nI_1, nI_mul, nI_and, nI_or, nI_sd, nI_sub, l_sub1, l_addm1, l_all, l_1shl, l_or0, l_add0, l_0add, l_m1, l_m1r, l_neg, l_nn, l_eq0, l_le0, l_0lt, l_eq1, l_m1lt, l_m1le, l_m1eq0, l_10, l_00, l_1le, nI_le_l, nI_lt_l, nI_eq_l, bc_nI, nt_nI, bit_nI, b2_ite, b2_ite1, nI_max, nI_min, isR_nI, n_100, n_2, n_26, n_27, hi_ne, hi_ni, hi_eq, y_iL, y_iR, y_lI, y_lR, hl_ne, hl_ni, hl_eq, y_rI, y_rL, if_true, if_false, if_pos, if_neg, true_and, and_true, not_true_eq_false, not_false_eq_true, x.n, x.h, x.b, x.mo, x.wi, x.ca, x.ro, x.ti, x.il, x.ni, x.ga, x.ri]
      have f4 : Fr [47, 50, 51, 52] [] [11, 12, 13, 14, 15, 16, 21, 27, 28] σ (wI (wI τ3 50 i (a.rota (i + 1 + m))) 50 (i + 1 + m) (a.rota i)) := (f3.putI rfl).putI rfl
      have hc4 : MH (wI (wI τ3 50 i (a.rota (i + 1 + m))) 50 (i + 1 + m) (a.rota i)) 50 0 (swp a i (i + 1 + m)) := by
        obtain ⟨hc1, hc2, hc3, hc5, hc6, hc7⟩ := hc
        refine ⟨fun h hh => ?_, fun r hr' => ?_, fun r hr' => ?_, ?_, ?_, ?_⟩
        · rw [Nat.zero_add]
          show hi _ 50 h = (if h = i + 1 + m then a.rota i else if h = i then a.rota (i + 1 + m) else a.rota h)
          by_cases e1 : h = i + 1 + m
          · rw [if_pos e1, e1, hi_eq]
          · rw [if_neg e1, hi_ni e1]
            by_cases e2 : h = i
            · rw [if_pos e2, e2, hi_eq]
            · rw [if_neg e2, hi_ni e2]
              have := hc1 h hh
              rw [Nat.zero_add] at this
              exact this
        · rw [hi_ni (by omega), hi_ni (by omega)]; exact hc2 r hr'
        · rw [hi_ni (by omega), hi_ni (by omega)]; exact hc3 r hr'
        · rw [hi_ni (by omega), hi_ni (by omega)]; exact hc5
        · rw [hi_ni (by omega), hi_ni (by omega)]; exact hc6
        · rw [hi_ni (by omega), hi_ni (by omega)]; exact hc7
      have x4 := x0.fr f4 rfl
      have ok4 := swp_ok x.ok (i := i) (j := i + 1 + m) (by omega) (by omega)
      have g8 := gapN_lt x.pk ok4
      rw [wp_bnd]
      refine wp_mono (m_goNight_50 x4.y hc4 ok4) (fun _ τ5 h => ?_)
      obtain ⟨f5, -, k1, -⟩ := h
      have f6 := f4.then f5 rfl
      replace x := x0.fr f6 rfl
      have fin : ∀ o3, trU P a o2 i (i + 1 + m) = o3 → wp (ag' ((tdM o3).1, (tdM o3).2.1, (tdM o3).2.2, nI (i + 1 + (m + 1))) τ5) Q := fun o3 ho => hag' _ _ ⟨by rw [ho], f6⟩
      rw [show i + 1 + (m + 1) = i + 1 + m + 1 by omega] at fin
      unfold trU at fin
      generalize gapN P (swp a i (i + 1 + m)) = g at *
      have p8 := pop_le g
      cases o2 with
      | none =>
        have := fin _ rfl
        unfold tdM at this ⊢
        dsimp only at this ⊢
        simp (disch := first | omega | exact x.s | exact hi_eq | ((repeat (first | exact x.s | apply sw_I | apply sw_L | apply sw_cp | apply sw_18 | apply sw_21 | apply sw_22 | apply sw_m12 | apply sw_m18)); done) | rfl) only [wp_ite, wp_some, y_jn, wp_r0, wp_r1, wp_b2, y_nn, w_bc, w_nt, wo_37, wg_37, wi_37, wr_37_0, wr_37_26, wl_38, ws_38, wl_50, ws_50, w_has3, w_isMan, w_areTwo, w_isHour3, w_in3, w_night, wtM_0, wtM_1, wtM_2, nI_add, nI_1, nI_mul, nI_and, nI_or, nI_sd, nI_sub, l_sub1, l_addm1, l_all, l_1shl, l_or0, l_add0, l_0add, l_m1, l_m1r, l_neg, l_nn, l_eq0, l_le0, l_0lt, l_eq1, l_m1lt, l_m1le, l_m1eq0, l_10, l_00, l_1le, nI_le_l, nI_lt_l, nI_eq_l, bc_nI, nt_nI, bit_nI, b2_ite, b2_ite1, nI_max, nI_min, isR_nI, n_100, n_2, n_26, n_27, hi_ne, hi_ni, hi_eq, y_iL, y_iR, y_lI, y_lR, hl_ne, hl_ni, hl_eq, y_rI, y_rL, if_true, if_false, if_pos, if_neg, true_and, and_true, not_true_eq_false, not_false_eq_true, x.n, x.h, x.b, x.mo, x.wi, x.ca, x.ro, x.ti, x.il, x.ni, x.ga, x.ri, k1]
        exact this
      | some y =>
        have yl := jl y rfl
        dsimp only at fin
        unfold tdM
        dsimp only
        simp (disch := first | omega | exact x.s | exact hi_eq | ((repeat (first | exact x.s | apply sw_I | apply sw_L | apply sw_cp | apply sw_18 | apply sw_21 | apply sw_22 | apply sw_m12 | apply sw_m18)); done) | rfl) only [wp_ite, wp_some, y_jn, wp_r0, wp_r1, wp_b2, y_nn, w_bc, w_nt, wo_37, wg_37, wi_37, wr_37_0, wr_37_26, wl_38, ws_38, wl_50, ws_50, w_has3, w_isMan, w_areTwo, w_isHour3, w_in3, w_night, wtM_0, wtM_1, wtM_2, nI_add, nI_1, nI_mul, nI_and, nI_or, nI_sd, nI_sub, l_sub1, l_addm1, l_all, l_1shl, l_or0, l_add0, l_0add, l_m1, l_m1r, l_neg, l_nn, l_eq0, l_le0, l_0lt, l_eq1, l_m1lt, l_m1le, l_m1eq0, l_10, l_00, l_1le, nI_le_l, nI_lt_l, nI_eq_l, bc_nI, nt_nI, bit_nI, b2_ite, b2_ite1, nI_max, nI_min, isR_nI, n_100, n_2, n_26, n_27, hi_ne, hi_ni, hi_eq, y_iL, y_iR, y_lI, y_lR, hl_ne, hl_ni, hl_eq, y_rI, y_rL, if_true, if_false, if_pos, if_neg, true_and, and_true, not_true_eq_false, not_false_eq_true, x.n, x.h, x.b, x.mo, x.wi, x.ca, x.ro, x.ti, x.il, x.ni, x.ga, x.ri, k1]
        by_cases e : pop g < y.2.2
        · rw [if_pos e] at fin ⊢
          exact fin _ rfl
        · rw [if_neg e] at fin ⊢
          exact fin _ rfl
    · obtain ⟨rfl, f2⟩ := hJ
      replace x := x0.fr f2 rfl
      rw [show i + 1 + (P.hrs - (i + 1)) = P.hrs by omega]
      unfold f_X3_trade_b41
      simp (disch := first | omega | exact x.s | exact hi_eq | ((repeat (first | exact x.s | apply sw_I | apply sw_L | apply sw_cp | apply sw_18 | apply sw_21 | apply sw_22 | apply sw_m12 | apply sw_m18)); done) | rfl) only [wp_ite, wp_some, y_jn, wp_r0, wp_r1, wp_b2, y_nn, w_bc, w_nt, wo_37, wg_37, wi_37, wr_37_0, wr_37_26, wl_38, ws_38, wl_50, ws_50, w_has3, w_isMan, w_areTwo, w_isHour3, w_in3, w_night, wtM_0, wtM_1, wtM_2, nI_add, nI_1, nI_mul, nI_and, nI_or, nI_sd, nI_sub, l_sub1, l_addm1, l_all, l_1shl, l_or0, l_add0, l_0add, l_m1, l_m1r, l_neg, l_nn, l_eq0, l_le0, l_0lt, l_eq1, l_m1lt, l_m1le, l_m1eq0, l_10, l_00, l_1le, nI_le_l, nI_lt_l, nI_eq_l, bc_nI, nt_nI, bit_nI, b2_ite, b2_ite1, nI_max, nI_min, isR_nI, n_100, n_2, n_26, n_27, hi_ne, hi_ni, hi_eq, y_iL, y_iR, y_lI, y_lR, hl_ne, hl_ni, hl_eq, y_rI, y_rL, if_true, if_false, if_pos, if_neg, true_and, and_true, not_true_eq_false, not_false_eq_true, x.n, x.h, x.b, x.mo, x.wi, x.ca, x.ro, x.ti, x.il, x.ni, x.ga, x.ri]
      exact hag _ _ ⟨rfl, f2⟩
  · obtain ⟨rfl, f1⟩ := hJ
    replace x := x0.fr f1 rfl
    unfold f_X3_trade_b26
    simp (disch := first | omega | exact x.s | exact hi_eq | ((repeat (first | exact x.s | apply sw_I | apply sw_L | apply sw_cp | apply sw_18 | apply sw_21 | apply sw_22 | apply sw_m12 | apply sw_m18)); done) | rfl) only [wp_ite, wp_some, y_jn, wp_r0, wp_r1, wp_b2, y_nn, w_bc, w_nt, wo_37, wg_37, wi_37, wr_37_0, wr_37_26, wl_38, ws_38, wl_50, ws_50, w_has3, w_isMan, w_areTwo, w_isHour3, w_in3, w_night, wtM_0, wtM_1, wtM_2, nI_add, nI_1, nI_mul, nI_and, nI_or, nI_sd, nI_sub, l_sub1, l_addm1, l_all, l_1shl, l_or0, l_add0, l_0add, l_m1, l_m1r, l_neg, l_nn, l_eq0, l_le0, l_0lt, l_eq1, l_m1lt, l_m1le, l_m1eq0, l_10, l_00, l_1le, nI_le_l, nI_lt_l, nI_eq_l, bc_nI, nt_nI, bit_nI, b2_ite, b2_ite1, nI_max, nI_min, isR_nI, n_10, n_1000000000, n_11, n_2, n_26, n_27, hi_ne, hi_ni, hi_eq, y_iL, y_iR, y_lI, y_lR, hl_ne, hl_ni, hl_eq, y_rI, y_rL, if_true, if_false, if_pos, if_neg, true_and, and_true, not_true_eq_false, not_false_eq_true, x.n, x.h, x.b, x.mo, x.wi, x.ca, x.ro, x.ti, x.il, x.ni, x.ga, x.ri]
    rw [wp_bnd]
    refine wp_mono (m_lay50 x) (fun _ τ3 h => ?_)
    obtain ⟨hb, hc⟩ := h
    have f3 := f1.then hb rfl
    replace x := x0.fr f3 rfl
    simp (disch := first | omega | exact x.s | exact hi_eq | ((repeat (first | exact x.s | apply sw_I | apply sw_L | apply sw_cp | apply sw_18 | apply sw_21 | apply sw_22 | apply sw_m12 | apply sw_m18)); done) | rfl) only [wp_ite, wp_some, y_jn, wp_r0, wp_r1, wp_b2, y_nn, w_bc, w_nt, wo_37, wg_37, wi_37, wr_37_0, wr_37_26, wl_38, ws_38, wl_50, ws_50, w_has3, w_isMan, w_areTwo, w_isHour3, w_in3, w_night, wtM_0, wtM_1, wtM_2, nI_add, nI_1, nI_mul, nI_and, nI_or, nI_sd, nI_sub, l_sub1, l_addm1, l_all, l_1shl, l_or0, l_add0, l_0add, l_m1, l_m1r, l_neg, l_nn, l_eq0, l_le0, l_0lt, l_eq1, l_m1lt, l_m1le, l_m1eq0, l_10, l_00, l_1le, nI_le_l, nI_lt_l, nI_eq_l, bc_nI, nt_nI, bit_nI, b2_ite, b2_ite1, nI_max, nI_min, isR_nI, n_10, n_1000000000, n_11, n_2, n_26, n_27, hi_ne, hi_ni, hi_eq, y_iL, y_iR, y_lI, y_lR, hl_ne, hl_ni, hl_eq, y_rI, y_rL, if_true, if_false, if_pos, if_neg, true_and, and_true, not_true_eq_false, not_false_eq_true, x.n, x.h, x.b, x.mo, x.wi, x.ca, x.ro, x.ti, x.il, x.ni, x.ga, x.ri]
    rw [wp_bnd]
    refine wp_mono (m_goNight_50 x.y hc x.ok) (fun _ τ5 h => ?_)
    obtain ⟨f5, -, k1, -⟩ := h
    have f6 := f3.then f5 rfl
    replace x := x0.fr f6 rfl
    simp (disch := first | omega | exact x.s | exact hi_eq | ((repeat (first | exact x.s | apply sw_I | apply sw_L | apply sw_cp | apply sw_18 | apply sw_21 | apply sw_22 | apply sw_m12 | apply sw_m18)); done) | rfl) only [wp_ite, wp_some, y_jn, wp_r0, wp_r1, wp_b2, y_nn, w_bc, w_nt, wo_37, wg_37, wi_37, wr_37_0, wr_37_26, wl_38, ws_38, wl_50, ws_50, w_has3, w_isMan, w_areTwo, w_isHour3, w_in3, w_night, wtM_0, wtM_1, wtM_2, nI_add, nI_1, nI_mul, nI_and, nI_or, nI_sd, nI_sub, l_sub1, l_addm1, l_all, l_1shl, l_or0, l_add0, l_0add, l_m1, l_m1r, l_neg, l_nn, l_eq0, l_le0, l_0lt, l_eq1, l_m1lt, l_m1le, l_m1eq0, l_10, l_00, l_1le, nI_le_l, nI_lt_l, nI_eq_l, bc_nI, nt_nI, bit_nI, b2_ite, b2_ite1, nI_max, nI_min, isR_nI, hi_ne, hi_ni, hi_eq, y_iL, y_iR, y_lI, y_lR, hl_ne, hl_ni, hl_eq, y_rI, y_rL, if_true, if_false, if_pos, if_neg, true_and, and_true, not_true_eq_false, not_false_eq_true, x.n, x.h, x.b, x.mo, x.wi, x.ca, x.ro, x.ti, x.il, x.ni, x.ga, x.ri, k1]
    rw [← hQ]
    obtain ⟨y, hy⟩ := trO_some (P := P) (a := a) h2
    rw [hy]
    exact ⟨rfl, (by repeat (first | exact f6 | exact (f6).mono rfl | refine Fr.putI ?_ rfl | refine Fr.putL ?_ rfl | refine Fr.putR ?_ rfl)), s.fr (D := [43, 47, 50, 51, 52]) (F := []) (G := [10, 11, 12, 13, 14, 15, 16, 21, 27, 28]) (by repeat (first | exact f6 | exact (f6).mono rfl | refine Fr.putI ?_ rfl | refine Fr.putL ?_ rfl | refine Fr.putR ?_ rfl)) rfl, rowM3⟩
end trade
