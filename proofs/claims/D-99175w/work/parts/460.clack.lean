/-! PURE 50: the class: sets that lack -/
def canS (P : Pk) (s r : Nat) : Nat := if s.testBit r then P.can r else 0
def lackB (P : Pk) (s T : Nat) : Bool := decide (gS P.most (canS P s) T P.n < pop T)
def lackO (P : Pk) (s : Nat) : Option Nat := bst fewer (lackB P s) (2 ^ P.hrs)
def wellN (P : Pk) (a : HS) : Nat := sd (2 ^ P.n - 1) a.ill
/-- a set found is told -/
def setR (o : Option Nat) : Int32 × Option (List Int64) := match o with
  | none => (-2, none)
  | some b => (nI (pop b), some [(nI b).toInt64])
def more (m b : Nat) : Bool := decide (pop b < pop m)
/-- one step of the search, the best so far being none or a number -/
theorem bst_step {bt : Nat → Nat → Bool} {p : Nat → Bool} (m : Nat) : bst bt p (m + 1) = if p m = true ∧ (bst bt p m = none ∨ ∃ b, bst bt p m = some b ∧ bt m b = true) then some m else bst bt p m := by
  show (if p m && (match bst bt p m with | none => true | some b => bt m b) then some m else bst bt p m) = _
  cases hb : bst bt p m with
  | none =>
    cases hp : p m
    · simp
    · simp
  | some b =>
    cases hp : p m
    · simp
    · simp
theorem bst_lt {bt : Nat → Nat → Bool} {p : Nat → Bool} : ∀ m b, bst bt p m = some b → b < m ∧ p b = true := by
  intro m
  induction m with
  | zero => intro b h; cases h
  | succ m ih =>
    intro b h
    rw [bst_step] at h
    split at h
    · rename_i hc
      cases h
      exact ⟨Nat.lt_succ_self _, hc.1⟩
    · obtain ⟨h1, h2⟩ := ih b h
      exact ⟨by omega, h2⟩
section clack
variable {σ τ : Hp} {P : Pk} {a : HS}
theorem gS_le (pk : POK P) (N : Nat → Nat) (T : Nat) : ∀ n, gS P.most N T n ≤ 4 * n := by
  intro n
  induction n with
  | zero => exact Nat.le_refl _
  | succ n ih =>
    show gS P.most N T n + ind (P.most n) (N n) T ≤ _
    have := (pk.2.2.2 n).1
    have : ind (P.most n) (N n) T ≤ P.most n := by unfold ind; split <;> omega
    omega
theorem lackO_pos {s m b : Nat} (h : bst fewer (lackB P s) m = some b) : b ≠ 0 := by
  obtain ⟨-, h2⟩ := bst_lt m b h
  intro e
  subst e
  have := of_decide_eq_true h2
  rw [pop_zero] at this
  omega
theorem c_lacking (x : CX σ P a) {s : Nat} (hs : s < 256) : f_X1_lacking (some 0) (nI s) σ = some (nI ((lackO P s).getD 0), σ) := by
  have n8 := x.n8
  have h8 := x.h8
  have W8 : 2 ^ P.hrs ≤ 256 := pow_le8 h8
  have Wp : 0 < 2 ^ P.hrs := Nat.two_pow_pos _
  refine wp_eq ?_
  unfold f_X1_lacking
  refine wp_up (2 ^ P.hrs - 1) (fun i y τ => y = (nI ((bst fewer (lackB P s) (i + 1)).getD 0), nI (i + 1)) ∧ τ = σ) (fun ag i y τ hi' hJ hag => ?_) (fun ag y τ hJ => ?_) (by omega) ⟨?_, rfl⟩
  · obtain ⟨rfl, rfl⟩ := hJ
    unfold f_X1_lacking_b4
    simp (disch := first | omega | exact x.s | exact hi_eq | ((repeat (first | exact x.s | apply sw_I | apply sw_L | apply sw_cp | apply sw_18 | apply sw_21 | apply sw_22 | apply sw_m12 | apply sw_m18)); done) | rfl) only [wp_ite, wp_some, w_jn, wp_r0, wp_r1, wp_b2, wp_nn, w_bc, w_nt, wo_0, wg_0, wi_0, w_has, w_isRider, w_isPair, w_isHour, w_in, w_in0, w_in_0_1, w_in_0_10, w_in_0_3, w_in_0_30, w_in_0_60, w_in_0_7, w_in_0_9, w_in_0_999, w_in_1_60, w_in_20_27, w_in_2_40, w_in_48_57, w_whole, w_all, wt_0, wt_1, wt_2, nI_add, nI_1, nI_mul, nI_and, nI_or, nI_sd, nI_sub, l_sub1, l_addm1, l_all, l_1shl, l_or0, l_add0, l_0add, l_m1, l_m1r, l_neg, l_nn, l_eq0, l_le0, l_0lt, l_eq1, l_m1lt, l_m1le, l_m1eq0, l_10, l_00, l_1le, nI_le_l, nI_lt_l, nI_eq_l, bc_nI, nt_nI, bit_nI, b2_ite, b2_ite1, nI_max, nI_min, isR_nI, hi_ne, hi_ni, hi_eq, hi_wL, hi_wR, hl_wI, hl_wR, hl_ne, hl_ni, hl_eq, hr_wI, hr_wL, if_true, if_false, if_pos, if_neg, true_and, and_true, not_true_eq_false, not_false_eq_true, x.n, x.h, x.b, x.mo, x.wi, x.ca, x.ro, x.ti, x.il, x.ni, x.ga, x.ri]
    refine wp_up P.n (fun j y τ' => y = (nI (gS P.most (canS P s) (i + 1) j), nI j) ∧ τ' = τ) (fun ag' j y τ' hj hJ hag' => ?_) (fun ag' y τ' hJ => ?_) (by omega) ⟨rfl, rfl⟩
    · obtain ⟨rfl, rfl⟩ := hJ
      have cl := x.c8 j
      have cl2 : P.can j &&& (i + 1) < 256 := and_lt _ cl
      have fin : ∀ v, v = nI (gS P.most (canS P s) (i + 1) j + ind (P.most j) (canS P s j) (i + 1)) → wp (ag' (v, nI (j + 1)) τ') (fun v υ => v = nI ((lackO P s).getD 0) ∧ υ = τ') := fun v hv => hag' _ _ ⟨by rw [hv]; rfl, rfl⟩
      unfold f_X1_lacking_b18
      simp (disch := first | omega | exact x.s | exact hi_eq | ((repeat (first | exact x.s | apply sw_I | apply sw_L | apply sw_cp | apply sw_18 | apply sw_21 | apply sw_22 | apply sw_m12 | apply sw_m18)); done) | rfl) only [wp_ite, wp_some, w_jn, wp_r0, wp_r1, wp_b2, wp_nn, w_bc, w_nt, wo_0, wg_0, wi_0, wr_0_2, wr_0_4, wl_7, ws_7, wl_9, ws_9, w_has, w_isRider, w_isPair, w_isHour, w_in, w_in0, w_in_0_1, w_in_0_10, w_in_0_3, w_in_0_30, w_in_0_60, w_in_0_7, w_in_0_9, w_in_0_999, w_in_1_60, w_in_20_27, w_in_2_40, w_in_48_57, w_whole, w_all, wt_0, wt_1, wt_2, nI_add, nI_1, nI_mul, nI_and, nI_or, nI_sd, nI_sub, l_sub1, l_addm1, l_all, l_1shl, l_or0, l_add0, l_0add, l_m1, l_m1r, l_neg, l_nn, l_eq0, l_le0, l_0lt, l_eq1, l_m1lt, l_m1le, l_m1eq0, l_10, l_00, l_1le, nI_le_l, nI_lt_l, nI_eq_l, bc_nI, nt_nI, bit_nI, b2_ite, b2_ite1, nI_max, nI_min, isR_nI, n_100, n_2, n_4, n_5, hi_ne, hi_ni, hi_eq, hi_wL, hi_wR, hl_wI, hl_wR, hl_ne, hl_ni, hl_eq, hr_wI, hr_wL, if_true, if_false, if_pos, if_neg, true_and, and_true, not_true_eq_false, not_false_eq_true, x.n, x.h, x.b, x.mo, x.wi, x.ca, x.ro, x.ti, x.il, x.ni, x.ga, x.ri]
      by_cases e1 : s.testBit j = true
      · rw [if_pos e1]
        by_cases e2 : P.can j &&& (i + 1) = 0
        · rw [if_pos e2]
          exact fin _ (by unfold ind canS; rw [if_pos e1, if_pos e2]; rfl)
        · rw [if_neg e2]
          exact fin _ (by unfold ind canS; rw [if_pos e1, if_neg e2])
      · rw [if_neg e1]
        exact fin _ (by unfold ind canS; rw [if_neg e1, Nat.zero_and, if_pos rfl]; rfl)
    · obtain ⟨rfl, rfl⟩ := hJ
      have g8 := gS_le x.pk (canS P s) (i + 1) P.n
      have p8 := pop_le (i + 1)
      have st := bst_step (bt := fewer) (p := lackB P s) (i + 1)
      have pb : lackB P s (i + 1) = true ↔ gS P.most (canS P s) (i + 1) P.n < pop (i + 1) := decide_eq_true_iff
      unfold f_X1_lacking_b18
      cases hb : bst fewer (lackB P s) (i + 1) with
      | none =>
        rw [hb] at st
        simp (disch := first | omega | exact x.s | exact hi_eq | ((repeat (first | exact x.s | apply sw_I | apply sw_L | apply sw_cp | apply sw_18 | apply sw_21 | apply sw_22 | apply sw_m12 | apply sw_m18)); done) | rfl) only [wp_ite, wp_some, w_jn, wp_r0, wp_r1, wp_b2, wp_nn, w_bc, w_nt, wo_0, wg_0, wi_0, wr_0_2, wr_0_4, wl_7, ws_7, wl_9, ws_9, w_has, w_isRider, w_isPair, w_isHour, w_in, w_in0, w_in_0_1, w_in_0_10, w_in_0_3, w_in_0_30, w_in_0_60, w_in_0_7, w_in_0_9, w_in_0_999, w_in_1_60, w_in_20_27, w_in_2_40, w_in_48_57, w_whole, w_all, wt_0, wt_1, wt_2, nI_add, nI_1, nI_mul, nI_and, nI_or, nI_sd, nI_sub, l_sub1, l_addm1, l_all, l_1shl, l_or0, l_add0, l_0add, l_m1, l_m1r, l_neg, l_nn, l_eq0, l_le0, l_0lt, l_eq1, l_m1lt, l_m1le, l_m1eq0, l_10, l_00, l_1le, nI_le_l, nI_lt_l, nI_eq_l, bc_nI, nt_nI, bit_nI, b2_ite, b2_ite1, nI_max, nI_min, isR_nI, n_100, n_2, n_4, n_5, hi_ne, hi_ni, hi_eq, hi_wL, hi_wR, hl_wI, hl_wR, hl_ne, hl_ni, hl_eq, hr_wI, hr_wL, if_true, if_false, if_pos, if_neg, true_and, and_true, not_true_eq_false, not_false_eq_true, x.n, x.h, x.b, x.mo, x.wi, x.ca, x.ro, x.ti, x.il, x.ni, x.ga, x.ri, Option.getD_none]
        split
        · rename_i hc
          refine hag _ _ ⟨?_, rfl⟩
          rw [st, if_neg (fun z => by have := pb.mp z.1; omega)]
          rfl
        · rename_i hc
          refine hag _ _ ⟨?_, rfl⟩
          rw [st, if_pos ⟨pb.mpr (by omega), Or.inl rfl⟩]
          rfl
      | some b =>
        rw [hb] at st
        have b0 := lackO_pos hb
        have bl := (bst_lt _ _ hb).1
        have q8 := pop_le b
        have fb : fewer (i + 1) b = true ↔ pop (i + 1) < pop b := decide_eq_true_iff
        simp (disch := first | omega | exact x.s | exact hi_eq | ((repeat (first | exact x.s | apply sw_I | apply sw_L | apply sw_cp | apply sw_18 | apply sw_21 | apply sw_22 | apply sw_m12 | apply sw_m18)); done) | rfl) only [wp_ite, wp_some, w_jn, wp_r0, wp_r1, wp_b2, wp_nn, w_bc, w_nt, wo_0, wg_0, wi_0, wr_0_2, wr_0_4, wl_7, ws_7, wl_9, ws_9, w_has, w_isRider, w_isPair, w_isHour, w_in, w_in0, w_in_0_1, w_in_0_10, w_in_0_3, w_in_0_30, w_in_0_60, w_in_0_7, w_in_0_9, w_in_0_999, w_in_1_60, w_in_20_27, w_in_2_40, w_in_48_57, w_whole, w_all, wt_0, wt_1, wt_2, nI_add, nI_1, nI_mul, nI_and, nI_or, nI_sd, nI_sub, l_sub1, l_addm1, l_all, l_1shl, l_or0, l_add0, l_0add, l_m1, l_m1r, l_neg, l_nn, l_eq0, l_le0, l_0lt, l_eq1, l_m1lt, l_m1le, l_m1eq0, l_10, l_00, l_1le, nI_le_l, nI_lt_l, nI_eq_l, bc_nI, nt_nI, bit_nI, b2_ite, b2_ite1, nI_max, nI_min, isR_nI, n_100, n_2, n_4, n_5, hi_ne, hi_ni, hi_eq, hi_wL, hi_wR, hl_wI, hl_wR, hl_ne, hl_ni, hl_eq, hr_wI, hr_wL, if_true, if_false, if_pos, if_neg, true_and, and_true, not_true_eq_false, not_false_eq_true, x.n, x.h, x.b, x.mo, x.wi, x.ca, x.ro, x.ti, x.il, x.ni, x.ga, x.ri, Option.getD_some]
        split
        · rename_i hc
          refine hag _ _ ⟨?_, rfl⟩
          rw [st, if_neg]
          · rfl
          · rintro ⟨-, h | ⟨b', h, h'⟩⟩
            · cases h
            · cases h; have := fb.mp h'; omega
        · rename_i hc
          split
          · rename_i hd
            refine hag _ _ ⟨?_, rfl⟩
            rw [st, if_neg (fun z => by have := pb.mp z.1; omega)]
            rfl
          · rename_i hd
            refine hag _ _ ⟨?_, rfl⟩
            rw [st, if_pos ⟨pb.mpr (by omega), Or.inr ⟨b, rfl, fb.mpr (by omega)⟩⟩]
            rfl
  · obtain ⟨rfl, rfl⟩ := hJ
    unfold f_X1_lacking_b4
    simp (disch := first | omega | exact x.s | exact hi_eq | ((repeat (first | exact x.s | apply sw_I | apply sw_L | apply sw_cp | apply sw_18 | apply sw_21 | apply sw_22 | apply sw_m12 | apply sw_m18)); done) | rfl) only [wp_ite, wp_some, w_jn, wp_r0, wp_r1, wp_b2, wp_nn, w_bc, w_nt, wo_0, wg_0, wi_0, w_has, w_isRider, w_isPair, w_isHour, w_in, w_in0, w_in_0_1, w_in_0_10, w_in_0_3, w_in_0_30, w_in_0_60, w_in_0_7, w_in_0_9, w_in_0_999, w_in_1_60, w_in_20_27, w_in_2_40, w_in_48_57, w_whole, w_all, wt_0, wt_1, wt_2, nI_add, nI_1, nI_mul, nI_and, nI_or, nI_sd, nI_sub, l_sub1, l_addm1, l_all, l_1shl, l_or0, l_add0, l_0add, l_m1, l_m1r, l_neg, l_nn, l_eq0, l_le0, l_0lt, l_eq1, l_m1lt, l_m1le, l_m1eq0, l_10, l_00, l_1le, nI_le_l, nI_lt_l, nI_eq_l, bc_nI, nt_nI, bit_nI, b2_ite, b2_ite1, nI_max, nI_min, isR_nI, hi_ne, hi_ni, hi_eq, hi_wL, hi_wR, hl_wI, hl_wR, hl_ne, hl_ni, hl_eq, hr_wI, hr_wL, if_true, if_false, if_pos, if_neg, true_and, and_true, not_true_eq_false, not_false_eq_true, x.n, x.h, x.b, x.mo, x.wi, x.ca, x.ro, x.ti, x.il, x.ni, x.ga, x.ri, Nat.sub_add_cancel]
    rfl
  · have : lackB P s 0 = false := decide_eq_false (by rw [pop_zero]; omega)
    show _ = (nI ((bst fewer (lackB P s) (0 + 1)).getD 0), nI 1)
    rw [bst_step, if_neg (by rw [this]; simp)]
    rfl
theorem wellN_lt (n8 : P.n ≤ 8) : wellN P a < 256 := sd_lt _ (all_lt n8)
theorem c_well (x : CX σ P a) : f_X1_well (some 0) σ = some (nI (wellN P a), σ) := by
  have n8 := x.n8
  refine wp_eq ?_
  unfold f_X1_well
  simp (disch := first | omega | exact x.s | exact hi_eq | ((repeat (first | exact x.s | apply sw_I | apply sw_L | apply sw_cp | apply sw_18 | apply sw_21 | apply sw_22 | apply sw_m12 | apply sw_m18)); done) | rfl) only [wp_ite, wp_some, w_jn, wp_r0, wp_r1, wp_b2, wp_nn, w_bc, w_nt, wo_0, wg_0, wi_0, wr_0_0, wo_1, wg_1, wi_1, wr_1_0, wr_1_1, wl_2, ws_2, wl_3, ws_3, wo_4, wg_4, wi_4, wr_4_0, wr_4_1, wl_5, ws_5, wl_6, ws_6, w_has, w_isRider, w_isPair, w_isHour, w_in, w_in0, w_in_0_1, w_in_0_10, w_in_0_3, w_in_0_30, w_in_0_60, w_in_0_7, w_in_0_9, w_in_0_999, w_in_1_60, w_in_20_27, w_in_2_40, w_in_48_57, w_whole, w_all, wt_0, wt_1, wt_2, nI_add, nI_1, nI_mul, nI_and, nI_or, nI_sd, nI_sub, l_sub1, l_addm1, l_all, l_1shl, l_or0, l_add0, l_0add, l_m1, l_m1r, l_neg, l_nn, l_eq0, l_le0, l_0lt, l_eq1, l_m1lt, l_m1le, l_m1eq0, l_10, l_00, l_1le, nI_le_l, nI_lt_l, nI_eq_l, bc_nI, nt_nI, bit_nI, b2_ite, b2_ite1, nI_max, nI_min, isR_nI, n_2, hi_ne, hi_ni, hi_eq, hi_wL, hi_wR, hl_wI, hl_wR, hl_ne, hl_ni, hl_eq, hr_wI, hr_wL, if_true, if_false, if_pos, if_neg, true_and, and_true, not_true_eq_false, not_false_eq_true, x.n, x.h, x.b, x.mo, x.wi, x.ca, x.ro, x.ti, x.il, x.ni, x.ga, x.ri]
  rfl
theorem c_setTold (x : CX σ P a) (s : SC σ) {b : Nat} (hb : b < 256) : wp (pI 0 0 52 σ (some 0) 0 fun σ => ob 0 σ (some 0) fun _ => bnd (f_X1_tells (some 0) (Int32.toInt64 (nI b)) σ) fun _ σ => bnd (f_J10_bitCount (nI b) σ) fun x3 σ => some (x3, σ)) (QuC σ (setR (some b)).1 (setR (some b)).2) := by
  skip
  simp (disch := first | omega | exact x.s | exact hi_eq | ((repeat (first | exact x.s | apply sw_I | apply sw_L | apply sw_cp | apply sw_18 | apply sw_21 | apply sw_22 | apply sw_m12 | apply sw_m18)); done) | rfl) only [wp_ite, wp_some, w_jn, wp_r0, wp_r1, wp_b2, wp_nn, w_bc, w_nt, wo_0, wg_0, wi_0, w_has, w_isRider, w_isPair, w_isHour, w_in, w_in0, w_in_0_1, w_in_0_10, w_in_0_3, w_in_0_30, w_in_0_60, w_in_0_7, w_in_0_9, w_in_0_999, w_in_1_60, w_in_20_27, w_in_2_40, w_in_48_57, w_whole, w_all, wt_0, wt_1, wt_2, nI_add, nI_1, nI_mul, nI_and, nI_or, nI_sd, nI_sub, l_sub1, l_addm1, l_all, l_1shl, l_or0, l_add0, l_0add, l_m1, l_m1r, l_neg, l_nn, l_eq0, l_le0, l_0lt, l_eq1, l_m1lt, l_m1le, l_m1eq0, l_10, l_00, l_1le, nI_le_l, nI_lt_l, nI_eq_l, bc_nI, nt_nI, bit_nI, b2_ite, b2_ite1, nI_max, nI_min, isR_nI, n_2, hi_ne, hi_ni, hi_eq, hi_wL, hi_wR, hl_wI, hl_wR, hl_ne, hl_ni, hl_eq, hr_wI, hr_wL, if_true, if_false, if_pos, if_neg, true_and, and_true, not_true_eq_false, not_false_eq_true, x.n, x.h, x.b, x.mo, x.wi, x.ca, x.ro, x.ti, x.il, x.ni, x.ga, x.ri]
  exact ⟨rfl, (by repeat (first | exact Fr.refl | exact (Fr.refl).mono rfl | refine Fr.putI ?_ rfl | refine Fr.putL ?_ rfl | refine Fr.putR ?_ rfl)), s.fr (D := [36]) (F := [52]) (G := []) (by repeat (first | exact Fr.refl | exact (Fr.refl).mono rfl | refine Fr.putI ?_ rfl | refine Fr.putL ?_ rfl | refine Fr.putR ?_ rfl)) rfl, row1⟩
theorem c_bare (x : CX σ P a) (s : SC σ) : wp (f_X1_bare (some 0) σ) (QuC σ (setR (lackO P (wellN P a))).1 (setR (lackO P (wellN P a))).2) := by
  have w8 := wellN_lt (P := P) (a := a) x.n8
  have W8 : 2 ^ P.hrs ≤ 256 := pow_le8 x.h8
  unfold f_X1_bare
  simp (disch := first | omega | exact x.s | exact hi_eq | ((repeat (first | exact x.s | apply sw_I | apply sw_L | apply sw_cp | apply sw_18 | apply sw_21 | apply sw_22 | apply sw_m12 | apply sw_m18)); done) | rfl) only [wp_ite, wp_some, w_jn, wp_r0, wp_r1, wp_b2, wp_nn, w_bc, w_nt, wo_0, wg_0, wi_0, w_has, w_isRider, w_isPair, w_isHour, w_in, w_in0, w_in_0_1, w_in_0_10, w_in_0_3, w_in_0_30, w_in_0_60, w_in_0_7, w_in_0_9, w_in_0_999, w_in_1_60, w_in_20_27, w_in_2_40, w_in_48_57, w_whole, w_all, wt_0, wt_1, wt_2, nI_add, nI_1, nI_mul, nI_and, nI_or, nI_sd, nI_sub, l_sub1, l_addm1, l_all, l_1shl, l_or0, l_add0, l_0add, l_m1, l_m1r, l_neg, l_nn, l_eq0, l_le0, l_0lt, l_eq1, l_m1lt, l_m1le, l_m1eq0, l_10, l_00, l_1le, nI_le_l, nI_lt_l, nI_eq_l, bc_nI, nt_nI, bit_nI, b2_ite, b2_ite1, nI_max, nI_min, isR_nI, n_2, hi_ne, hi_ni, hi_eq, hi_wL, hi_wR, hl_wI, hl_wR, hl_ne, hl_ni, hl_eq, hr_wI, hr_wL, if_true, if_false, if_pos, if_neg, true_and, and_true, not_true_eq_false, not_false_eq_true, x.n, x.h, x.b, x.mo, x.wi, x.ca, x.ro, x.ti, x.il, x.ni, x.ga, x.ri]
  rw [c_well x, e_bnd]
  simp (disch := first | omega | exact x.s | exact hi_eq | ((repeat (first | exact x.s | apply sw_I | apply sw_L | apply sw_cp | apply sw_18 | apply sw_21 | apply sw_22 | apply sw_m12 | apply sw_m18)); done) | rfl) only [wp_ite, wp_some, w_jn, wp_r0, wp_r1, wp_b2, wp_nn, w_bc, w_nt, wo_0, wg_0, wi_0, w_has, w_isRider, w_isPair, w_isHour, w_in, w_in0, w_in_0_1, w_in_0_10, w_in_0_3, w_in_0_30, w_in_0_60, w_in_0_7, w_in_0_9, w_in_0_999, w_in_1_60, w_in_20_27, w_in_2_40, w_in_48_57, w_whole, w_all, wt_0, wt_1, wt_2, nI_add, nI_1, nI_mul, nI_and, nI_or, nI_sd, nI_sub, l_sub1, l_addm1, l_all, l_1shl, l_or0, l_add0, l_0add, l_m1, l_m1r, l_neg, l_nn, l_eq0, l_le0, l_0lt, l_eq1, l_m1lt, l_m1le, l_m1eq0, l_10, l_00, l_1le, nI_le_l, nI_lt_l, nI_eq_l, bc_nI, nt_nI, bit_nI, b2_ite, b2_ite1, nI_max, nI_min, isR_nI, n_2, hi_ne, hi_ni, hi_eq, hi_wL, hi_wR, hl_wI, hl_wR, hl_ne, hl_ni, hl_eq, hr_wI, hr_wL, if_true, if_false, if_pos, if_neg, true_and, and_true, not_true_eq_false, not_false_eq_true, x.n, x.h, x.b, x.mo, x.wi, x.ca, x.ro, x.ti, x.il, x.ni, x.ga, x.ri]
  rw [c_lacking x w8, e_bnd]
  cases hl2 : lackO P (wellN P a) with
  | none =>
    simp (disch := first | omega | exact x.s | exact hi_eq | ((repeat (first | exact x.s | apply sw_I | apply sw_L | apply sw_cp | apply sw_18 | apply sw_21 | apply sw_22 | apply sw_m12 | apply sw_m18)); done) | rfl) only [wp_ite, wp_some, w_jn, wp_r0, wp_r1, wp_b2, wp_nn, w_bc, w_nt, wo_0, wg_0, wi_0, w_has, w_isRider, w_isPair, w_isHour, w_in, w_in0, w_in_0_1, w_in_0_10, w_in_0_3, w_in_0_30, w_in_0_60, w_in_0_7, w_in_0_9, w_in_0_999, w_in_1_60, w_in_20_27, w_in_2_40, w_in_48_57, w_whole, w_all, wt_0, wt_1, wt_2, nI_add, nI_1, nI_mul, nI_and, nI_or, nI_sd, nI_sub, l_sub1, l_addm1, l_all, l_1shl, l_or0, l_add0, l_0add, l_m1, l_m1r, l_neg, l_nn, l_eq0, l_le0, l_0lt, l_eq1, l_m1lt, l_m1le, l_m1eq0, l_10, l_00, l_1le, nI_le_l, nI_lt_l, nI_eq_l, bc_nI, nt_nI, bit_nI, b2_ite, b2_ite1, nI_max, nI_min, isR_nI, n_2, hi_ne, hi_ni, hi_eq, hi_wL, hi_wR, hl_wI, hl_wR, hl_ne, hl_ni, hl_eq, hr_wI, hr_wL, if_true, if_false, if_pos, if_neg, true_and, and_true, not_true_eq_false, not_false_eq_true, x.n, x.h, x.b, x.mo, x.wi, x.ca, x.ro, x.ti, x.il, x.ni, x.ga, x.ri, Option.getD_none]
    exact ⟨rfl, Fr.refl, s, RwC.fr (D := []) (F := []) (G := []) Fr.refl rfl⟩
  | some b =>
    have b0 := lackO_pos hl2
    have bl := (bst_lt _ _ hl2).1
    rw [show (some b).getD 0 = b from rfl, if_neg (by rw [l_eq0 (by omega)]; exact b0)]
    exact c_setTold x s (by omega)
end clack
