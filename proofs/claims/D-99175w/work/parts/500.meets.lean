/-! PURE 69: where strides meet -/
theorem nI_rem {a b : Nat} (ha : a < 2 ^ 31) (hb : b < 2 ^ 31) : irm (nI a) (nI b) = nI (a % b) := by
  have h1 : b * (a / b) ≤ a := Nat.mul_div_le a b
  have h2 := Nat.div_add_mod a b
  unfold irm
  rw [nI_div ha hb, nI_mul, nI_sub (by rw [Nat.mul_comm]; exact h1) ]
  congr 1
  rw [Nat.mul_comm]
  omega
/-- the first from lo on -/
def fvI (f : Nat → Bool) (lo n : Nat) : Int32 := match fstN (fun k => f (lo + k)) n with
  | none => -2
  | some k => nI (lo + k)
def fvC (f : Nat → Bool) (lo n : Nat) : Nat := cnt (fun k => f (lo + k)) n
theorem fvI_none {f : Nat → Bool} {lo n : Nat} (h : ∀ k, k < n → f (lo + k) = false) : fvI f lo n = -2 := by
  unfold fvI
  cases hf : fstN (fun k => f (lo + k)) n with
  | none => rfl
  | some q =>
    obtain ⟨a1, a2, -⟩ := fstN_some hf
    rw [h q a1] at a2; cases a2
theorem fvI_some {f : Nat → Bool} {lo n k : Nat} (hk' : k < n) (h1 : f (lo + k) = true) (h2 : ∀ q, q < k → f (lo + q) = false) : fvI f lo n = nI (lo + k) := by
  unfold fvI
  rw [fstN_eq (f := fun k => f (lo + k)) hk' h1 h2]
theorem cnt_zero {p : Nat → Bool} {n : Nat} : cnt p n = 0 ↔ ∀ k, k < n → p k = false := by
  induction n with
  | zero => exact ⟨fun _ k hk' => absurd hk' (Nat.not_lt_zero _), fun _ => rfl⟩
  | succ n ih =>
    unfold cnt
    constructor
    · intro h k hk'
      by_cases e : k = n
      · rw [e]
        cases hp : p n
        · rfl
        · rw [hp] at h; simp at h
      · exact ih.mp (by omega) k (by omega)
    · intro h
      rw [ih.mpr (fun k hk' => h k (by omega)), h n (by omega)]; rfl
theorem fvC_zero {f : Nat → Bool} {lo n : Nat} : fvC f lo n = 0 ↔ ∀ k, k < n → f (lo + k) = false := cnt_zero
theorem fv_cases (f : Nat → Bool) (lo n : Nat) : (fvC f lo n = 0 ∧ fvI f lo n = -2) ∨ (fvC f lo n ≠ 0 ∧ ∃ k, k < n ∧ f (lo + k) = true ∧ (∀ q, q < k → f (lo + q) = false) ∧ fvI f lo n = nI (lo + k)) := by
  cases hf : fstN (fun k => f (lo + k)) n with
  | none => exact Or.inl ⟨fvC_zero.mpr (fstN_none hf), fvI_none (fstN_none hf)⟩
  | some k =>
    obtain ⟨a1, a2, a3⟩ := fstN_some hf
    refine Or.inr ⟨fun z => ?_, k, a1, a2, a3, fvI_some a1 a2 a3⟩
    have := fvC_zero.mp z k a1
    rw [this] at a2; cases a2
theorem fvC_front (f : Nat → Bool) (lo : Nat) : ∀ n, fvC f lo (n + 1) = (f lo).toNat + fvC f (lo + 1) n := by
  intro n
  induction n with
  | zero => show 0 + (f (lo + 0)).toNat = _; rw [Nat.add_zero, Nat.zero_add]; rfl
  | succ n ih =>
    have e1 : fvC f lo (n + 1 + 1) = fvC f lo (n + 1) + (f (lo + (n + 1))).toNat := rfl
    have e2 : fvC f (lo + 1) (n + 1) = fvC f (lo + 1) n + (f (lo + 1 + n)).toNat := rfl
    rw [e1, e2, ih, show lo + 1 + n = lo + (n + 1) by omega, Nat.add_assoc]
theorem fvI_front (f : Nat → Bool) (lo n : Nat) : fvI f lo (n + 1) = if f lo = true then nI lo else fvI f (lo + 1) n := by
  by_cases h : f lo = true
  · rw [if_pos h]
    exact fvI_some (k := 0) (Nat.succ_pos _) h (fun q hq => absurd hq (Nat.not_lt_zero _))
  · rw [if_neg h]
    rcases fv_cases f (lo + 1) n with ⟨h1, h2⟩ | ⟨-, k, a1, a2, a3, a4⟩
    · rw [h2]
      refine fvI_none (fun k hk' => ?_)
      cases k with
      | zero => exact Bool.eq_false_iff.mpr h
      | succ k => have := fvC_zero.mp h1 k (by omega); rw [show lo + (k + 1) = lo + 1 + k by omega]; exact this
    · rw [a4, show lo + 1 + k = lo + (k + 1) by omega]
      refine fvI_some (by omega) (by rw [show lo + (k + 1) = lo + 1 + k by omega]; exact a2) (fun q hq => ?_)
      cases q with
      | zero => exact Bool.eq_false_iff.mpr h
      | succ q => rw [show lo + (q + 1) = lo + 1 + q by omega]; exact a3 q (by omega)
theorem fvI_back (f : Nat → Bool) (lo n : Nat) : fvI f lo (n + 1) = if f (lo + n) = true ∧ fvC f lo n = 0 then nI (lo + n) else fvI f lo n := by
  rcases fv_cases f lo n with ⟨h1, h2⟩ | ⟨h1, k, a1, a2, a3, a4⟩
  · by_cases h : f (lo + n) = true
    · rw [if_pos ⟨h, h1⟩]
      exact fvI_some (by omega) h (fvC_zero.mp h1)
    · rw [if_neg (fun z => h z.1), h2]
      refine fvI_none (fun k hk' => ?_)
      by_cases e : k = n
      · rw [e]; exact Bool.eq_false_iff.mpr h
      · exact fvC_zero.mp h1 k (by omega)
  · rw [if_neg (fun z => h1 z.2), a4]
    exact fvI_some (by omega) a2 a3
/-- whether two are at the same place behind s strides -/
def mtB (P : Pk) (r q p s : Nat) : Bool := decide ((P.width r * s + r) % p = (P.width q * s + q) % p)
def mtR (P : Pk) (r q p : Nat) : Int32 × Option (List Int64) := if fvC (mtB P r q p) 1 999 = 0 then (-2, none) else (fvI (mtB P r q p) 1 999, some [(nI ((P.width r * ix (fvI (mtB P r q p) 1 999) + r) % p)).toInt64, (nI (fvC (mtB P r q p) 1 999)).toInt64])
section meet
variable {σ τ : Hp} {P : Pk} {a : HS}
theorem c_meets (x : CX σ P a) (s : SC σ) {r q p : Nat} (hr' : r < P.n) (hq : q < P.n) (hrq : r ≠ q) (hp2 : 2 ≤ p) (hp : p ≤ 40) : wp (f_X1_meets (some 0) (nI r) (nI q) (nI p) σ) (QuC σ (mtR P r q p).1 (mtR P r q p).2) := by
  have x0 := x
  have n8 := x.n8
  have w1 := x.w9 r
  have w2 := x.w9 q
  have h2 : isTwo (nI P.n) (nI r) (nI q) := ⟨(isR_nI (by omega) (by omega)).mpr hr', (isR_nI (by omega) (by omega)).mpr hq, by rw [nI_eq (by omega) (by omega)]; exact hrq⟩
  have hin : ((2 : Int32) ≤ nI p ∧ nI p ≤ nI 40) := ⟨by rw [n_2, nI_le_l (by omega) (by omega)]; exact hp2, by rw [nI_le_l (by omega) (by decide)]; exact hp⟩
  have hin' : (nI 2 ≤ nI p ∧ nI p ≤ nI 40) := hin
  have hp0 : ¬ nI p = 0 := by rw [n_0, nI_eq_l (by omega) (by decide)]; omega
  generalize hQ : QuC σ (mtR P r q p).1 (mtR P r q p).2 = Q
  unfold f_X1_meets
  simp (disch := first | omega | exact x.s | exact hi_eq | ((repeat (first | exact x.s | apply sw_I | apply sw_L | apply sw_cp | apply sw_18 | apply sw_21 | apply sw_22 | apply sw_m12 | apply sw_m18)); done) | rfl) only [wp_ite, wp_some, y_jn, wp_r0, wp_r1, wp_b2, y_nn, w_bc, w_nt, wo_0, wg_0, wi_0, wr_0_3, wl_8, ws_8, w_has, w_isRider, w_isPair, w_isHour, w_in, w_in0, w_in_0_1, w_in_0_10, w_in_0_3, w_in_0_30, w_in_0_60, w_in_0_7, w_in_0_9, w_in_0_999, w_in_1_60, w_in_20_27, w_in_2_40, w_in_48_57, w_whole, w_all, wt_0, wt_1, wt_2, nI_add, nI_1, nI_mul, nI_and, nI_or, nI_sd, nI_sub, l_sub1, l_addm1, l_all, l_1shl, l_or0, l_add0, l_0add, l_m1, l_m1r, l_neg, l_nn, l_eq0, l_le0, l_0lt, l_eq1, l_m1lt, l_m1le, l_m1eq0, l_10, l_00, l_1le, nI_le_l, nI_lt_l, nI_eq_l, bc_nI, nt_nI, bit_nI, b2_ite, b2_ite1, nI_max, nI_min, isR_nI, n_100, n_2, n_3, n_40, n_999, hi_ne, hi_ni, hi_eq, y_iL, y_iR, y_lI, y_lR, hl_ne, hl_ni, hl_eq, y_rI, y_rL, if_true, if_false, if_pos, if_neg, true_and, and_true, not_true_eq_false, not_false_eq_true, x.n, x.h, x.b, x.mo, x.wi, x.ca, x.ro, x.ti, x.il, x.ni, x.ga, x.ri, h2, hin, hin']
  refine wp_up 999 (fun i y τ => y = (fvI (mtB P r q p) (1000 - i) i, nI (fvC (mtB P r q p) (1000 - i) i), nI (999 - i)) ∧ τ = σ) (fun ag i y τ hi' hJ hag => ?_) (fun ag y τ hJ => ?_) (by decide) ⟨rfl, rfl⟩
  · obtain ⟨rfl, rfl⟩ := hJ
    have e1 := fvI_front (mtB P r q p) (999 - i) i
    have e2 := fvC_front (mtB P r q p) (999 - i) i
    have b1 : P.width r * (999 - i) ≤ 9 * 999 := Nat.mul_le_mul w1 (by omega)
    have b2' : P.width q * (999 - i) ≤ 9 * 999 := Nat.mul_le_mul w2 (by omega)
    have m1 : (P.width r * (999 - i) + r) % p < p := Nat.mod_lt _ (by omega)
    have m2 : (P.width q * (999 - i) + q) % p < p := Nat.mod_lt _ (by omega)
    rw [show 999 - i + 1 = 1000 - i by omega] at e1 e2
    have st1 : 1000 - (i + 1) = 999 - i := by omega
    have st2 : 999 - (i + 1) = 999 - i - 1 := by omega
    rw [st1, st2, e1, e2] at hag
    have go : ∀ y, y = ((if mtB P r q p (999 - i) = true then nI (999 - i) else fvI (mtB P r q p) (1000 - i) i), nI ((mtB P r q p (999 - i)).toNat + fvC (mtB P r q p) (1000 - i) i), nI (999 - i - 1)) → wp (ag y τ) Q := fun y hy => hag _ _ ⟨hy, rfl⟩
    generalize fvI (mtB P r q p) (1000 - i) i = A at *
    generalize fvC (mtB P r q p) (1000 - i) i = B at *
    unfold mtB at go
    unfold f_X1_meets_b37
    simp (disch := first | omega | exact x.s | exact hi_eq | ((repeat (first | exact x.s | apply sw_I | apply sw_L | apply sw_cp | apply sw_18 | apply sw_21 | apply sw_22 | apply sw_m12 | apply sw_m18)); done) | rfl) only [wp_ite, wp_some, y_jn, wp_r0, wp_r1, wp_b2, y_nn, w_bc, w_nt, wo_0, wg_0, wi_0, wr_0_3, wl_8, ws_8, w_has, w_isRider, w_isPair, w_isHour, w_in, w_in0, w_in_0_1, w_in_0_10, w_in_0_3, w_in_0_30, w_in_0_60, w_in_0_7, w_in_0_9, w_in_0_999, w_in_1_60, w_in_20_27, w_in_2_40, w_in_48_57, w_whole, w_all, wt_0, wt_1, wt_2, nI_add, nI_1, nI_mul, nI_and, nI_or, nI_sd, nI_sub, l_sub1, l_addm1, l_all, l_1shl, l_or0, l_add0, l_0add, l_m1, l_m1r, l_neg, l_nn, l_eq0, l_le0, l_0lt, l_eq1, l_m1lt, l_m1le, l_m1eq0, l_10, l_00, l_1le, nI_le_l, nI_lt_l, nI_eq_l, bc_nI, nt_nI, bit_nI, b2_ite, b2_ite1, nI_max, nI_min, isR_nI, n_100, n_3, hi_ne, hi_ni, hi_eq, y_iL, y_iR, y_lI, y_lR, hl_ne, hl_ni, hl_eq, y_rI, y_rL, if_true, if_false, if_pos, if_neg, true_and, and_true, not_true_eq_false, not_false_eq_true, x.n, x.h, x.b, x.mo, x.wi, x.ca, x.ro, x.ti, x.il, x.ni, x.ga, x.ri, wp_idv, hp0, nI_rem]
    by_cases e : (P.width r * (999 - i) + r) % p = (P.width q * (999 - i) + q) % p
    · rw [if_pos e]
      refine go _ ?_
      rw [decide_eq_true e, if_pos rfl, Nat.add_comm]; rfl
    · rw [if_neg e]
      refine go _ ?_
      rw [decide_eq_false e, if_neg (by decide), Bool.toNat_false, Nat.zero_add]
  · obtain ⟨rfl, rfl⟩ := hJ
    have hc := fv_cases (mtB P r q p) 1 999
    have hm : fvC (mtB P r q p) 1 999 ≤ 999 := cnt_le _ _
    unfold mtR at hQ
    rw [show 1000 - 999 = 1 by decide]
    unfold f_X1_meets_b37
    rcases hc with ⟨h3, h4⟩ | ⟨h3, k, a1, a2, a3, a4⟩
    · rw [if_pos h3] at hQ
      rw [h3, h4]
      simp (disch := first | omega | exact x.s | exact hi_eq | ((repeat (first | exact x.s | apply sw_I | apply sw_L | apply sw_cp | apply sw_18 | apply sw_21 | apply sw_22 | apply sw_m12 | apply sw_m18)); done) | rfl) only [wp_ite, wp_some, y_jn, wp_r0, wp_r1, wp_b2, y_nn, w_bc, w_nt, wo_0, wg_0, wi_0, wr_0_3, wl_8, ws_8, w_has, w_isRider, w_isPair, w_isHour, w_in, w_in0, w_in_0_1, w_in_0_10, w_in_0_3, w_in_0_30, w_in_0_60, w_in_0_7, w_in_0_9, w_in_0_999, w_in_1_60, w_in_20_27, w_in_2_40, w_in_48_57, w_whole, w_all, wt_0, wt_1, wt_2, nI_add, nI_1, nI_mul, nI_and, nI_or, nI_sd, nI_sub, l_sub1, l_addm1, l_all, l_1shl, l_or0, l_add0, l_0add, l_m1, l_m1r, l_neg, l_nn, l_eq0, l_le0, l_0lt, l_eq1, l_m1lt, l_m1le, l_m1eq0, l_10, l_00, l_1le, nI_le_l, nI_lt_l, nI_eq_l, bc_nI, nt_nI, bit_nI, b2_ite, b2_ite1, nI_max, nI_min, isR_nI, n_100, n_2, n_3, n_40, n_999, hi_ne, hi_ni, hi_eq, y_iL, y_iR, y_lI, y_lR, hl_ne, hl_ni, hl_eq, y_rI, y_rL, if_true, if_false, if_pos, if_neg, true_and, and_true, not_true_eq_false, not_false_eq_true, x.n, x.h, x.b, x.mo, x.wi, x.ca, x.ro, x.ti, x.il, x.ni, x.ga, x.ri, l_0lem2]
      rw [← hQ]
      exact ⟨rfl, Fr.refl, s, RwC.fr (D := []) (F := []) (G := []) Fr.refl rfl⟩
    · rw [if_neg h3, a4, ix_nI (by omega)] at hQ
      rw [a4]
      have b1 : P.width r * (1 + k) ≤ 9 * 999 := Nat.mul_le_mul w1 (by omega)
      have m1 : (P.width r * (1 + k) + r) % p < p := Nat.mod_lt _ (by omega)
      generalize fvC (mtB P r q p) 1 999 = B at *
      simp (disch := first | omega | exact x.s | exact hi_eq | ((repeat (first | exact x.s | apply sw_I | apply sw_L | apply sw_cp | apply sw_18 | apply sw_21 | apply sw_22 | apply sw_m12 | apply sw_m18)); done) | rfl) only [wp_ite, wp_some, y_jn, wp_r0, wp_r1, wp_b2, y_nn, w_bc, w_nt, wo_0, wg_0, wi_0, wr_0_3, wl_8, ws_8, w_has, w_isRider, w_isPair, w_isHour, w_in, w_in0, w_in_0_1, w_in_0_10, w_in_0_3, w_in_0_30, w_in_0_60, w_in_0_7, w_in_0_9, w_in_0_999, w_in_1_60, w_in_20_27, w_in_2_40, w_in_48_57, w_whole, w_all, wt_0, wt_1, wt_2, nI_add, nI_1, nI_mul, nI_and, nI_or, nI_sd, nI_sub, l_sub1, l_addm1, l_all, l_1shl, l_or0, l_add0, l_0add, l_m1, l_m1r, l_neg, l_nn, l_eq0, l_le0, l_0lt, l_eq1, l_m1lt, l_m1le, l_m1eq0, l_10, l_00, l_1le, nI_le_l, nI_lt_l, nI_eq_l, bc_nI, nt_nI, bit_nI, b2_ite, b2_ite1, nI_max, nI_min, isR_nI, n_100, n_2, n_3, n_40, n_999, hi_ne, hi_ni, hi_eq, y_iL, y_iR, y_lI, y_lR, hl_ne, hl_ni, hl_eq, y_rI, y_rL, if_true, if_false, if_pos, if_neg, true_and, and_true, not_true_eq_false, not_false_eq_true, x.n, x.h, x.b, x.mo, x.wi, x.ca, x.ro, x.ti, x.il, x.ni, x.ga, x.ri, wp_idv, hp0, nI_rem]
      rw [← hQ]
      exact ⟨rfl, (by repeat (first | exact Fr.refl | exact (Fr.refl).mono rfl | refine Fr.putI ?_ rfl | refine Fr.putL ?_ rfl | refine Fr.putR ?_ rfl)), s.fr (D := [36]) (F := [52]) (G := []) (by repeat (first | exact Fr.refl | exact (Fr.refl).mono rfl | refine Fr.putI ?_ rfl | refine Fr.putL ?_ rfl | refine Fr.putR ?_ rfl)) rfl, row2⟩
theorem m_meets (x : MX σ P a) (s : SM σ) {r q p : Nat} (hr' : r < P.n) (hq : q < P.n) (hrq : r ≠ q) (hp2 : 2 ≤ p) (hp : p ≤ 40) : wp (f_X3_meets (some 37) (nI r) (nI q) (nI p) σ) (QuM σ (mtR P r q p).1 (mtR P r q p).2) := by
  have x0 := x
  have n8 := x.n8
  have w1 := x.w9 r
  have w2 := x.w9 q
  have h2 : isTwo (nI P.n) (nI r) (nI q) := ⟨(isR_nI (by omega) (by omega)).mpr hr', (isR_nI (by omega) (by omega)).mpr hq, by rw [nI_eq (by omega) (by omega)]; exact hrq⟩
  have hin : ((2 : Int32) ≤ nI p ∧ nI p ≤ nI 40) := ⟨by rw [n_2, nI_le_l (by omega) (by omega)]; exact hp2, by rw [nI_le_l (by omega) (by decide)]; exact hp⟩
  have hin' : (nI 2 ≤ nI p ∧ nI p ≤ nI 40) := hin
  have hp0 : ¬ nI p = 0 := by rw [n_0, nI_eq_l (by omega) (by decide)]; omega
  generalize hQ : QuM σ (mtR P r q p).1 (mtR P r q p).2 = Q
  have f0 : Fr [] [] [11] σ (wI σ 37 11 0) := Fr.refl.putI rfl
  unfold f_X3_meets
  simp (disch := first | omega | exact x.s | exact hi_eq | ((repeat (first | exact x.s | apply sw_I | apply sw_L | apply sw_cp | apply sw_18 | apply sw_21 | apply sw_22 | apply sw_m12 | apply sw_m18)); done) | rfl) only [wp_ite, wp_some, y_jn, wp_r0, wp_r1, wp_b2, y_nn, w_bc, w_nt, wo_37, wg_37, wi_37, wr_37_5, wl_40, ws_40, w_has3, w_isMan, w_areTwo, w_isHour3, w_in3, w_night, wtM_0, wtM_1, wtM_2, nI_add, nI_1, nI_mul, nI_and, nI_or, nI_sd, nI_sub, l_sub1, l_addm1, l_all, l_1shl, l_or0, l_add0, l_0add, l_m1, l_m1r, l_neg, l_nn, l_eq0, l_le0, l_0lt, l_eq1, l_m1lt, l_m1le, l_m1eq0, l_10, l_00, l_1le, nI_le_l, nI_lt_l, nI_eq_l, bc_nI, nt_nI, bit_nI, b2_ite, b2_ite1, nI_max, nI_min, isR_nI, n_10, n_100, n_11, n_2, n_40, n_5, hi_ne, hi_ni, hi_eq, y_iL, y_iR, y_lI, y_lR, hl_ne, hl_ni, hl_eq, y_rI, y_rL, if_true, if_false, if_pos, if_neg, true_and, and_true, not_true_eq_false, not_false_eq_true, x.n, x.h, x.b, x.mo, x.wi, x.ca, x.ro, x.ti, x.il, x.ni, x.ga, x.ri, h2, hin, hin']
  replace x := x0.fr f0 rfl
  refine wp_up 999 (fun i y τ => y = (fvI (mtB P r q p) 1 i, nI (fvC (mtB P r q p) 1 i), nI (1 + i)) ∧ τ = (wI σ 37 11 0)) (fun ag i y τ hi' hJ hag => ?_) (fun ag y τ hJ => ?_) (by decide) ⟨rfl, rfl⟩
  · obtain ⟨rfl, rfl⟩ := hJ
    have e1 := fvI_back (mtB P r q p) 1 i
    have e2 : fvC (mtB P r q p) 1 (i + 1) = fvC (mtB P r q p) 1 i + (mtB P r q p (1 + i)).toNat := rfl
    have b1 : P.width r * (1 + i) ≤ 9 * 999 := Nat.mul_le_mul w1 (by omega)
    have b2' : P.width q * (1 + i) ≤ 9 * 999 := Nat.mul_le_mul w2 (by omega)
    have m1 : (P.width r * (1 + i) + r) % p < p := Nat.mod_lt _ (by omega)
    have m2 : (P.width q * (1 + i) + q) % p < p := Nat.mod_lt _ (by omega)
    rw [e1, e2] at hag
    have hm : fvC (mtB P r q p) 1 i ≤ i := cnt_le _ _
    have go : ∀ y, y = ((if mtB P r q p (1 + i) = true ∧ fvC (mtB P r q p) 1 i = 0 then nI (1 + i) else fvI (mtB P r q p) 1 i), nI (fvC (mtB P r q p) 1 i + (mtB P r q p (1 + i)).toNat), nI (1 + i + 1)) → wp (ag y (wI σ 37 11 0)) Q := fun y hy => hag _ _ ⟨hy, rfl⟩
    generalize fvI (mtB P r q p) 1 i = A at *
    generalize fvC (mtB P r q p) 1 i = B at *
    unfold mtB at go
    unfold f_X3_meets_b36
    simp (disch := first | omega | exact x.s | exact hi_eq | ((repeat (first | exact x.s | apply sw_I | apply sw_L | apply sw_cp | apply sw_18 | apply sw_21 | apply sw_22 | apply sw_m12 | apply sw_m18)); done) | rfl) only [wp_ite, wp_some, y_jn, wp_r0, wp_r1, wp_b2, y_nn, w_bc, w_nt, wo_37, wg_37, wi_37, wr_37_5, wl_40, ws_40, w_has3, w_isMan, w_areTwo, w_isHour3, w_in3, w_night, wtM_0, wtM_1, wtM_2, nI_add, nI_1, nI_mul, nI_and, nI_or, nI_sd, nI_sub, l_sub1, l_addm1, l_all, l_1shl, l_or0, l_add0, l_0add, l_m1, l_m1r, l_neg, l_nn, l_eq0, l_le0, l_0lt, l_eq1, l_m1lt, l_m1le, l_m1eq0, l_10, l_00, l_1le, nI_le_l, nI_lt_l, nI_eq_l, bc_nI, nt_nI, bit_nI, b2_ite, b2_ite1, nI_max, nI_min, isR_nI, n_100, n_2, n_5, n_999, hi_ne, hi_ni, hi_eq, y_iL, y_iR, y_lI, y_lR, hl_ne, hl_ni, hl_eq, y_rI, y_rL, if_true, if_false, if_pos, if_neg, true_and, and_true, not_true_eq_false, not_false_eq_true, x.n, x.h, x.b, x.mo, x.wi, x.ca, x.ro, x.ti, x.il, x.ni, x.ga, x.ri, wp_idv, hp0, nI_rem]
    by_cases e : (P.width r * (1 + i) + r) % p = (P.width q * (1 + i) + q) % p
    · rw [if_pos e]
      rw [decide_eq_true e] at go
      by_cases e3 : B = 0
      · rw [if_pos e3]
        exact go _ (by rw [if_pos ⟨rfl, e3⟩]; rfl)
      · rw [if_neg e3]
        exact go _ (by rw [if_neg (fun z => e3 z.2)]; rfl)
    · rw [if_neg e]
      rw [decide_eq_false e] at go
      exact go _ (by rw [if_neg (fun z => absurd z.1 (by decide))]; rfl)
  · obtain ⟨rfl, rfl⟩ := hJ
    have hc := fv_cases (mtB P r q p) 1 999
    have hm : fvC (mtB P r q p) 1 999 ≤ 999 := cnt_le _ _
    unfold mtR at hQ
    unfold f_X3_meets_b36
    rcases hc with ⟨h3, h4⟩ | ⟨h3, k, a1, a2, a3, a4⟩
    · rw [if_pos h3] at hQ
      rw [h3, h4]
      simp (disch := first | omega | exact x.s | exact hi_eq | ((repeat (first | exact x.s | apply sw_I | apply sw_L | apply sw_cp | apply sw_18 | apply sw_21 | apply sw_22 | apply sw_m12 | apply sw_m18)); done) | rfl) only [wp_ite, wp_some, y_jn, wp_r0, wp_r1, wp_b2, y_nn, w_bc, w_nt, wo_37, wg_37, wi_37, wr_37_5, wl_40, ws_40, w_has3, w_isMan, w_areTwo, w_isHour3, w_in3, w_night, wtM_0, wtM_1, wtM_2, nI_add, nI_1, nI_mul, nI_and, nI_or, nI_sd, nI_sub, l_sub1, l_addm1, l_all, l_1shl, l_or0, l_add0, l_0add, l_m1, l_m1r, l_neg, l_nn, l_eq0, l_le0, l_0lt, l_eq1, l_m1lt, l_m1le, l_m1eq0, l_10, l_00, l_1le, nI_le_l, nI_lt_l, nI_eq_l, bc_nI, nt_nI, bit_nI, b2_ite, b2_ite1, nI_max, nI_min, isR_nI, n_10, n_100, n_11, n_2, n_40, n_5, n_999, hi_ne, hi_ni, hi_eq, y_iL, y_iR, y_lI, y_lR, hl_ne, hl_ni, hl_eq, y_rI, y_rL, if_true, if_false, if_pos, if_neg, true_and, and_true, not_true_eq_false, not_false_eq_true, x.n, x.h, x.b, x.mo, x.wi, x.ca, x.ro, x.ti, x.il, x.ni, x.ga, x.ri]
      rw [← hQ]
      exact ⟨rfl, f0.mono rfl, s.fr f0 rfl, RwM.fr f0 rfl⟩
    · rw [if_neg h3, a4, ix_nI (by omega)] at hQ
      rw [a4]
      have b1 : P.width r * (1 + k) ≤ 9 * 999 := Nat.mul_le_mul w1 (by omega)
      have m1 : (P.width r * (1 + k) + r) % p < p := Nat.mod_lt _ (by omega)
      generalize fvC (mtB P r q p) 1 999 = B at *
      simp (disch := first | omega | exact x.s | exact hi_eq | ((repeat (first | exact x.s | apply sw_I | apply sw_L | apply sw_cp | apply sw_18 | apply sw_21 | apply sw_22 | apply sw_m12 | apply sw_m18)); done) | rfl) only [wp_ite, wp_some, y_jn, wp_r0, wp_r1, wp_b2, y_nn, w_bc, w_nt, wo_37, wg_37, wi_37, wr_37_5, wl_40, ws_40, w_has3, w_isMan, w_areTwo, w_isHour3, w_in3, w_night, wtM_0, wtM_1, wtM_2, nI_add, nI_1, nI_mul, nI_and, nI_or, nI_sd, nI_sub, l_sub1, l_addm1, l_all, l_1shl, l_or0, l_add0, l_0add, l_m1, l_m1r, l_neg, l_nn, l_eq0, l_le0, l_0lt, l_eq1, l_m1lt, l_m1le, l_m1eq0, l_10, l_00, l_1le, nI_le_l, nI_lt_l, nI_eq_l, bc_nI, nt_nI, bit_nI, b2_ite, b2_ite1, nI_max, nI_min, isR_nI, n_10, n_100, n_11, n_2, n_40, n_5, n_999, hi_ne, hi_ni, hi_eq, y_iL, y_iR, y_lI, y_lR, hl_ne, hl_ni, hl_eq, y_rI, y_rL, if_true, if_false, if_pos, if_neg, true_and, and_true, not_true_eq_false, not_false_eq_true, x.n, x.h, x.b, x.mo, x.wi, x.ca, x.ro, x.ti, x.il, x.ni, x.ga, x.ri, wp_idv, hp0, nI_rem]
      rw [← hQ]
      exact ⟨rfl, (by repeat (first | exact Fr.refl | exact (Fr.refl).mono rfl | refine Fr.putI ?_ rfl | refine Fr.putL ?_ rfl | refine Fr.putR ?_ rfl)), s.fr (D := [43]) (F := []) (G := [10, 11]) (by repeat (first | exact Fr.refl | exact (Fr.refl).mono rfl | refine Fr.putI ?_ rfl | refine Fr.putL ?_ rfl | refine Fr.putR ?_ rfl)) rfl, rowM2⟩
end meet
