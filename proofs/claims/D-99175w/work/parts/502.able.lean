/-! PURE 70: who is able: in order (the class) -/
theorem getD_take {l : List Nat} {k j : Nat} (h : j < k) : (l.take k).getD j 0 = l.getD j 0 := by
  rw [List.getD_eq_getElem?_getD, List.getD_eq_getElem?_getD, List.getElem?_take, if_pos h]
theorem getD_mem {l : List Nat} {j : Nat} (h : j < l.length) : l.getD j 0 ∈ l := by
  rw [List.getD_eq_getElem?_getD, List.getElem?_eq_getElem h]
  exact List.getElem_mem h
theorem mem_getD {l : List Nat} {v : Nat} (h : v ∈ l) : ∃ j, j < l.length ∧ l.getD j 0 = v := by
  obtain ⟨j, hj, e⟩ := List.getElem_of_mem h
  exact ⟨j, hj, by rw [List.getD_eq_getElem?_getD, List.getElem?_eq_getElem hj]; exact e⟩
def insA (l : List Nat) (k r : Nat) : List Nat := l.take k ++ r :: l.drop k
theorem insA_len {l : List Nat} {k r : Nat} (h : k ≤ l.length) : (insA l k r).length = l.length + 1 := by
  unfold insA
  rw [List.length_append, List.length_cons, List.length_take, List.length_drop]
  omega
theorem insA_getD {l : List Nat} {k r j : Nat} (h : k ≤ l.length) : (insA l k r).getD j 0 = if j < k then l.getD j 0 else if j = k then r else l.getD (j - 1) 0 := by
  unfold insA
  have hl : (l.take k).length = k := by rw [List.length_take]; omega
  rw [List.getD_eq_getElem?_getD]
  by_cases h1 : j < k
  · rw [if_pos h1, List.getElem?_append_left (by omega), List.getElem?_take, if_pos h1, List.getD_eq_getElem?_getD]
  · rw [if_neg h1, List.getElem?_append_right (by omega), hl]
    by_cases h2 : j = k
    · rw [if_pos h2, h2, Nat.sub_self]; rfl
    · rw [if_neg h2, show j - k = (j - k - 1) + 1 by omega, List.getElem?_cons_succ, List.getElem?_drop, show k + (j - k - 1) = j - 1 by omega, List.getD_eq_getElem?_getD]
theorem pw_getD {R : Nat → Nat → Prop} {l : List Nat} (h : l.Pairwise R) {i j : Nat} (hij : i < j) (hj : j < l.length) : R (l.getD i 0) (l.getD j 0) := by
  rw [List.getD_eq_getElem?_getD, List.getD_eq_getElem?_getD, List.getElem?_eq_getElem (by omega), List.getElem?_eq_getElem hj]
  exact List.pairwise_iff_getElem.mp h i j (by omega) hj hij
theorem pw_of_getD {R : Nat → Nat → Prop} {l : List Nat} (h : ∀ i j, i < j → j < l.length → R (l.getD i 0) (l.getD j 0)) : l.Pairwise R := by
  rw [List.pairwise_iff_getElem]
  intro i j hi' hj hij
  have := h i j hij hj
  rw [List.getD_eq_getElem?_getD, List.getD_eq_getElem?_getD, List.getElem?_eq_getElem hi', List.getElem?_eq_getElem hj] at this
  exact this
theorem ins_srt {key : Nat → Nat} {el : Nat → Bool} {l : List Nat} {k r : Nat} (h : SrtL key el r l) (hr' : el r = true) (hk' : k ≤ l.length) (h1 : k = 0 ∨ key (l.getD (k - 1) 0) ≤ key r) (h2 : ∀ j, k ≤ j → j < l.length → key r < key (l.getD j 0)) : SrtL key el (r + 1) (insA l k r) := by
  have hlt : ∀ j, j < l.length → l.getD j 0 < r := fun j hj => ((h.2 _).mp (getD_mem hj)).1
  have hle : ∀ j, j < k → ltK key (l.getD j 0) r := fun j hj => by
    have e1 : key (l.getD (k - 1) 0) ≤ key r := by rcases h1 with h1 | h1; omega; exact h1
    have e2 := hlt j (by omega)
    by_cases e : j = k - 1
    · rw [← e] at e1; unfold ltK; omega
    · have := pw_getD h.1 (show j < k - 1 by omega) (by omega)
      unfold ltK at this ⊢; omega
  have hge : ∀ j, k ≤ j → j < l.length → ltK key r (l.getD j 0) := fun j h3 h4 => Or.inl (h2 j h3 h4)
  refine ⟨pw_of_getD (fun i j hij hj => ?_), fun v => ?_⟩
  · rw [insA_len hk'] at hj
    rw [insA_getD hk', insA_getD hk']
    by_cases c1 : i < k
    · rw [if_pos c1]
      by_cases c2 : j < k
      · rw [if_pos c2]; exact pw_getD h.1 hij (by omega)
      · rw [if_neg c2]
        by_cases c3 : j = k
        · rw [if_pos c3]; exact hle i c1
        · rw [if_neg c3]; exact pw_getD h.1 (by omega) (by omega)
    · rw [if_neg c1, if_neg (show ¬ j < k by omega), if_neg (show ¬ j = k by omega)]
      by_cases c3 : i = k
      · rw [if_pos c3]; exact hge _ (by omega) (by omega)
      · rw [if_neg c3]; exact pw_getD h.1 (by omega) (by omega)
  · unfold insA
    rw [List.mem_append, List.mem_cons]
    have hm : v ∈ l ↔ v ∈ l.take k ∨ v ∈ l.drop k := by rw [← List.mem_append, List.take_append_drop]
    have hv := h.2 v
    constructor
    · rintro (g | g | g)
      · obtain ⟨a1, a2⟩ := hv.mp (hm.mpr (Or.inl g)); exact ⟨by omega, a2⟩
      · rw [g]; exact ⟨by omega, hr'⟩
      · obtain ⟨a1, a2⟩ := hv.mp (hm.mpr (Or.inr g)); exact ⟨by omega, a2⟩
    · rintro ⟨a1, a2⟩
      by_cases e : v = r
      · exact Or.inr (Or.inl e)
      · rcases hm.mp (hv.mpr ⟨by omega, a2⟩) with g | g
        · exact Or.inl g
        · exact Or.inr (Or.inr g)
theorem srt_skip {key : Nat → Nat} {el : Nat → Bool} {l : List Nat} {r : Nat} (h : SrtL key el r l) (hr' : el r = false) : SrtL key el (r + 1) l := by
  refine ⟨h.1, fun v => (h.2 v).trans ⟨fun z => ⟨by omega, z.2⟩, fun z => ⟨?_, z.2⟩⟩⟩
  by_cases e : v = r
  · rw [e, hr'] at z; cases z.2
  · omega
theorem ins_ex {key : Nat → Nat} {l : List Nat} {r : Nat} : ∃ k, k ≤ l.length ∧ (k = 0 ∨ key (l.getD (k - 1) 0) ≤ key r) ∧ ∀ j, k ≤ j → j < l.length → key r < key (l.getD j 0) := by
  have : ∀ m, m ≤ l.length → (∀ j, m ≤ j → j < l.length → key r < key (l.getD j 0)) → ∃ k, k ≤ l.length ∧ (k = 0 ∨ key (l.getD (k - 1) 0) ≤ key r) ∧ ∀ j, k ≤ j → j < l.length → key r < key (l.getD j 0) := by
    intro m
    induction m with
    | zero => intro h1 h2; exact ⟨0, h1, Or.inl rfl, h2⟩
    | succ m ih =>
      intro h1 h2
      by_cases e : key (l.getD m 0) ≤ key r
      · exact ⟨m + 1, h1, Or.inr e, h2⟩
      · refine ih (by omega) (fun j h3 h4 => ?_)
        by_cases ej : j = m
        · rw [ej]; omega
        · exact h2 j (by omega) h4
  exact this l.length (Nat.le_refl _) (fun j h1 h2 => absurd h2 (by omega))
theorem srt_ex (key : Nat → Nat) (el : Nat → Bool) : ∀ n, ∃ l, SrtL key el n l := by
  intro n
  induction n with
  | zero => exact ⟨[], List.Pairwise.nil, fun v => ⟨fun z => absurd z List.not_mem_nil, fun z => absurd z.1 (Nat.not_lt_zero _)⟩⟩
  | succ n ih =>
    obtain ⟨l, h⟩ := ih
    by_cases e : el n = true
    · obtain ⟨k, h1, h2, h3⟩ := ins_ex (key := key) (l := l) (r := n)
      exact ⟨_, ins_srt h e h1 h2 h3⟩
    · exact ⟨l, srt_skip h (Bool.eq_false_iff.mpr e)⟩
def ablB (P : Pk) (a : HS) (h r : Nat) : Bool := (P.can r).testBit h && !(a.ill.testBit r)
noncomputable def ablL (P : Pk) (a : HS) (h : Nat) : List Nat := Classical.choose (srt_ex (fun r => hardN P a r h) (ablB P a h) P.n)
theorem ablL_srt (P : Pk) (a : HS) (h : Nat) : SrtL (fun r => hardN P a r h) (ablB P a h) P.n (ablL P a h) := Classical.choose_spec (srt_ex (fun r => hardN P a r h) (ablB P a h) P.n)
noncomputable def ablW (P : Pk) (a : HS) (h : Nat) : List Int64 := rowL (fun k => (ablL P a h).getD k 0) (ablL P a h).length
section ables
variable {σ τ : Hp} {P : Pk} {a : HS}
theorem c_ableIn (x : CX σ P a) {h r : Nat} {l : List Nat} (hh : h < 8) (hr' : r < P.n) (hl' : ∀ j, j < l.length → l.getD j 0 < r) (hm : l.length ≤ r) (ha : AI σ 18 l.length (fun k => l.getD k 0)) {k0 : Int32 → Hp → Option (Int32 × Hp)} {Q : Int32 → Hp → Prop}
    (hk0 : ∀ k τ, k ≤ l.length → Fr [18] [18, 19, 20] [] σ τ → (∀ j, j < k → hi τ 18 j = nI (l.getD j 0)) → (∀ j, k < j → j ≤ l.length → hi τ 18 j = nI (l.getD (j - 1) 0)) → (k = 0 ∨ hardN P a (l.getD (k - 1) 0) h ≤ hardN P a r h) → (∀ j, k ≤ j → j < l.length → hardN P a r h < hardN P a (l.getD j 0) h) → wp (k0 (nI k) τ) Q) :
    wp (lp 2000 (f_X1_able_b59 (some 0) (nI h) (nI r) k0) (nI l.length) σ) Q := by
  have x0 := x
  have n8 := x.n8
  refine wp_up l.length (fun i y τ => y = nI (l.length - i) ∧ Fr [18] [18, 19, 20] [] σ τ ∧ (∀ j, j < l.length - i → hi τ 18 j = nI (l.getD j 0)) ∧ (∀ j, l.length - i < j → j ≤ l.length → hi τ 18 j = nI (l.getD (j - 1) 0)) ∧ (∀ j, l.length - i ≤ j → j < l.length → hardN P a r h < hardN P a (l.getD j 0) h)) (fun ag i y τ hi' hJ hag => ?_) (fun ag y τ hJ => ?_) (by omega) ⟨rfl, Fr.refl, fun j hj => ha j (by omega), fun j h1 h2 => absurd h2 (by omega), fun j h1 h2 => absurd h2 (by omega)⟩
  · obtain ⟨rfl, f, h1, h2, h3⟩ := hJ
    replace x := x0.fr f rfl
    have e0 := h1 (l.length - i - 1) (by omega)
    have e1 := hl' (l.length - i - 1) (by omega)
    generalize hk' : l.length - i = k at *
    generalize hv : l.getD (k - 1) 0 = v at *
    unfold f_X1_able_b59
    simp (disch := first | omega | exact x.s | exact hi_eq | ((repeat (first | exact x.s | apply sw_I | apply sw_L | apply sw_cp | apply sw_18 | apply sw_21 | apply sw_22 | apply sw_m12 | apply sw_m18)); done) | rfl) only [wp_ite, wp_some, y_jn, wp_r0, wp_r1, wp_b2, y_nn, w_bc, w_nt, wo_0, wg_0, wi_0, wr_0_0, wr_0_26, wo_1, wg_1, wi_1, wr_1_0, wr_1_1, wl_2, ws_2, wl_3, ws_3, wl_18, ws_18, w_has, w_isRider, w_isPair, w_isHour, w_in, w_in0, w_in_0_1, w_in_0_10, w_in_0_3, w_in_0_30, w_in_0_60, w_in_0_7, w_in_0_9, w_in_0_999, w_in_1_60, w_in_20_27, w_in_2_40, w_in_48_57, w_whole, w_all, wt_0, wt_1, wt_2, nI_add, nI_1, nI_mul, nI_and, nI_or, nI_sd, nI_sub, l_sub1, l_addm1, l_all, l_1shl, l_or0, l_add0, l_0add, l_m1, l_m1r, l_neg, l_nn, l_eq0, l_le0, l_0lt, l_eq1, l_m1lt, l_m1le, l_m1eq0, l_10, l_00, l_1le, nI_le_l, nI_lt_l, nI_eq_l, bc_nI, nt_nI, bit_nI, b2_ite, b2_ite1, nI_max, nI_min, isR_nI, n_100, n_26, hi_ne, hi_ni, hi_eq, y_iL, y_iR, y_lI, y_lR, hl_ne, hl_ni, hl_eq, y_rI, y_rL, if_true, if_false, if_pos, if_neg, true_and, and_true, not_true_eq_false, not_false_eq_true, x.n, x.h, x.b, x.mo, x.wi, x.ca, x.ro, x.ti, x.il, x.ni, x.ga, x.ri, e0]
    rw [c_hardOf x.s x.2.1 x.pk x.2.2.2.1 (by decide) (show v < P.n by omega) hh, e_bnd]
    have f1 : Fr [18] [18, 19, 20] [] σ (asked τ 1 v h) := f.trans (asked_fr.mono rfl)
    have x1 := x0.fr f1 rfl
    simp (disch := first | omega | exact x1.s | exact hi_eq | ((repeat (first | exact x1.s | apply sw_I | apply sw_L | apply sw_cp | apply sw_18 | apply sw_21 | apply sw_22 | apply sw_m12 | apply sw_m18)); done) | rfl) only [wp_ite, wp_some, y_jn, wp_r0, wp_r1, wp_b2, y_nn, w_bc, w_nt, wo_0, wg_0, wi_0, wr_0_0, wr_0_26, wo_1, wg_1, wi_1, wr_1_0, wr_1_1, wl_2, ws_2, wl_3, ws_3, wl_18, ws_18, w_has, w_isRider, w_isPair, w_isHour, w_in, w_in0, w_in_0_1, w_in_0_10, w_in_0_3, w_in_0_30, w_in_0_60, w_in_0_7, w_in_0_9, w_in_0_999, w_in_1_60, w_in_20_27, w_in_2_40, w_in_48_57, w_whole, w_all, wt_0, wt_1, wt_2, nI_add, nI_1, nI_mul, nI_and, nI_or, nI_sd, nI_sub, l_sub1, l_addm1, l_all, l_1shl, l_or0, l_add0, l_0add, l_m1, l_m1r, l_neg, l_nn, l_eq0, l_le0, l_0lt, l_eq1, l_m1lt, l_m1le, l_m1eq0, l_10, l_00, l_1le, nI_le_l, nI_lt_l, nI_eq_l, bc_nI, nt_nI, bit_nI, b2_ite, b2_ite1, nI_max, nI_min, isR_nI, n_100, n_26, hi_ne, hi_ni, hi_eq, y_iL, y_iR, y_lI, y_lR, hl_ne, hl_ni, hl_eq, y_rI, y_rL, if_true, if_false, if_pos, if_neg, true_and, and_true, not_true_eq_false, not_false_eq_true, x1.n, x1.h, x1.b, x1.mo, x1.wi, x1.ca, x1.ro, x1.ti, x1.il, x1.ni, x1.ga, x1.ri]
    rw [c_hardOf x1.s x1.2.1 x1.pk x1.2.2.2.1 (by decide) hr' hh, e_bnd]
    have f2 : Fr [18] [18, 19, 20] [] σ (asked (asked τ 1 v h) 1 r h) := f1.trans (asked_fr.mono rfl)
    have x2 := x0.fr f2 rfl
    have g : ∀ j, hi (asked (asked τ 1 v h) 1 r h) 18 j = hi τ 18 j := fun j => ((asked_fr (s := 1) (r := r) (h := h)).i rfl).trans ((asked_fr (s := 1) (r := v) (h := h)).i rfl)
    generalize asked (asked τ 1 v h) 1 r h = υ at *
    have b1 := hardN_le P a v h
    have b2' := hardN_le P a r h
    rw [hardN_eq, hardN_eq, ite_le (by omega) (by omega)]
    by_cases c : hardN P a v h ≤ hardN P a r h
    · rw [if_pos c]
      exact hk0 k υ (by omega) f2 (fun j hj => by rw [g]; exact h1 j hj) (fun j h4 h5 => by rw [g]; exact h2 j h4 h5) (Or.inr (by rw [hv]; exact c)) h3
    · rw [if_neg c]
      have e2 : hi υ 18 (k - 1) = nI v := by rw [g]; exact e0
      simp (disch := first | omega | exact x2.s | exact hi_eq | ((repeat (first | exact x2.s | apply sw_I | apply sw_L | apply sw_cp | apply sw_18 | apply sw_21 | apply sw_22 | apply sw_m12 | apply sw_m18)); done) | rfl) only [wp_ite, wp_some, y_jn, wp_r0, wp_r1, wp_b2, y_nn, w_bc, w_nt, wo_0, wg_0, wi_0, wr_0_0, wr_0_26, wo_1, wg_1, wi_1, wr_1_0, wr_1_1, wl_2, ws_2, wl_3, ws_3, wl_18, ws_18, w_has, w_isRider, w_isPair, w_isHour, w_in, w_in0, w_in_0_1, w_in_0_10, w_in_0_3, w_in_0_30, w_in_0_60, w_in_0_7, w_in_0_9, w_in_0_999, w_in_1_60, w_in_20_27, w_in_2_40, w_in_48_57, w_whole, w_all, wt_0, wt_1, wt_2, nI_add, nI_1, nI_mul, nI_and, nI_or, nI_sd, nI_sub, l_sub1, l_addm1, l_all, l_1shl, l_or0, l_add0, l_0add, l_m1, l_m1r, l_neg, l_nn, l_eq0, l_le0, l_0lt, l_eq1, l_m1lt, l_m1le, l_m1eq0, l_10, l_00, l_1le, nI_le_l, nI_lt_l, nI_eq_l, bc_nI, nt_nI, bit_nI, b2_ite, b2_ite1, nI_max, nI_min, isR_nI, n_100, n_26, hi_ne, hi_ni, hi_eq, y_iL, y_iR, y_lI, y_lR, hl_ne, hl_ni, hl_eq, y_rI, y_rL, if_true, if_false, if_pos, if_neg, true_and, and_true, not_true_eq_false, not_false_eq_true, x2.n, x2.h, x2.b, x2.mo, x2.wi, x2.ca, x2.ro, x2.ti, x2.il, x2.ni, x2.ga, x2.ri, e2]
      refine hag _ _ ⟨by rw [show l.length - (i + 1) = k - 1 by omega], f2.putI rfl, fun j hj => ?_, fun j h4 h5 => ?_, fun j h4 h5 => ?_⟩
      · rw [hi_ni (by omega), g]; exact h1 j (by omega)
      · by_cases ej : j = k
        · rw [ej, hi_eq, hv]
        · rw [hi_ni ej, g]; exact h2 j (by omega) h5
      · by_cases ej : j = k - 1
        · rw [ej, hv]; omega
        · exact h3 j (by omega) h5
  · obtain ⟨rfl, f, h1, h2, h3⟩ := hJ
    replace x := x0.fr f rfl
    rw [Nat.sub_self] at *
    unfold f_X1_able_b59
    simp (disch := first | omega | exact x.s | exact hi_eq | ((repeat (first | exact x.s | apply sw_I | apply sw_L | apply sw_cp | apply sw_18 | apply sw_21 | apply sw_22 | apply sw_m12 | apply sw_m18)); done) | rfl) only [wp_ite, wp_some, y_jn, wp_r0, wp_r1, wp_b2, y_nn, w_bc, w_nt, wo_0, wg_0, wi_0, wr_0_0, wr_0_26, wo_1, wg_1, wi_1, wr_1_0, wr_1_1, wl_2, ws_2, wl_3, ws_3, wl_18, ws_18, w_has, w_isRider, w_isPair, w_isHour, w_in, w_in0, w_in_0_1, w_in_0_10, w_in_0_3, w_in_0_30, w_in_0_60, w_in_0_7, w_in_0_9, w_in_0_999, w_in_1_60, w_in_20_27, w_in_2_40, w_in_48_57, w_whole, w_all, wt_0, wt_1, wt_2, nI_add, nI_1, nI_mul, nI_and, nI_or, nI_sd, nI_sub, l_sub1, l_addm1, l_all, l_1shl, l_or0, l_add0, l_0add, l_m1, l_m1r, l_neg, l_nn, l_eq0, l_le0, l_0lt, l_eq1, l_m1lt, l_m1le, l_m1eq0, l_10, l_00, l_1le, nI_le_l, nI_lt_l, nI_eq_l, bc_nI, nt_nI, bit_nI, b2_ite, b2_ite1, nI_max, nI_min, isR_nI, n_100, n_26, hi_ne, hi_ni, hi_eq, y_iL, y_iR, y_lI, y_lR, hl_ne, hl_ni, hl_eq, y_rI, y_rL, if_true, if_false, if_pos, if_neg, true_and, and_true, not_true_eq_false, not_false_eq_true, x.n, x.h, x.b, x.mo, x.wi, x.ca, x.ro, x.ti, x.il, x.ni, x.ga, x.ri]
    exact hk0 0 τ (Nat.zero_le _) f h1 h2 (Or.inl rfl) h3
theorem c_able (x : CX σ P a) (s : SC σ) {h : Nat} (hh : h < 8) : wp (f_X1_able (some 0) (nI h) σ) (QuC σ (nI (ablL P a h).length) (some (ablW P a h))) := by
  have x0 := x
  have n8 := x.n8
  have hin : ((0 : Int32) ≤ nI h ∧ nI h ≤ nI 7) := ⟨by rw [l_nn (by omega)]; trivial, by rw [nI_le_l (by omega) (by decide)]; omega⟩
  generalize hQ : QuC σ (nI (ablL P a h).length) (some (ablW P a h)) = Q
  unfold f_X1_able
  simp (disch := first | omega | exact x.s | exact hi_eq | ((repeat (first | exact x.s | apply sw_I | apply sw_L | apply sw_cp | apply sw_18 | apply sw_21 | apply sw_22 | apply sw_m12 | apply sw_m18)); done) | rfl) only [wp_ite, wp_some, y_jn, wp_r0, wp_r1, wp_b2, y_nn, w_bc, w_nt, wo_0, wg_0, wi_0, w_has, w_isRider, w_isPair, w_isHour, w_in, w_in0, w_in_0_1, w_in_0_10, w_in_0_3, w_in_0_30, w_in_0_60, w_in_0_7, w_in_0_9, w_in_0_999, w_in_1_60, w_in_20_27, w_in_2_40, w_in_48_57, w_whole, w_all, wt_0, wt_1, wt_2, nI_add, nI_1, nI_mul, nI_and, nI_or, nI_sd, nI_sub, l_sub1, l_addm1, l_all, l_1shl, l_or0, l_add0, l_0add, l_m1, l_m1r, l_neg, l_nn, l_eq0, l_le0, l_0lt, l_eq1, l_m1lt, l_m1le, l_m1eq0, l_10, l_00, l_1le, nI_le_l, nI_lt_l, nI_eq_l, bc_nI, nt_nI, bit_nI, b2_ite, b2_ite1, nI_max, nI_min, isR_nI, n_7, hi_ne, hi_ni, hi_eq, y_iL, y_iR, y_lI, y_lR, hl_ne, hl_ni, hl_eq, y_rI, y_rL, if_true, if_false, if_pos, if_neg, true_and, and_true, not_true_eq_false, not_false_eq_true, x.n, x.h, x.b, x.mo, x.wi, x.ca, x.ro, x.ti, x.il, x.ni, x.ga, x.ri, hin]
  refine wp_up P.n (fun r y τ => ∃ l, SrtL (fun r => hardN P a r h) (ablB P a h) r l ∧ y = (nI l.length, nI r) ∧ Fr [18] [18, 19, 20] [] σ τ ∧ AI τ 18 l.length (fun k => l.getD k 0)) (fun ag r y τ hr' hJ hag => ?_) (fun ag y τ hJ => ?_) (by omega) ⟨[], ⟨List.Pairwise.nil, fun v => ⟨fun z => absurd z List.not_mem_nil, fun z => absurd z.1 (Nat.not_lt_zero _)⟩⟩, rfl, Fr.refl, AI.nil⟩
  · obtain ⟨l, hs, rfl, f, h1⟩ := hJ
    have ll := hs.len
    have i8 := x.i8
    replace x := x0.fr f rfl
    have c8 := x.c8 r
    have skip : ablB P a h r = false → wp (ag (nI l.length, nI (r + 1)) τ) Q := fun e => hag _ _ ⟨l, srt_skip hs e, rfl, f, h1⟩
    unfold f_X1_able_b18
    simp (disch := first | omega | exact x.s | exact hi_eq | ((repeat (first | exact x.s | apply sw_I | apply sw_L | apply sw_cp | apply sw_18 | apply sw_21 | apply sw_22 | apply sw_m12 | apply sw_m18)); done) | rfl) only [wp_ite, wp_some, wp_r0, wp_r1, wp_b2, y_nn, w_bc, w_nt, wo_0, wg_0, wi_0, wr_0_0, wr_0_26, wr_0_4, wo_1, wg_1, wi_1, wr_1_0, wr_1_1, wl_2, ws_2, wl_3, ws_3, wo_4, wg_4, wi_4, wr_4_0, wr_4_1, wl_5, ws_5, wl_6, ws_6, wl_9, ws_9, wl_18, ws_18, w_has, w_isRider, w_isPair, w_isHour, w_in, w_in0, w_in_0_1, w_in_0_10, w_in_0_3, w_in_0_30, w_in_0_60, w_in_0_7, w_in_0_9, w_in_0_999, w_in_1_60, w_in_20_27, w_in_2_40, w_in_48_57, w_whole, w_all, wt_0, wt_1, wt_2, nI_add, nI_1, nI_mul, nI_and, nI_or, nI_sd, nI_sub, l_sub1, l_addm1, l_all, l_1shl, l_or0, l_add0, l_0add, l_m1, l_m1r, l_neg, l_nn, l_eq0, l_le0, l_0lt, l_eq1, l_m1lt, l_m1le, l_m1eq0, l_10, l_00, l_1le, nI_le_l, nI_lt_l, nI_eq_l, bc_nI, nt_nI, bit_nI, b2_ite, b2_ite1, nI_max, nI_min, isR_nI, n_100, n_2, n_26, n_4, n_5, hi_ne, hi_ni, hi_eq, y_iL, y_iR, y_lI, y_lR, hl_ne, hl_ni, hl_eq, y_rI, y_rL, if_true, if_false, if_pos, if_neg, true_and, and_true, not_true_eq_false, not_false_eq_true, x.n, x.h, x.b, x.mo, x.wi, x.ca, x.ro, x.ti, x.il, x.ni, x.ga, x.ri]
    rw [y_jn]
    simp (disch := first | omega | exact x.s | exact hi_eq | ((repeat (first | exact x.s | apply sw_I | apply sw_L | apply sw_cp | apply sw_18 | apply sw_21 | apply sw_22 | apply sw_m12 | apply sw_m18)); done) | rfl) only [wp_ite, wp_some, wp_r0, wp_r1, wp_b2, y_nn, w_bc, w_nt, wo_0, wg_0, wi_0, wr_0_0, wr_0_26, wr_0_4, wo_1, wg_1, wi_1, wr_1_0, wr_1_1, wl_2, ws_2, wl_3, ws_3, wo_4, wg_4, wi_4, wr_4_0, wr_4_1, wl_5, ws_5, wl_6, ws_6, wl_9, ws_9, wl_18, ws_18, w_has, w_isRider, w_isPair, w_isHour, w_in, w_in0, w_in_0_1, w_in_0_10, w_in_0_3, w_in_0_30, w_in_0_60, w_in_0_7, w_in_0_9, w_in_0_999, w_in_1_60, w_in_20_27, w_in_2_40, w_in_48_57, w_whole, w_all, wt_0, wt_1, wt_2, nI_add, nI_1, nI_mul, nI_and, nI_or, nI_sd, nI_sub, l_sub1, l_addm1, l_all, l_1shl, l_or0, l_add0, l_0add, l_m1, l_m1r, l_neg, l_nn, l_eq0, l_le0, l_0lt, l_eq1, l_m1lt, l_m1le, l_m1eq0, l_10, l_00, l_1le, nI_le_l, nI_lt_l, nI_eq_l, bc_nI, nt_nI, bit_nI, b2_ite, b2_ite1, nI_max, nI_min, isR_nI, n_100, n_2, n_26, n_4, n_5, hi_ne, hi_ni, hi_eq, y_iL, y_iR, y_lI, y_lR, hl_ne, hl_ni, hl_eq, y_rI, y_rL, if_true, if_false, if_pos, if_neg, true_and, and_true, not_true_eq_false, not_false_eq_true, x.n, x.h, x.b, x.mo, x.wi, x.ca, x.ro, x.ti, x.il, x.ni, x.ga, x.ri]
    by_cases e1 : (P.can r).testBit h = true
    · rw [if_pos e1]
      by_cases e2 : a.ill.testBit r = true
      · rw [if_pos e2]
        exact skip (by unfold ablB; rw [e1, e2]; rfl)
      · rw [if_neg e2]
        refine c_ableIn x hh hr' (fun j hj => ((hs.2 _).mp (getD_mem hj)).1) ll h1 (fun k τ' hk' f' g1 g2 g3 g4 => ?_)
        have x3 := x0.fr (f.trans f') rfl
        simp (disch := first | omega | exact x3.s | exact hi_eq | ((repeat (first | exact x3.s | apply sw_I | apply sw_L | apply sw_cp | apply sw_18 | apply sw_21 | apply sw_22 | apply sw_m12 | apply sw_m18)); done) | rfl) only [wp_ite, wp_some, wp_r0, wp_r1, wp_b2, y_nn, w_bc, w_nt, wo_0, wg_0, wi_0, wr_0_0, wr_0_26, wr_0_4, wo_1, wg_1, wi_1, wr_1_0, wr_1_1, wl_2, ws_2, wl_3, ws_3, wo_4, wg_4, wi_4, wr_4_0, wr_4_1, wl_5, ws_5, wl_6, ws_6, wl_9, ws_9, wl_18, ws_18, w_has, w_isRider, w_isPair, w_isHour, w_in, w_in0, w_in_0_1, w_in_0_10, w_in_0_3, w_in_0_30, w_in_0_60, w_in_0_7, w_in_0_9, w_in_0_999, w_in_1_60, w_in_20_27, w_in_2_40, w_in_48_57, w_whole, w_all, wt_0, wt_1, wt_2, nI_add, nI_1, nI_mul, nI_and, nI_or, nI_sd, nI_sub, l_sub1, l_addm1, l_all, l_1shl, l_or0, l_add0, l_0add, l_m1, l_m1r, l_neg, l_nn, l_eq0, l_le0, l_0lt, l_eq1, l_m1lt, l_m1le, l_m1eq0, l_10, l_00, l_1le, nI_le_l, nI_lt_l, nI_eq_l, bc_nI, nt_nI, bit_nI, b2_ite, b2_ite1, nI_max, nI_min, isR_nI, n_100, n_2, n_26, n_4, n_5, hi_ne, hi_ni, hi_eq, y_iL, y_iR, y_lI, y_lR, hl_ne, hl_ni, hl_eq, y_rI, y_rL, if_true, if_false, if_pos, if_neg, true_and, and_true, not_true_eq_false, not_false_eq_true, x3.n, x3.h, x3.b, x3.mo, x3.wi, x3.ca, x3.ro, x3.ti, x3.il, x3.ni, x3.ga, x3.ri]
        refine hag _ _ ⟨insA l k r, ins_srt hs (by unfold ablB; rw [e1, Bool.eq_false_iff.mpr e2]; rfl) hk' g3 g4, by rw [insA_len hk'], (f.trans f').putI rfl, fun j hj => ?_⟩
        rw [insA_len hk'] at hj
        show _ = nI ((insA l k r).getD j 0)
        rw [insA_getD hk']
        by_cases c1 : j < k
        · rw [if_pos c1, hi_ni (by omega)]; exact g1 j c1
        · rw [if_neg c1]
          by_cases c2 : j = k
          · rw [if_pos c2, c2, hi_eq]
          · rw [if_neg c2, hi_ni c2]; exact g2 j (by omega) (by omega)
    · rw [if_neg e1]
      exact skip (by unfold ablB; rw [Bool.eq_false_iff.mpr e1]; rfl)
  · obtain ⟨l, hs, rfl, f, h1⟩ := hJ
    obtain rfl : l = ablL P a h := hs.uniq (ablL_srt P a h)
    have ll := hs.len
    unfold ablW at hQ
    generalize ablL P a h = l at *
    replace x := x0.fr f rfl
    unfold f_X1_able_b18
    simp (disch := first | omega | exact x.s | exact hi_eq | ((repeat (first | exact x.s | apply sw_I | apply sw_L | apply sw_cp | apply sw_18 | apply sw_21 | apply sw_22 | apply sw_m12 | apply sw_m18)); done) | rfl) only [wp_ite, wp_some, y_jn, wp_r0, wp_r1, wp_b2, y_nn, w_bc, w_nt, wo_0, wg_0, wi_0, wr_0_0, wr_0_26, wr_0_4, wo_1, wg_1, wi_1, wr_1_0, wr_1_1, wl_2, ws_2, wl_3, ws_3, wo_4, wg_4, wi_4, wr_4_0, wr_4_1, wl_5, ws_5, wl_6, ws_6, wl_9, ws_9, wl_18, ws_18, w_has, w_isRider, w_isPair, w_isHour, w_in, w_in0, w_in_0_1, w_in_0_10, w_in_0_3, w_in_0_30, w_in_0_60, w_in_0_7, w_in_0_9, w_in_0_999, w_in_1_60, w_in_20_27, w_in_2_40, w_in_48_57, w_whole, w_all, wt_0, wt_1, wt_2, nI_add, nI_1, nI_mul, nI_and, nI_or, nI_sd, nI_sub, l_sub1, l_addm1, l_all, l_1shl, l_or0, l_add0, l_0add, l_m1, l_m1r, l_neg, l_nn, l_eq0, l_le0, l_0lt, l_eq1, l_m1lt, l_m1le, l_m1eq0, l_10, l_00, l_1le, nI_le_l, nI_lt_l, nI_eq_l, bc_nI, nt_nI, bit_nI, b2_ite, b2_ite1, nI_max, nI_min, isR_nI, n_100, n_2, n_26, n_4, n_5, n_7, hi_ne, hi_ni, hi_eq, y_iL, y_iR, y_lI, y_lR, hl_ne, hl_ni, hl_eq, y_rI, y_rL, if_true, if_false, if_pos, if_neg, true_and, and_true, not_true_eq_false, not_false_eq_true, x.n, x.h, x.b, x.mo, x.wi, x.ca, x.ro, x.ti, x.il, x.ni, x.ga, x.ri]
    have ff : Fr [18, 36] [18, 19, 20, 52] [] σ (wI τ 0 52 0) := (f.mono rfl).putI rfl
    refine wp_up l.length (fun i y τ' => y = nI i ∧ Fr [36] [52] [] τ τ' ∧ RowC τ' (rowL (fun k => l.getD k 0) i)) (fun ag i y τ' hi' hJ hag => ?_) (fun ag y τ' hJ => ?_) (by omega) ⟨rfl, Fr.refl.putI rfl, row0⟩
    · obtain ⟨rfl, f2, h2⟩ := hJ
      have f3 : Fr [18, 36] [18, 19, 20, 52] [] σ τ' := (f.mono rfl).then f2 rfl
      have x2 := x0.fr f3 rfl
      have h3 : hi τ' 18 i = nI (l.getD i 0) := (f2.i rfl).trans (h1 i hi')
      unfold f_X1_able_b141
      simp (disch := first | omega | exact x2.s | exact hi_eq | ((repeat (first | exact x2.s | apply sw_I | apply sw_L | apply sw_cp | apply sw_18 | apply sw_21 | apply sw_22 | apply sw_m12 | apply sw_m18)); done) | rfl) only [wp_ite, wp_some, y_jn, wp_r0, wp_r1, wp_b2, y_nn, w_bc, w_nt, wo_0, wg_0, wi_0, wr_0_26, wl_18, ws_18, w_has, w_isRider, w_isPair, w_isHour, w_in, w_in0, w_in_0_1, w_in_0_10, w_in_0_3, w_in_0_30, w_in_0_60, w_in_0_7, w_in_0_9, w_in_0_999, w_in_1_60, w_in_20_27, w_in_2_40, w_in_48_57, w_whole, w_all, wt_0, wt_1, wt_2, nI_add, nI_1, nI_mul, nI_and, nI_or, nI_sd, nI_sub, l_sub1, l_addm1, l_all, l_1shl, l_or0, l_add0, l_0add, l_m1, l_m1r, l_neg, l_nn, l_eq0, l_le0, l_0lt, l_eq1, l_m1lt, l_m1le, l_m1eq0, l_10, l_00, l_1le, nI_le_l, nI_lt_l, nI_eq_l, bc_nI, nt_nI, bit_nI, b2_ite, b2_ite1, nI_max, nI_min, isR_nI, n_100, n_26, hi_ne, hi_ni, hi_eq, y_iL, y_iR, y_lI, y_lR, hl_ne, hl_ni, hl_eq, y_rI, y_rL, if_true, if_false, if_pos, if_neg, true_and, and_true, not_true_eq_false, not_false_eq_true, x2.n, x2.h, x2.b, x2.mo, x2.wi, x2.ca, x2.ro, x2.ti, x2.il, x2.ni, x2.ga, x2.ri, h3]
      rw [wp_bnd]
      refine wp_mono (row_add x2.s h2 (by rw [rowL_len]; omega)) (fun _ τ2 h => ?_)
      have h4 := h.2
      rw [← rowL_succ (t := fun k => l.getD k 0)] at h4
      exact hag _ _ ⟨rfl, f2.trans h.1, h4⟩
    · obtain ⟨rfl, f2, h2⟩ := hJ
      have f3 : Fr [18, 36] [18, 19, 20, 52] [] σ τ' := (f.mono rfl).then f2 rfl
      have x2 := x0.fr f3 rfl
      unfold f_X1_able_b141
      simp (disch := first | omega | exact x2.s | exact hi_eq | ((repeat (first | exact x2.s | apply sw_I | apply sw_L | apply sw_cp | apply sw_18 | apply sw_21 | apply sw_22 | apply sw_m12 | apply sw_m18)); done) | rfl) only [wp_ite, wp_some, y_jn, wp_r0, wp_r1, wp_b2, y_nn, w_bc, w_nt, wo_0, wg_0, wi_0, wr_0_26, wl_18, ws_18, w_has, w_isRider, w_isPair, w_isHour, w_in, w_in0, w_in_0_1, w_in_0_10, w_in_0_3, w_in_0_30, w_in_0_60, w_in_0_7, w_in_0_9, w_in_0_999, w_in_1_60, w_in_20_27, w_in_2_40, w_in_48_57, w_whole, w_all, wt_0, wt_1, wt_2, nI_add, nI_1, nI_mul, nI_and, nI_or, nI_sd, nI_sub, l_sub1, l_addm1, l_all, l_1shl, l_or0, l_add0, l_0add, l_m1, l_m1r, l_neg, l_nn, l_eq0, l_le0, l_0lt, l_eq1, l_m1lt, l_m1le, l_m1eq0, l_10, l_00, l_1le, nI_le_l, nI_lt_l, nI_eq_l, bc_nI, nt_nI, bit_nI, b2_ite, b2_ite1, nI_max, nI_min, isR_nI, n_100, n_26, hi_ne, hi_ni, hi_eq, y_iL, y_iR, y_lI, y_lR, hl_ne, hl_ni, hl_eq, y_rI, y_rL, if_true, if_false, if_pos, if_neg, true_and, and_true, not_true_eq_false, not_false_eq_true, x2.n, x2.h, x2.b, x2.mo, x2.wi, x2.ca, x2.ro, x2.ti, x2.il, x2.ni, x2.ga, x2.ri]
      rw [← hQ]
      exact ⟨rfl, f3.mono rfl, s.fr f3 rfl, h2⟩
end ables
