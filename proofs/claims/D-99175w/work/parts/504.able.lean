/-! PURE 71: who is able: in order (the reference) -/
theorem cnt_drop {p q : Nat → Bool} {n b : Nat} (hb : b < n) (h1 : p b = true) (h2 : q b = false) (h3 : ∀ i, i ≠ b → q i = p i) : cnt q n + 1 = cnt p n := by
  induction n with
  | zero => exact absurd hb (Nat.not_lt_zero _)
  | succ n ih =>
    unfold cnt
    by_cases e : b = n
    · subst e
      rw [h1, h2, cnt_congr (fun i hi' => h3 i (by omega))]; rfl
    · rw [h3 n (fun z => e z.symm), ← ih (by omega)]
      omega
/-- the first of the best so far -/
def Bst (el : Nat → Bool) (key : Nat → Nat) (r : Nat) (y : Int32) : Prop := (y = -1 ∧ ∀ u, u < r → el u = false) ∨ ∃ b, b < r ∧ y = nI b ∧ el b = true ∧ ∀ u, u < r → el u = true → u = b ∨ ltK key b u
/-- what is told so far: l; T the same as a set -/
def Tld (el : Nat → Bool) (key : Nat → Nat) (n k : Nat) (l : List Nat) (T : Nat) : Prop := l.Pairwise (ltK key) ∧ (∀ v, v ∈ l → v < n ∧ el v = true) ∧ T < 256 ∧ (∀ v, v < n → (T.testBit v = true ↔ v ∈ l)) ∧ (∀ v, v ∈ l → ∀ u, u < n → el u = true → ¬ u ∈ l → ltK key v u) ∧ cnt (fun v => el v && !(T.testBit v)) n ≤ n - k
theorem Tld.zero {el : Nat → Bool} {key : Nat → Nat} {n : Nat} : Tld el key n 0 [] 0 := by
  refine ⟨List.Pairwise.nil, fun v hv => absurd hv List.not_mem_nil, by decide, fun v _ => ?_, fun v hv => absurd hv List.not_mem_nil, cnt_le _ _⟩
  rw [Nat.zero_testBit]
  exact ⟨fun z => (by cases z), fun z => absurd z List.not_mem_nil⟩
theorem Tld.skip {el : Nat → Bool} {key : Nat → Nat} {n k : Nat} {l : List Nat} {T : Nat} (h : Tld el key n k l T) (hb : ∀ u, u < n → (el u && !(T.testBit u)) = false) : Tld el key n (k + 1) l T := by
  obtain ⟨h1, h2, h3, h4, h5, h6⟩ := h
  exact ⟨h1, h2, h3, h4, h5, by rw [cnt_zero.mpr hb]; exact Nat.zero_le _⟩
theorem Tld.put {el : Nat → Bool} {key : Nat → Nat} {n k b : Nat} {l : List Nat} {T : Nat} (h : Tld el key n k l T) (hn' : n ≤ 8) (hb : b < n) (he : (el b && !(T.testBit b)) = true) (hm : ∀ u, u < n → (el u && !(T.testBit u)) = true → u = b ∨ ltK key b u) : Tld el key n (k + 1) (l ++ [b]) (T ||| 2 ^ b) := by
  obtain ⟨h1, h2, h3, h4, h5, h6⟩ := h
  rw [Bool.and_eq_true, Bool.not_eq_true'] at he
  have hnb : ¬ b ∈ l := fun z => by rw [(h4 b hb).mpr z] at he; cases he.2
  refine ⟨?_, fun v hv => ?_, or_lt h3 (pow_lt8 (by omega)), fun v hv => ?_, fun v hv u hu heu hnu => ?_, ?_⟩
  · rw [List.pairwise_append]
    refine ⟨h1, List.pairwise_singleton _ _, fun v hv w hw => ?_⟩
    rw [List.mem_singleton.mp hw]
    exact h5 v hv b hb he.1 hnb
  · rcases List.mem_append.mp hv with g | g
    · exact h2 v g
    · rw [List.mem_singleton.mp g]; exact ⟨hb, he.1⟩
  · rw [Nat.testBit_or, bit_pow, Bool.or_eq_true, decide_eq_true_eq, List.mem_append, List.mem_singleton, h4 v hv]
    exact ⟨fun z => z.imp id Eq.symm, fun z => z.imp id Eq.symm⟩
  · have hul : ¬ u ∈ l := fun z => hnu (List.mem_append.mpr (Or.inl z))
    have hub : u ≠ b := fun z => hnu (List.mem_append.mpr (Or.inr (List.mem_singleton.mpr z)))
    rcases List.mem_append.mp hv with g | g
    · exact h5 v g u hu heu hul
    · rw [List.mem_singleton.mp g]
      rcases hm u hu (by
        rw [heu, Bool.true_and, Bool.not_eq_true']
        exact Bool.eq_false_iff.mpr (fun z => hul ((h4 u hu).mp z))) with e | e
      · exact absurd e hub
      · exact e
  · have := cnt_drop (p := fun v => el v && !(T.testBit v)) (q := fun v => el v && !((T ||| 2 ^ b).testBit v)) hb (by rw [Bool.and_eq_true, Bool.not_eq_true']; exact he) (by
      rw [Nat.testBit_or, bit_pow, decide_eq_true rfl, Bool.or_true, Bool.not_true, Bool.and_false]) (fun i hi' => by
      rw [Nat.testBit_or, bit_pow, decide_eq_false (fun z => hi' z.symm), Bool.or_false])
    omega
theorem Tld.srt {el : Nat → Bool} {key : Nat → Nat} {n : Nat} {l : List Nat} {T : Nat} (h : Tld el key n n l T) : SrtL key el n l := by
  obtain ⟨h1, h2, h3, h4, h5, h6⟩ := h
  refine ⟨h1, fun v => ⟨h2 v, fun z => ?_⟩⟩
  have := cnt_zero.mp (show cnt (fun v => el v && !(T.testBit v)) n = 0 by omega) v z.1
  rw [z.2, Bool.true_and, Bool.not_eq_false'] at this
  exact (h4 v z.1).mp this
theorem Bst.step {el : Nat → Bool} {key : Nat → Nat} {r : Nat} {y : Int32} (h : Bst el key r y) (he : el r = false) : Bst el key (r + 1) y := by
  rcases h with ⟨h1, h2⟩ | ⟨b, h1, h2, h3, h4⟩
  · exact Or.inl ⟨h1, fun u hu => by
      by_cases e : u = r
      · rw [e]; exact he
      · exact h2 u (by omega)⟩
  · exact Or.inr ⟨b, by omega, h2, h3, fun u hu hu' => by
      by_cases e : u = r
      · rw [e, he] at hu'; cases hu'
      · exact h4 u (by omega) hu'⟩
section ables2
variable {σ τ : Hp} {P : Pk} {a : HS}
abbrev AG : List Nat := [10, 11, 12, 13, 14, 15, 16, 21]
theorem m_ableIn (x : MX σ P a) {h T : Nat} (hh : h < 8) (hT : T < 256) {k0 : Int32 → Hp → Option (Int32 × Hp)} {Q : Int32 → Hp → Prop}
    (hk0 : ∀ y τ, Fr [47] [] [12, 13, 14, 15, 16, 21] σ τ → Bst (fun u => ablB P a h u && !(T.testBit u)) (fun r => hardN P a r h) P.n y → wp (k0 y τ) Q) :
    wp (lp 2000 (f_X3_able_b37 (some 37) (nI h) (nI T) k0) (-1, 0) σ) Q := by
  have x0 := x
  have n8 := x.n8
  have i8 := x.i8
  refine wp_up P.n (fun r y τ => y.2 = nI r ∧ Fr [47] [] [12, 13, 14, 15, 16, 21] σ τ ∧ Bst (fun u => ablB P a h u && !(T.testBit u)) (fun r => hardN P a r h) r y.1) (fun ag r y τ hr' hJ hag => ?_) (fun ag y τ hJ => ?_) (by omega) ⟨rfl, Fr.refl, Or.inl ⟨rfl, fun u hu => absurd hu (Nat.not_lt_zero _)⟩⟩
  · obtain ⟨y1, y2⟩ := y
    obtain ⟨h1, f, h2⟩ := hJ
    dsimp only at h1 h2
    subst h1
    replace x := x0.fr f rfl
    have c8 := x.c8 r
    have skip : (ablB P a h r && !(T.testBit r)) = false → wp (ag (y1, nI (r + 1)) τ) Q := fun e => hag _ _ ⟨rfl, f, h2.step e⟩
    unfold f_X3_able_b37
    simp (disch := first | omega | exact x.s | exact hi_eq | ((repeat (first | exact x.s | apply sw_I | apply sw_L | apply sw_cp | apply sw_18 | apply sw_21 | apply sw_22 | apply sw_m12 | apply sw_m18)); done) | rfl) only [wp_ite, wp_some, wp_r0, wp_r1, wp_b2, y_nn, w_bc, w_nt, wo_37, wg_37, wi_37, wr_37_0, wr_37_6, wl_38, ws_38, wl_41, ws_41, w_has3, w_isMan, w_areTwo, w_isHour3, w_in3, w_night, wtM_0, wtM_1, wtM_2, nI_add, nI_1, nI_mul, nI_and, nI_or, nI_sd, nI_sub, l_sub1, l_addm1, l_all, l_1shl, l_or0, l_add0, l_0add, l_m1, l_m1r, l_neg, l_nn, l_eq0, l_le0, l_0lt, l_eq1, l_m1lt, l_m1le, l_m1eq0, l_10, l_00, l_1le, nI_le_l, nI_lt_l, nI_eq_l, bc_nI, nt_nI, bit_nI, b2_ite, b2_ite1, nI_max, nI_min, isR_nI, n_100, n_16, n_2, n_3, n_6, hi_ne, hi_ni, hi_eq, y_iL, y_iR, y_lI, y_lR, hl_ne, hl_ni, hl_eq, y_rI, y_rL, if_true, if_false, if_pos, if_neg, true_and, and_true, not_true_eq_false, not_false_eq_true, x.n, x.h, x.b, x.mo, x.wi, x.ca, x.ro, x.ti, x.il, x.ni, x.ga, x.ri]
    by_cases e0 : T.testBit r = true
    · simp only [e0, if_true, y_jn]
      exact skip (by rw [e0, Bool.not_true, Bool.and_false])
    · simp only [e0, if_false, y_jn, Bool.false_eq_true]
      simp (disch := first | omega | exact x.s | exact hi_eq | ((repeat (first | exact x.s | apply sw_I | apply sw_L | apply sw_cp | apply sw_18 | apply sw_21 | apply sw_22 | apply sw_m12 | apply sw_m18)); done) | rfl) only [wp_ite, wp_some, wp_r0, wp_r1, wp_b2, y_nn, w_bc, w_nt, wo_37, wg_37, wi_37, wr_37_0, wr_37_6, wl_38, ws_38, wl_41, ws_41, w_has3, w_isMan, w_areTwo, w_isHour3, w_in3, w_night, wtM_0, wtM_1, wtM_2, nI_add, nI_1, nI_mul, nI_and, nI_or, nI_sd, nI_sub, l_sub1, l_addm1, l_all, l_1shl, l_or0, l_add0, l_0add, l_m1, l_m1r, l_neg, l_nn, l_eq0, l_le0, l_0lt, l_eq1, l_m1lt, l_m1le, l_m1eq0, l_10, l_00, l_1le, nI_le_l, nI_lt_l, nI_eq_l, bc_nI, nt_nI, bit_nI, b2_ite, b2_ite1, nI_max, nI_min, isR_nI, n_100, n_16, n_2, n_3, n_6, hi_ne, hi_ni, hi_eq, y_iL, y_iR, y_lI, y_lR, hl_ne, hl_ni, hl_eq, y_rI, y_rL, if_true, if_false, if_pos, if_neg, true_and, and_true, not_true_eq_false, not_false_eq_true, x.n, x.h, x.b, x.mo, x.wi, x.ca, x.ro, x.ti, x.il, x.ni, x.ga, x.ri]
      by_cases e1 : a.ill.testBit r = true
      · simp only [e1, if_true]
        exact skip (by unfold ablB; rw [e1, Bool.not_true, Bool.and_false, Bool.false_and])
      · simp only [e1, Bool.false_eq_true, if_false, l_00, l_01]
        by_cases e2 : (P.can r).testBit h = true
        · rw [if_pos e2]
          have el : (ablB P a h r && !(T.testBit r)) = true := by unfold ablB; rw [e2, Bool.eq_false_iff.mpr e1, Bool.eq_false_iff.mpr e0]; rfl
          rw [y_jn]
          rcases h2 with ⟨q1, q2⟩ | ⟨b, q1, q2, q3, q4⟩
          · rw [if_pos q1]
            refine hag _ _ ⟨rfl, f, Or.inr ⟨r, Nat.lt_succ_self r, rfl, el, fun u hu hu' => ?_⟩⟩
            by_cases e : u = r
            · exact Or.inl e
            · have := q2 u (by omega); rw [this] at hu'; cases hu'
          · subst q2
            rw [if_neg (m1_ne (by omega))]
            simp (disch := first | omega | exact x.s | exact hi_eq | ((repeat (first | exact x.s | apply sw_I | apply sw_L | apply sw_cp | apply sw_18 | apply sw_21 | apply sw_22 | apply sw_m12 | apply sw_m18)); done) | rfl) only [wp_ite, wp_some, wp_r0, wp_r1, wp_b2, y_nn, w_bc, w_nt, wo_37, wg_37, wi_37, wr_37_0, wr_37_6, wl_38, ws_38, wl_41, ws_41, w_has3, w_isMan, w_areTwo, w_isHour3, w_in3, w_night, wtM_0, wtM_1, wtM_2, nI_add, nI_1, nI_mul, nI_and, nI_or, nI_sd, nI_sub, l_sub1, l_addm1, l_all, l_1shl, l_or0, l_add0, l_0add, l_m1, l_m1r, l_neg, l_nn, l_eq0, l_le0, l_0lt, l_eq1, l_m1lt, l_m1le, l_m1eq0, l_10, l_00, l_1le, nI_le_l, nI_lt_l, nI_eq_l, bc_nI, nt_nI, bit_nI, b2_ite, b2_ite1, nI_max, nI_min, isR_nI, n_100, n_16, n_2, n_3, n_6, hi_ne, hi_ni, hi_eq, y_iL, y_iR, y_lI, y_lR, hl_ne, hl_ni, hl_eq, y_rI, y_rL, if_true, if_false, if_pos, if_neg, true_and, and_true, not_true_eq_false, not_false_eq_true, x.n, x.h, x.b, x.mo, x.wi, x.ca, x.ro, x.ti, x.il, x.ni, x.ga, x.ri]
            rw [wp_bnd]
            refine wp_mono (m_hard x hr' hh) (fun y τ2 hx => ?_)
            obtain ⟨rfl, f2⟩ := hx
            have f' := f.then f2 rfl
            have x2 := x0.fr f' rfl
            simp (disch := first | omega | exact x2.s | exact hi_eq | ((repeat (first | exact x2.s | apply sw_I | apply sw_L | apply sw_cp | apply sw_18 | apply sw_21 | apply sw_22 | apply sw_m12 | apply sw_m18)); done) | rfl) only [wp_ite, wp_some, wp_r0, wp_r1, wp_b2, y_nn, w_bc, w_nt, wo_37, wg_37, wi_37, wr_37_0, wr_37_6, wl_38, ws_38, wl_41, ws_41, w_has3, w_isMan, w_areTwo, w_isHour3, w_in3, w_night, wtM_0, wtM_1, wtM_2, nI_add, nI_1, nI_mul, nI_and, nI_or, nI_sd, nI_sub, l_sub1, l_addm1, l_all, l_1shl, l_or0, l_add0, l_0add, l_m1, l_m1r, l_neg, l_nn, l_eq0, l_le0, l_0lt, l_eq1, l_m1lt, l_m1le, l_m1eq0, l_10, l_00, l_1le, nI_le_l, nI_lt_l, nI_eq_l, bc_nI, nt_nI, bit_nI, b2_ite, b2_ite1, nI_max, nI_min, isR_nI, n_100, n_16, n_2, n_3, n_6, hi_ne, hi_ni, hi_eq, y_iL, y_iR, y_lI, y_lR, hl_ne, hl_ni, hl_eq, y_rI, y_rL, if_true, if_false, if_pos, if_neg, true_and, and_true, not_true_eq_false, not_false_eq_true, x2.n, x2.h, x2.b, x2.mo, x2.wi, x2.ca, x2.ro, x2.ti, x2.il, x2.ni, x2.ga, x2.ri]
            rw [wp_bnd]
            refine wp_mono (m_hard x2 (show b < P.n by omega) hh) (fun y τ3 hx => ?_)
            obtain ⟨rfl, f3⟩ := hx
            have f'' := f'.then f3 rfl
            have b1 := hardN_le P a b h
            have b2' := hardN_le P a r h
            rw [hardN_eq, hardN_eq, ite_le (by omega) (by omega)]
            by_cases e : hardN P a b h ≤ hardN P a r h
            · rw [if_pos e]
              refine hag _ _ ⟨rfl, f'', Or.inr ⟨b, by omega, rfl, q3, fun u hu hu' => ?_⟩⟩
              by_cases eu : u = r
              · right; unfold ltK; subst eu; dsimp only; omega
              · exact q4 u (by omega) hu'
            · rw [if_neg e]
              refine hag _ _ ⟨rfl, f'', Or.inr ⟨r, Nat.lt_succ_self r, rfl, el, fun u hu hu' => ?_⟩⟩
              by_cases eu : u = r
              · exact Or.inl eu
              · right
                rcases q4 u (by omega) hu' with e' | e'
                · subst e'; left; dsimp only; omega
                · unfold ltK at e' ⊢; dsimp only at e' ⊢; omega
        · rw [if_neg e2]
          exact skip (by unfold ablB; rw [Bool.eq_false_iff.mpr e2]; rfl)
  · obtain ⟨y1, y2⟩ := y
    obtain ⟨h1, f, h2⟩ := hJ
    dsimp only at h1 h2
    subst h1
    replace x := x0.fr f rfl
    unfold f_X3_able_b37
    simp (disch := first | omega | exact x.s | exact hi_eq | ((repeat (first | exact x.s | apply sw_I | apply sw_L | apply sw_cp | apply sw_18 | apply sw_21 | apply sw_22 | apply sw_m12 | apply sw_m18)); done) | rfl) only [wp_ite, wp_some, y_jn, wp_r0, wp_r1, wp_b2, y_nn, w_bc, w_nt, wo_37, wg_37, wi_37, wr_37_0, wr_37_6, wl_38, ws_38, wl_41, ws_41, w_has3, w_isMan, w_areTwo, w_isHour3, w_in3, w_night, wtM_0, wtM_1, wtM_2, nI_add, nI_1, nI_mul, nI_and, nI_or, nI_sd, nI_sub, l_sub1, l_addm1, l_all, l_1shl, l_or0, l_add0, l_0add, l_m1, l_m1r, l_neg, l_nn, l_eq0, l_le0, l_0lt, l_eq1, l_m1lt, l_m1le, l_m1eq0, l_10, l_00, l_1le, nI_le_l, nI_lt_l, nI_eq_l, bc_nI, nt_nI, bit_nI, b2_ite, b2_ite1, nI_max, nI_min, isR_nI, n_100, n_16, n_2, n_3, n_6, hi_ne, hi_ni, hi_eq, y_iL, y_iR, y_lI, y_lR, hl_ne, hl_ni, hl_eq, y_rI, y_rL, if_true, if_false, if_pos, if_neg, true_and, and_true, not_true_eq_false, not_false_eq_true, x.n, x.h, x.b, x.mo, x.wi, x.ca, x.ro, x.ti, x.il, x.ni, x.ga, x.ri]
    exact hk0 _ _ f h2
theorem m_able (x : MX σ P a) (s : SM σ) {h : Nat} (hh : h < 8) : wp (f_X3_able (some 37) (nI h) σ) (QuM σ (nI (ablL P a h).length) (some (ablW P a h))) := by
  have x0 := x
  have n8 := x.n8
  have hin : ((0 : Int32) ≤ nI h ∧ nI h ≤ nI 7) := ⟨by rw [l_nn (by omega)]; trivial, by rw [nI_le_l (by omega) (by decide)]; omega⟩
  generalize hQ : QuM σ (nI (ablL P a h).length) (some (ablW P a h)) = Q
  unfold f_X3_able
  simp (disch := first | omega | exact x.s | exact hi_eq | ((repeat (first | exact x.s | apply sw_I | apply sw_L | apply sw_cp | apply sw_18 | apply sw_21 | apply sw_22 | apply sw_m12 | apply sw_m18)); done) | rfl) only [wp_ite, wp_some, y_jn, wp_r0, wp_r1, wp_b2, y_nn, w_bc, w_nt, wo_37, wg_37, wi_37, w_has3, w_isMan, w_areTwo, w_isHour3, w_in3, w_night, wtM_0, wtM_1, wtM_2, nI_add, nI_1, nI_mul, nI_and, nI_or, nI_sd, nI_sub, l_sub1, l_addm1, l_all, l_1shl, l_or0, l_add0, l_0add, l_m1, l_m1r, l_neg, l_nn, l_eq0, l_le0, l_0lt, l_eq1, l_m1lt, l_m1le, l_m1eq0, l_10, l_00, l_1le, nI_le_l, nI_lt_l, nI_eq_l, bc_nI, nt_nI, bit_nI, b2_ite, b2_ite1, nI_max, nI_min, isR_nI, n_10, n_11, n_2, hi_ne, hi_ni, hi_eq, y_iL, y_iR, y_lI, y_lR, hl_ne, hl_ni, hl_eq, y_rI, y_rL, if_true, if_false, if_pos, if_neg, true_and, and_true, not_true_eq_false, not_false_eq_true, x.n, x.h, x.b, x.mo, x.wi, x.ca, x.ro, x.ti, x.il, x.ni, x.ga, x.ri, hin, n_7]
  have f0 : Fr [43, 47] [] AG σ (wI (wI σ 37 11 0) 37 10 0) := (by repeat (first | exact Fr.refl | exact (Fr.refl).mono rfl | refine Fr.putI ?_ rfl | refine Fr.putL ?_ rfl | refine Fr.putR ?_ rfl))
  refine wp_up P.n (fun k y τ => ∃ l T, Tld (ablB P a h) (fun r => hardN P a r h) P.n k l T ∧ y = (nI T, nI k) ∧ Fr [43, 47] [] AG σ τ ∧ RowM τ (rowL (fun k => l.getD k 0) l.length) ∧ l.length ≤ k) (fun ag k y τ hk' hJ hag => ?_) (fun ag y τ hJ => ?_) (by omega) ⟨[], 0, Tld.zero, rfl, f0, rowM0, Nat.le_refl _⟩
  · obtain ⟨l, T, ht, rfl, f, h1, hlk⟩ := hJ
    have hT := ht.2.2.1
    replace x := x0.fr f rfl
    unfold f_X3_able_b23
    simp (disch := first | omega | exact x.s | exact hi_eq | ((repeat (first | exact x.s | apply sw_I | apply sw_L | apply sw_cp | apply sw_18 | apply sw_21 | apply sw_22 | apply sw_m12 | apply sw_m18)); done) | rfl) only [wp_ite, wp_some, y_jn, wp_r0, wp_r1, wp_b2, y_nn, w_bc, w_nt, wo_37, wg_37, wi_37, w_has3, w_isMan, w_areTwo, w_isHour3, w_in3, w_night, wtM_0, wtM_1, wtM_2, nI_add, nI_1, nI_mul, nI_and, nI_or, nI_sd, nI_sub, l_sub1, l_addm1, l_all, l_1shl, l_or0, l_add0, l_0add, l_m1, l_m1r, l_neg, l_nn, l_eq0, l_le0, l_0lt, l_eq1, l_m1lt, l_m1le, l_m1eq0, l_10, l_00, l_1le, nI_le_l, nI_lt_l, nI_eq_l, bc_nI, nt_nI, bit_nI, b2_ite, b2_ite1, nI_max, nI_min, isR_nI, n_2, n_3, hi_ne, hi_ni, hi_eq, y_iL, y_iR, y_lI, y_lR, hl_ne, hl_ni, hl_eq, y_rI, y_rL, if_true, if_false, if_pos, if_neg, true_and, and_true, not_true_eq_false, not_false_eq_true, x.n, x.h, x.b, x.mo, x.wi, x.ca, x.ro, x.ti, x.il, x.ni, x.ga, x.ri]
    refine m_ableIn x hh hT (fun y τ' f' hb => ?_)
    have ff := f.then f' rfl
    have x1 := x0.fr ff rfl
    have h2 : RowM τ' (rowL (fun k => l.getD k 0) l.length) := h1.fr f' rfl
    rw [y_jn]
    rcases hb with ⟨q1, q2⟩ | ⟨b, q1, q2, q3, q4⟩
    · rw [if_pos q1]
      exact hag _ _ ⟨l, T, ht.skip q2, rfl, ff, h2, by omega⟩
    · subst q2
      rw [if_neg (m1_ne (by omega))]
      simp (disch := first | omega | exact x1.s | exact hi_eq | ((repeat (first | exact x1.s | apply sw_I | apply sw_L | apply sw_cp | apply sw_18 | apply sw_21 | apply sw_22 | apply sw_m12 | apply sw_m18)); done) | rfl) only [wp_ite, wp_some, wp_r0, wp_r1, wp_b2, y_nn, w_bc, w_nt, wo_37, wg_37, wi_37, w_has3, w_isMan, w_areTwo, w_isHour3, w_in3, w_night, wtM_0, wtM_1, wtM_2, nI_add, nI_1, nI_mul, nI_and, nI_or, nI_sd, nI_sub, l_sub1, l_addm1, l_all, l_1shl, l_or0, l_add0, l_0add, l_m1, l_m1r, l_neg, l_nn, l_eq0, l_le0, l_0lt, l_eq1, l_m1lt, l_m1le, l_m1eq0, l_10, l_00, l_1le, nI_le_l, nI_lt_l, nI_eq_l, bc_nI, nt_nI, bit_nI, b2_ite, b2_ite1, nI_max, nI_min, isR_nI, n_2, n_3, hi_ne, hi_ni, hi_eq, y_iL, y_iR, y_lI, y_lR, hl_ne, hl_ni, hl_eq, y_rI, y_rL, if_true, if_false, if_pos, if_neg, true_and, and_true, not_true_eq_false, not_false_eq_true, x1.n, x1.h, x1.b, x1.mo, x1.wi, x1.ca, x1.ro, x1.ti, x1.il, x1.ni, x1.ga, x1.ri]
      rw [wp_bnd]
      refine wp_mono (rowM_add x1.s h2 (by rw [rowL_len]; omega)) (fun _ τ2 h3 => ?_)
      refine hag _ _ ⟨l ++ [b], T ||| 2 ^ b, ht.put n8 q1 q3 q4, rfl, ff.then h3.1 rfl, ?_, by rw [List.length_append]; show l.length + 1 ≤ _; omega⟩
      rw [List.length_append]
      show RowM τ2 (rowL _ (l.length + 1))
      rw [rowL_succ]
      have e1 : rowL (fun k => (l ++ [b]).getD k 0) l.length = rowL (fun k => l.getD k 0) l.length := rowL_congr (fun k hk2 => by
        rw [List.getD_eq_getElem?_getD, List.getD_eq_getElem?_getD, List.getElem?_append_left hk2])
      have e2 : (l ++ [b]).getD l.length 0 = b := by
        rw [List.getD_eq_getElem?_getD, List.getElem?_append_right (Nat.le_refl _), Nat.sub_self]; rfl
      rw [e1, e2]
      exact h3.2
  · obtain ⟨l, T, ht, rfl, f, h1, hlk⟩ := hJ
    have hs := ht.srt
    obtain rfl : l = ablL P a h := hs.uniq (ablL_srt P a h)
    unfold ablW at hQ
    generalize ablL P a h = l at *
    replace x := x0.fr f rfl
    have h2 := h1.1
    rw [rowL_len] at h2
    unfold f_X3_able_b23
    simp (disch := first | omega | exact x.s | exact hi_eq | ((repeat (first | exact x.s | apply sw_I | apply sw_L | apply sw_cp | apply sw_18 | apply sw_21 | apply sw_22 | apply sw_m12 | apply sw_m18)); done) | rfl) only [wp_ite, wp_some, y_jn, wp_r0, wp_r1, wp_b2, y_nn, w_bc, w_nt, wo_37, wg_37, wi_37, w_has3, w_isMan, w_areTwo, w_isHour3, w_in3, w_night, wtM_0, wtM_1, wtM_2, nI_add, nI_1, nI_mul, nI_and, nI_or, nI_sd, nI_sub, l_sub1, l_addm1, l_all, l_1shl, l_or0, l_add0, l_0add, l_m1, l_m1r, l_neg, l_nn, l_eq0, l_le0, l_0lt, l_eq1, l_m1lt, l_m1le, l_m1eq0, l_10, l_00, l_1le, nI_le_l, nI_lt_l, nI_eq_l, bc_nI, nt_nI, bit_nI, b2_ite, b2_ite1, nI_max, nI_min, isR_nI, n_10, n_11, n_2, n_3, hi_ne, hi_ni, hi_eq, y_iL, y_iR, y_lI, y_lR, hl_ne, hl_ni, hl_eq, y_rI, y_rL, if_true, if_false, if_pos, if_neg, true_and, and_true, not_true_eq_false, not_false_eq_true, x.n, x.h, x.b, x.mo, x.wi, x.ca, x.ro, x.ti, x.il, x.ni, x.ga, x.ri, h2]
    rw [← hQ]
    exact ⟨rfl, f.mono rfl, s.fr f rfl, h1⟩
end ables2
