/-! PURE 33: the class lays out a rota -/
section cps
variable {β : Type} {Q : β → Hp → Prop} {σ τ : Hp} {K : Hp → Option (β × Hp)} {a b c i j n k : Nat} {D F G : List Nat}
theorem w_cp (ha : Ok σ a 100) (hb : Ok σ b 100) (la : 8 ≤ (hk σ a).2) (lb : 8 ≤ (hk σ b).2) : wp (cpA σ (some a) 0 (some b) 0 (nI 8) K) Q ↔ wp (K (cpI σ a 0 b 0 8)) Q := by
  have : cpA σ (some a) 0 (some b) 0 (nI 8) K = K (cpI σ a 0 b 0 8) := if_pos ⟨⟨ha, hb⟩, ⟨by decide, by decide, by decide⟩, la, lb⟩
  rw [this]
theorem wc_24_25 (h : Sh σ) : wp (cpA σ (some 24) 0 (some 25) 0 (nI 8) K) Q ↔ wp (K (cpI σ 24 0 25 0 8)) Q := w_cp (so_24 h) (so_25 h) (by rw [sl_24 h]; decide) (by rw [sl_25 h]; decide)
theorem wc_25_24 (h : Sh σ) : wp (cpA σ (some 25) 0 (some 24) 0 (nI 8) K) Q ↔ wp (K (cpI σ 25 0 24 0 8)) Q := w_cp (so_25 h) (so_24 h) (by rw [sl_25 h]; decide) (by rw [sl_24 h]; decide)
theorem wc_20_29 (h : Sh σ) : wp (cpA σ (some 20) 0 (some 29) 0 (nI 8) K) Q ↔ wp (K (cpI σ 20 0 29 0 8)) Q := w_cp (so_20 h) (so_29 h) (by rw [sl_20 h]; decide) (by rw [sl_29 h]; decide)
theorem cp_ne (h : c ≠ b) : hi (cpI σ a i b j n) c = hi σ c := by
  funext q
  exact if_neg h
theorem cp_eq (h : k < 8) : hi (cpI σ a 0 b 0 8) b k = hi σ a k := by
  show (if b = b then va_cpy (hi σ a) (hi σ b) 0 0 8 k else hi σ b k) = hi σ a k
  rw [if_pos rfl]
  unfold va_cpy
  rw [if_pos ⟨Nat.zero_le _, by omega⟩, Nat.zero_add, Nat.sub_zero]
theorem Ok_cp : Ok (cpI σ a i b j n) c k ↔ Ok σ c k := Iff.rfl
theorem hr_cp : hr (cpI σ a i b j n) = hr σ := rfl
theorem hl_cp : hl (cpI σ a i b j n) = hl σ := rfl
theorem hk_cp : hk (cpI σ a i b j n) = hk σ := rfl
theorem hn_cp : hn (cpI σ a i b j n) = hn σ := rfl
theorem Fr.cp (h : Fr D F G σ τ) (hs : D.contains b = true) : Fr D F G σ (cpI τ a i b j n) := by
  refine ⟨h.1, h.2.1, h.2.2.1, fun c q => ⟨fun hd => ⟨?_, ((h.2.2.2 c q).1 hd).2⟩, (h.2.2.2 c q).2⟩⟩
  have hne : c ≠ b := by
    rintro rfl
    rw [dn_in hs] at hd
    cases hd
  rw [cp_ne hne]
  exact ((h.2.2.2 c q).1 hd).1
end cps
/-- who may: none beyond the riders, no hour beyond the night -/
def MayOK (P : Pk) (may : Nat → Nat) : Prop := (∀ o, P.n ≤ o → may o = 0) ∧ ∀ r, sbs (may r) (2 ^ P.hrs - 1)
section cturn
variable {σ τ : Hp} {P : Pk} {a : HS} {may : Nat → Nat} {pr : Nat → Nat → Nat} {lim v : Nat}
theorem MayOK.fix (h : MayOK P may) (i r : Nat) : MayOK P (fixM may i r) := by
  refine ⟨fun o ho => ?_, fun o => sbs_trans (fixM_sbs i r o) (h.2 o)⟩
  have := sbs_le (fixM_sbs (may := may) i r o)
  rw [h.1 o ho] at this
  omega
theorem MayOK.lt (h : MayOK P may) (h8 : P.hrs ≤ 8) (r : Nat) : may r < 256 := sbs_lt (h.2 r) (all_lt h8)
theorem MayOK.lay (h : MayOK P may) : ∀ i, MayOK P (layS P lim pr v may i).1 := by
  intro i
  refine ⟨fun o ho => ?_, fun o => sbs_trans (layS_sbs i o) (h.2 o)⟩
  have := sbs_le (layS_sbs (P := P) (lim := lim) (pr := pr) (v := v) (may := may) i o)
  rw [h.1 o ho] at this
  omega
theorem mayOf_ok {w : Nat} : MayOK P (mayOf P a w) := by
  refine ⟨fun o ho => by unfold mayOf; rw [if_neg (by omega)], fun r => ?_⟩
  unfold mayOf
  split
  · exact sbs_and_r _ _
  · exact sbs_zero _
theorem c_fixes (x : CX σ P a) {h r : Nat} (hh : h < 8) (hr' : r < 256) (hm : AI σ 24 8 may) (mk : MayOK P may) : wp (f_X1_fixes (some 0) (nI h) (nI r) σ) (fun _ τ => Fr [24] [] [] σ τ ∧ AI τ 24 8 (fixM may h r)) := by
  have n8 := x.n8
  have x0 := x
  unfold f_X1_fixes
  refine wp_up P.n (fun i y τ => y = nI i ∧ Fr [24] [] [] σ τ ∧ (∀ o, o < i → hi τ 24 o = nI (fixM may h r o)) ∧ ∀ o, i ≤ o → o < 8 → hi τ 24 o = nI (may o)) (fun ag i y τ hi' hJ hag => ?_) (fun ag y τ hJ => ?_) (by omega) ⟨rfl, Fr.refl, fun o ho => absurd ho (Nat.not_lt_zero _), fun o _ ho => hm o ho⟩
  · obtain ⟨rfl, f, h1, h3⟩ := hJ
    replace x := x0.fr f rfl
    have h2 : hi τ 24 i = nI (may i) := h3 i (Nat.le_refl _) (by omega)
    have fin : ∀ v, v = nI (fixM may h r i) → wp (ag (nI (i + 1)) (wI τ 24 i v)) (fun _ τ => Fr [24] [] [] σ τ ∧ AI τ 24 8 (fixM may h r)) := fun v hv =>
      hag _ _ ⟨rfl, f.putI rfl, fun k hk' => by
        by_cases e : k = i
        · rw [e, hi_eq, hv]
        · rw [hi_ni e]; exact h1 k (by omega), fun k hk' hk2 => by
        rw [hi_ni (by omega)]; exact h3 k (by omega) hk2⟩
    unfold f_X1_fixes_b2
    simp (disch := first | omega | exact x.s | exact hi_eq | ((repeat (first | exact x.s | apply sw_I | apply sw_L | apply sw_cp | apply sw_18 | apply sw_21 | apply sw_22 | apply sw_m12 | apply sw_m18)); done) | rfl) only [wp_ite, wp_some, w_jn, wp_r0, wp_r1, wp_b2, wp_nn, w_bc, w_nt, wo_0, wg_0, wi_0, wr_0_35, wl_24, ws_24, w_has, w_isRider, w_isPair, w_isHour, w_in, w_in0, w_in_0_1, w_in_0_10, w_in_0_3, w_in_0_30, w_in_0_60, w_in_0_7, w_in_0_9, w_in_0_999, w_in_1_60, w_in_20_27, w_in_2_40, w_in_48_57, w_whole, w_all, wt_0, wt_1, wt_2, nI_add, nI_1, nI_mul, nI_and, nI_or, nI_sd, nI_sub, l_sub1, l_addm1, l_all, l_1shl, l_or0, l_add0, l_0add, l_m1, l_m1r, l_neg, l_nn, l_eq0, l_le0, l_0lt, l_eq1, l_m1lt, l_m1le, l_m1eq0, l_10, l_00, l_1le, nI_le_l, nI_lt_l, nI_eq_l, bc_nI, nt_nI, bit_nI, b2_ite, b2_ite1, nI_max, nI_min, isR_nI, n_100, n_5, hi_ne, hi_ni, hi_eq, hi_wL, hi_wR, hl_wI, hl_wR, hl_ne, hl_ni, hl_eq, hr_wI, hr_wL, if_true, if_false, if_pos, if_neg, true_and, and_true, not_true_eq_false, not_false_eq_true, x.n, x.h, x.b, x.mo, x.wi, x.ca, x.ro, x.ti, x.il, x.ni, x.ga, x.ri, h2, Nat.and_self]
    split
    · rename_i e
      exact fin _ (by unfold fixM; rw [if_pos e])
    · rename_i e
      exact fin _ (by unfold fixM; rw [if_neg e])
  · obtain ⟨rfl, f, h1, h3⟩ := hJ
    replace x := x0.fr f rfl
    unfold f_X1_fixes_b2
    simp (disch := first | omega | exact x.s | exact hi_eq | ((repeat (first | exact x.s | apply sw_I | apply sw_L | apply sw_cp | apply sw_18 | apply sw_21 | apply sw_22 | apply sw_m12 | apply sw_m18)); done) | rfl) only [wp_ite, wp_some, w_jn, wp_r0, wp_r1, wp_b2, wp_nn, w_bc, w_nt, wo_0, wg_0, wi_0, wr_0_35, wl_24, ws_24, w_has, w_isRider, w_isPair, w_isHour, w_in, w_in0, w_in_0_1, w_in_0_10, w_in_0_3, w_in_0_30, w_in_0_60, w_in_0_7, w_in_0_9, w_in_0_999, w_in_1_60, w_in_20_27, w_in_2_40, w_in_48_57, w_whole, w_all, wt_0, wt_1, wt_2, nI_add, nI_1, nI_mul, nI_and, nI_or, nI_sd, nI_sub, l_sub1, l_addm1, l_all, l_1shl, l_or0, l_add0, l_0add, l_m1, l_m1r, l_neg, l_nn, l_eq0, l_le0, l_0lt, l_eq1, l_m1lt, l_m1le, l_m1eq0, l_10, l_00, l_1le, nI_le_l, nI_lt_l, nI_eq_l, bc_nI, nt_nI, bit_nI, b2_ite, b2_ite1, nI_max, nI_min, isR_nI, n_100, n_5, hi_ne, hi_ni, hi_eq, hi_wL, hi_wR, hl_wI, hl_wR, hl_ne, hl_ni, hl_eq, hr_wI, hr_wL, if_true, if_false, if_pos, if_neg, true_and, and_true, not_true_eq_false, not_false_eq_true, x.n, x.h, x.b, x.mo, x.wi, x.ca, x.ro, x.ti, x.il, x.ni, x.ga, x.ri]
    refine ⟨f, fun k hk' => ?_⟩
    by_cases e : k < P.n
    · exact h1 k e
    · rw [h3 k (by omega) hk', mk.1 k (by omega), (mk.fix h r).1 k (by omega)]
theorem c_laysTurn (x : CX σ P a) (hm : AI σ 24 8 may) (mk : MayOK P may) (hp : PrC σ pr) (hpl : ∀ r h, pr r h ≤ 999) (hl' : hi σ 0 42 = nI lim) (hlim : lim ≤ 1000000) (hz : hi σ 27 0 = 0) (hv : lstO P may lim pr = some v) : wp (f_X1_laysTurn (some 0) (nI v) σ) (fun _ τ => Fr [24, 25, 27, 28, 29] [] [] σ τ ∧ hi τ 27 0 = 0 ∧ ∀ k, k < P.hrs → hi τ 29 k = nI ((layS P lim pr v may P.hrs).2 k)) := by
  have n8 := x.n8
  have h8 := x.h8
  have x0 := x
  have v8 := lst_le hpl hv
  unfold f_X1_laysTurn
  refine wp_up P.hrs (fun h y τ => y = nI h ∧ Fr [24, 25, 27, 28, 29] [] [] σ τ ∧ hi τ 27 0 = 0 ∧ AI τ 24 8 (layS P lim pr v may h).1 ∧ ∀ k, k < h → hi τ 29 k = nI ((layS P lim pr v may h).2 k)) (fun ag h y τ hh hJ hag => ?_) (fun ag y τ hJ => ?_) (by omega) ⟨rfl, Fr.refl, hz, hm, fun k hk' => absurd hk' (Nat.not_lt_zero _)⟩
  · obtain ⟨rfl, f, z, h1, h2⟩ := hJ
    replace x := x0.fr f rfl
    obtain ⟨r0, hr0, ht, hf, hst⟩ := layS_step hh (layS_inv hv h (by omega))
    have mkM : MayOK P (layS P lim pr v may h).1 := mk.lay h
    generalize (layS P lim pr v may h).1 = M at *
    generalize hT : (layS P lim pr v may h).2 = T at *
    unfold f_X1_laysTurn_b2
    simp (disch := first | omega | exact x.s | exact hi_eq | ((repeat (first | exact x.s | apply sw_I | apply sw_L | apply sw_cp | apply sw_18 | apply sw_21 | apply sw_22 | apply sw_m12 | apply sw_m18)); done) | rfl) only [wp_ite, wp_some, w_jn, wp_r0, wp_r1, wp_b2, wp_nn, w_bc, w_nt, wo_0, wg_0, wi_0, w_has, w_isRider, w_isPair, w_isHour, w_in, w_in0, w_in_0_1, w_in_0_10, w_in_0_3, w_in_0_30, w_in_0_60, w_in_0_7, w_in_0_9, w_in_0_999, w_in_1_60, w_in_20_27, w_in_2_40, w_in_48_57, w_whole, w_all, wt_0, wt_1, wt_2, nI_add, nI_1, nI_mul, nI_and, nI_or, nI_sd, nI_sub, l_sub1, l_addm1, l_all, l_1shl, l_or0, l_add0, l_0add, l_m1, l_m1r, l_neg, l_nn, l_eq0, l_le0, l_0lt, l_eq1, l_m1lt, l_m1le, l_m1eq0, l_10, l_00, l_1le, nI_le_l, nI_lt_l, nI_eq_l, bc_nI, nt_nI, bit_nI, b2_ite, b2_ite1, nI_max, nI_min, isR_nI, n_6, hi_ne, hi_ni, hi_eq, hi_wL, hi_wR, hl_wI, hl_wR, hl_ne, hl_ni, hl_eq, hr_wI, hr_wL, if_true, if_false, if_pos, if_neg, true_and, and_true, not_true_eq_false, not_false_eq_true, x.n, x.h, x.b, x.mo, x.wi, x.ca, x.ro, x.ti, x.il, x.ni, x.ga, x.ri]
    refine wp_up (r0 + 1) (fun i y τ => Fr [24, 25, 27, 28, 29] [] [] σ τ ∧ hi τ 27 0 = 0 ∧ (∀ k, k < h → hi τ 29 k = nI (T k)) ∧ ((i ≤ r0 ∧ y = (1, nI i) ∧ AI τ 24 8 M) ∨ (i = r0 + 1 ∧ y = (0, nI i) ∧ AI τ 24 8 (fixM M h r0) ∧ hi τ 29 h = nI r0))) (fun ag' i y τ hi' hJ hag' => ?_) (fun ag' y τ hJ => ?_) (by omega) ⟨f, z, h2, Or.inl ⟨Nat.zero_le _, rfl, h1⟩⟩
    · obtain ⟨f, z, h2, hc⟩ := hJ
      rcases hc with ⟨-, rfl, h1⟩ | ⟨e, -⟩
      · replace x := x0.fr f rfl
        have h1i := h1 i (by omega)
        have mi := mkM.lt h8 i
        unfold f_X1_laysTurn_b15
        simp (disch := first | omega | exact x.s | exact hi_eq | ((repeat (first | exact x.s | apply sw_I | apply sw_L | apply sw_cp | apply sw_18 | apply sw_21 | apply sw_22 | apply sw_m12 | apply sw_m18)); done) | rfl) only [wp_ite, wp_some, w_jn, wp_r0, wp_r1, wp_b2, wp_nn, w_bc, w_nt, wo_0, wg_0, wi_0, wr_0_40, wr_0_35, wr_0_36, wl_24, ws_24, wl_25, ws_25, wl_29, ws_29, w_has, w_isRider, w_isPair, w_isHour, w_in, w_in0, w_in_0_1, w_in_0_10, w_in_0_3, w_in_0_30, w_in_0_60, w_in_0_7, w_in_0_9, w_in_0_999, w_in_1_60, w_in_20_27, w_in_2_40, w_in_48_57, w_whole, w_all, wt_0, wt_1, wt_2, nI_add, nI_1, nI_mul, nI_and, nI_or, nI_sd, nI_sub, l_sub1, l_addm1, l_all, l_1shl, l_or0, l_add0, l_0add, l_m1, l_m1r, l_neg, l_nn, l_eq0, l_le0, l_0lt, l_eq1, l_m1lt, l_m1le, l_m1eq0, l_10, l_00, l_1le, nI_le_l, nI_lt_l, nI_eq_l, bc_nI, nt_nI, bit_nI, b2_ite, b2_ite1, nI_max, nI_min, isR_nI, n_100, n_40, n_5, n_8, hi_ne, hi_ni, hi_eq, hi_wL, hi_wR, hl_wI, hl_wR, hl_ne, hl_ni, hl_eq, hr_wI, hr_wL, if_true, if_false, if_pos, if_neg, true_and, and_true, not_true_eq_false, not_false_eq_true, x.n, x.h, x.b, x.mo, x.wi, x.ca, x.ro, x.ti, x.il, x.ni, x.ga, x.ri, h1i, wc_24_25]
        split
        · rename_i hb
          have fc : Fr [24, 25, 27, 28, 29] [] [] σ (cpI τ 24 0 25 0 8) := f.cp rfl
          replace x := x0.fr fc rfl
          rw [wp_bnd]
          refine wp_mono (c_fixes x (h := h) (r := i) (by omega) (by omega) (fun k hk' => by rw [cp_ne (by decide)]; exact h1 k hk') mkM) (fun _ τ' hx => ?_)
          obtain ⟨f1, g1⟩ := hx
          have q1 : ∀ k, k < 8 → hi τ' 25 k = nI (M k) := fun k hk' => by rw [f1.i rfl, cp_eq hk']; exact h1 k hk'
          have q2 : ∀ k, k < h → hi τ' 29 k = nI (T k) := fun k hk' => by rw [f1.i rfl, cp_ne (by decide)]; exact h2 k hk'
          have q3 : hi τ' 27 0 = 0 := by rw [f1.i rfl, cp_ne (by decide)]; exact z
          have fc1 := fc.then f1 rfl
          clear f1 fc
          replace x := x0.fr fc1 rfl
          simp (disch := first | omega | exact x.s | exact hi_eq | ((repeat (first | exact x.s | apply sw_I | apply sw_L | apply sw_cp | apply sw_18 | apply sw_21 | apply sw_22 | apply sw_m12 | apply sw_m18)); done) | rfl) only [wp_ite, wp_some, w_jn, wp_r0, wp_r1, wp_b2, wp_nn, w_bc, w_nt, wo_0, wg_0, wi_0, wr_0_40, wr_0_35, wr_0_36, wl_24, ws_24, wl_25, ws_25, wl_29, ws_29, w_has, w_isRider, w_isPair, w_isHour, w_in, w_in0, w_in_0_1, w_in_0_10, w_in_0_3, w_in_0_30, w_in_0_60, w_in_0_7, w_in_0_9, w_in_0_999, w_in_1_60, w_in_20_27, w_in_2_40, w_in_48_57, w_whole, w_all, wt_0, wt_1, wt_2, nI_add, nI_1, nI_mul, nI_and, nI_or, nI_sd, nI_sub, l_sub1, l_addm1, l_all, l_1shl, l_or0, l_add0, l_0add, l_m1, l_m1r, l_neg, l_nn, l_eq0, l_le0, l_0lt, l_eq1, l_m1lt, l_m1le, l_m1eq0, l_10, l_00, l_1le, nI_le_l, nI_lt_l, nI_eq_l, bc_nI, nt_nI, bit_nI, b2_ite, b2_ite1, nI_max, nI_min, isR_nI, n_100, n_40, n_5, n_8, hi_ne, hi_ni, hi_eq, hi_wL, hi_wR, hl_wI, hl_wR, hl_ne, hl_ni, hl_eq, hr_wI, hr_wL, if_true, if_false, if_pos, if_neg, true_and, and_true, not_true_eq_false, not_false_eq_true, x.n, x.h, x.b, x.mo, x.wi, x.ca, x.ro, x.ti, x.il, x.ni, x.ga, x.ri]
          have fc2 : Fr [24, 25, 27, 28, 29] [] [] σ (wI τ' 29 h (nI i)) := fc1.putI rfl
          replace x := x0.fr fc2 rfl
          rw [wp_bnd]
          refine wp_mono (c_laysLeast x (may := fixM M h i) (pr := pr) (lim := lim) (fun k hk' => by rw [hi_ne (by decide)]; exact g1 k hk') (fun r => (mkM.fix h i).2 r) (fun r h' a1 a2 => (fc2.i rfl).trans (hp r h' a1 a2)) hpl ((fc2.i rfl).trans hl') hlim q3) (fun w τ'' hx => ?_)
          obtain ⟨rfl, f2, z2⟩ := hx
          have fc3 := fc2.then f2 rfl
          have k1 : AI τ'' 24 8 (fixM M h i) := fun k hk' => by rw [f2.i rfl, hi_ne (by decide)]; exact g1 k hk'
          have k2 : ∀ k, k < h → hi τ'' 29 k = nI (T k) := fun k hk' => by rw [f2.i rfl, hi_ni (by omega)]; exact q2 k hk'
          have k3 : ∀ k, k < 8 → hi τ'' 25 k = nI (M k) := fun k hk' => by rw [f2.i rfl, hi_ne (by decide)]; exact q1 k hk'
          have k4 : hi τ'' 29 h = nI i := by rw [f2.i rfl, hi_eq]
          have hw : (lstO P (fixM M h i) lim pr).getD 1000000 < 2 ^ 31 := by
            cases hl2 : lstO P (fixM M h i) lim pr with
            | none => decide
            | some u => have := lst_le hpl hl2; show u < 2 ^ 31; omega
          have hd : (lstO P (fixM M h i) lim pr).getD 1000000 = v ↔ lstO P (fixM M h i) lim pr = some v := by
            cases hl2 : lstO P (fixM M h i) lim pr with
            | none => show 1000000 = v ↔ none = some v; constructor; intro e; omega; intro e; cases e
            | some u => show u = v ↔ some u = some v; constructor; intro e; rw [e]; intro e; exact Option.some.inj e
          replace x := x0.fr fc3 rfl
          simp (disch := first | omega | exact x.s | exact hi_eq | ((repeat (first | exact x.s | apply sw_I | apply sw_L | apply sw_cp | apply sw_18 | apply sw_21 | apply sw_22 | apply sw_m12 | apply sw_m18)); done) | rfl) only [wp_ite, wp_some, w_jn, wp_r0, wp_r1, wp_b2, wp_nn, w_bc, w_nt, wo_0, wg_0, wi_0, wr_0_40, wr_0_35, wr_0_36, wl_24, ws_24, wl_25, ws_25, wl_29, ws_29, w_has, w_isRider, w_isPair, w_isHour, w_in, w_in0, w_in_0_1, w_in_0_10, w_in_0_3, w_in_0_30, w_in_0_60, w_in_0_7, w_in_0_9, w_in_0_999, w_in_1_60, w_in_20_27, w_in_2_40, w_in_48_57, w_whole, w_all, wt_0, wt_1, wt_2, nI_add, nI_1, nI_mul, nI_and, nI_or, nI_sd, nI_sub, l_sub1, l_addm1, l_all, l_1shl, l_or0, l_add0, l_0add, l_m1, l_m1r, l_neg, l_nn, l_eq0, l_le0, l_0lt, l_eq1, l_m1lt, l_m1le, l_m1eq0, l_10, l_00, l_1le, nI_le_l, nI_lt_l, nI_eq_l, bc_nI, nt_nI, bit_nI, b2_ite, b2_ite1, nI_max, nI_min, isR_nI, n_100, n_40, n_5, n_8, hi_ne, hi_ni, hi_eq, hi_wL, hi_wR, hl_wI, hl_wR, hl_ne, hl_ni, hl_eq, hr_wI, hr_wL, if_true, if_false, if_pos, if_neg, true_and, and_true, not_true_eq_false, not_false_eq_true, x.n, x.h, x.b, x.mo, x.wi, x.ca, x.ro, x.ti, x.il, x.ni, x.ga, x.ri, wc_25_24]
          split
          · rename_i e
            rw [hd] at e
            have hi0 : i = r0 := by
              apply Classical.byContradiction
              intro hne
              have := hf i (by omega)
              have hc : tryF P lim pr v M h i = true := @decide_eq_true _ (Classical.propDecidable _) ⟨hb, e⟩
              rw [hc] at this
              cases this
            subst hi0
            exact hag' _ _ ⟨fc3, z2, k2, Or.inr ⟨rfl, rfl, k1, k4⟩⟩
          · rename_i e
            have hne : i ≠ r0 := by
              intro h0
              subst h0
              exact e (hd.mpr (tryF_lst ht))
            exact hag' _ _ ⟨fc3.cp rfl, by rw [cp_ne (by decide)]; exact z2, fun k hk' => by rw [cp_ne (by decide)]; exact k2 k hk', Or.inl ⟨by omega, rfl, fun k hk' => by rw [cp_eq hk']; exact k3 k hk'⟩⟩
        · rename_i hb
          have hne : i ≠ r0 := by
            intro h0
            subst h0
            exact hb (@of_decide_eq_true _ (Classical.propDecidable _) ht).1
          exact hag' _ _ ⟨f, z, h2, Or.inl ⟨by omega, rfl, h1⟩⟩
      · omega
    · obtain ⟨f, z, h2, hc⟩ := hJ
      rcases hc with ⟨e, -⟩ | ⟨-, rfl, h1, h3⟩
      · omega
      · replace x := x0.fr f rfl
        have fin : wp (ag (nI (h + 1)) τ) (fun _ τ => Fr [24, 25, 27, 28, 29] [] [] σ τ ∧ hi τ 27 0 = 0 ∧ ∀ k, k < P.hrs → hi τ 29 k = nI ((layS P lim pr v may P.hrs).2 k)) :=
          hag _ _ ⟨rfl, f, z, by rw [hst]; exact h1, fun k hk' => by
            rw [hst]
            dsimp only
            unfold up1
            by_cases e : k = h
            · rw [if_pos e, e]; exact h3
            · rw [if_neg e]; exact h2 k (by omega)⟩
        unfold f_X1_laysTurn_b15
        simp (disch := first | omega | exact x.s | exact hi_eq | ((repeat (first | exact x.s | apply sw_I | apply sw_L | apply sw_cp | apply sw_18 | apply sw_21 | apply sw_22 | apply sw_m12 | apply sw_m18)); done) | rfl) only [wp_ite, wp_some, w_jn, wp_r0, wp_r1, wp_b2, wp_nn, w_bc, w_nt, wo_0, wg_0, wi_0, wr_0_40, wr_0_35, wr_0_36, wl_24, ws_24, wl_25, ws_25, wl_29, ws_29, w_has, w_isRider, w_isPair, w_isHour, w_in, w_in0, w_in_0_1, w_in_0_10, w_in_0_3, w_in_0_30, w_in_0_60, w_in_0_7, w_in_0_9, w_in_0_999, w_in_1_60, w_in_20_27, w_in_2_40, w_in_48_57, w_whole, w_all, wt_0, wt_1, wt_2, nI_add, nI_1, nI_mul, nI_and, nI_or, nI_sd, nI_sub, l_sub1, l_addm1, l_all, l_1shl, l_or0, l_add0, l_0add, l_m1, l_m1r, l_neg, l_nn, l_eq0, l_le0, l_0lt, l_eq1, l_m1lt, l_m1le, l_m1eq0, l_10, l_00, l_1le, nI_le_l, nI_lt_l, nI_eq_l, bc_nI, nt_nI, bit_nI, b2_ite, b2_ite1, nI_max, nI_min, isR_nI, n_100, n_40, n_5, n_8, hi_ne, hi_ni, hi_eq, hi_wL, hi_wR, hl_wI, hl_wR, hl_ne, hl_ni, hl_eq, hr_wI, hr_wL, if_true, if_false, if_pos, if_neg, true_and, and_true, not_true_eq_false, not_false_eq_true, x.n, x.h, x.b, x.mo, x.wi, x.ca, x.ro, x.ti, x.il, x.ni, x.ga, x.ri]
        split
        · exact fin
        · exact fin
  · obtain ⟨rfl, f, z, h1, h2⟩ := hJ
    replace x := x0.fr f rfl
    unfold f_X1_laysTurn_b2
    simp (disch := first | omega | exact x.s | exact hi_eq | ((repeat (first | exact x.s | apply sw_I | apply sw_L | apply sw_cp | apply sw_18 | apply sw_21 | apply sw_22 | apply sw_m12 | apply sw_m18)); done) | rfl) only [wp_ite, wp_some, w_jn, wp_r0, wp_r1, wp_b2, wp_nn, w_bc, w_nt, wo_0, wg_0, wi_0, w_has, w_isRider, w_isPair, w_isHour, w_in, w_in0, w_in_0_1, w_in_0_10, w_in_0_3, w_in_0_30, w_in_0_60, w_in_0_7, w_in_0_9, w_in_0_999, w_in_1_60, w_in_20_27, w_in_2_40, w_in_48_57, w_whole, w_all, wt_0, wt_1, wt_2, nI_add, nI_1, nI_mul, nI_and, nI_or, nI_sd, nI_sub, l_sub1, l_addm1, l_all, l_1shl, l_or0, l_add0, l_0add, l_m1, l_m1r, l_neg, l_nn, l_eq0, l_le0, l_0lt, l_eq1, l_m1lt, l_m1le, l_m1eq0, l_10, l_00, l_1le, nI_le_l, nI_lt_l, nI_eq_l, bc_nI, nt_nI, bit_nI, b2_ite, b2_ite1, nI_max, nI_min, isR_nI, n_6, hi_ne, hi_ni, hi_eq, hi_wL, hi_wR, hl_wI, hl_wR, hl_ne, hl_ni, hl_eq, hr_wI, hr_wL, if_true, if_false, if_pos, if_neg, true_and, and_true, not_true_eq_false, not_false_eq_true, x.n, x.h, x.b, x.mo, x.wi, x.ca, x.ro, x.ti, x.il, x.ni, x.ga, x.ri]
    exact ⟨f, z, h2⟩
end cturn
