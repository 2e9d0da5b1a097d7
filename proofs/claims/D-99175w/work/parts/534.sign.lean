/-! PURE 86: signs typed; riders asked, counts, the row asked -/
def sgB (v : Int32) (j : Nat) : Int32 := shr v (nI (24 - 8 * j)) &&& 255
def sgT (T : TX) (v : Int32) (n : Nat) : TX := (T.1 + n, fun p => if p < T.1 then T.2 p else sgB v (p - T.1))
def siR (V : VS) (v : Int32) : Int32 × VS := if V.T.1 ≤ 76 then (nI (V.T.1 + 4), sT V (sgT V.T v 4)) else (-1, V)
theorem and_255 (x : Int32) : ∃ k, k < 256 ∧ x &&& 255 = nI k ∧ x.toInt8 = Int8.ofNat k := by
  refine ⟨x.toBitVec.toNat % 256, Nat.mod_lt _ (by decide), ?_, ?_⟩
  · apply Int32.toBitVec_inj.mp
    rw [Int32.toBitVec_and, tb32]
    apply BitVec.eq_of_toNat_eq
    rw [BitVec.toNat_and, BitVec.toNat_ofNat]
    have h1 : (255 : Int32).toBitVec.toNat = 2 ^ 8 - 1 := by decide
    rw [h1, Nat.and_two_pow_sub_one_eq_mod]
    have := Nat.mod_lt x.toBitVec.toNat (show 0 < 256 by decide)
    omega
  · apply Int8.toBitVec_inj.mp
    rw [Int32.toBitVec_toInt8]
    apply BitVec.eq_of_toNat_eq
    rw [BitVec.signExtend_eq_setWidth_of_le _ (by decide), BitVec.toNat_setWidth]
    show _ = (BitVec.ofNat 8 (x.toBitVec.toNat % 256)).toNat
    rw [BitVec.toNat_ofNat]
    omega
theorem byt2 (x : Int32) : x &&& 255 = vp_nar .byte x &&& 255 ∧ (x &&& 255 < 128 → vp_nar .byte x = x &&& 255) := by
  obtain ⟨k, hk', e1, e2⟩ := and_255 x
  have e3 : vp_nar .byte x = (Int8.ofNat k).toInt32 := by
    rw [vp_nar_byte, e2]
  rw [e1, e3]
  have : ∀ k, k < 256 → nI k = (Int8.ofNat k).toInt32 &&& 255 ∧ (nI k < 128 → (Int8.ofNat k).toInt32 = nI k) := by decide +kernel
  exact this k hk'
theorem byt (x : Int32) : x &&& 255 = vp_nar .byte (i2b x) &&& 255 ∧ (x &&& 255 < 128 → vp_nar .byte (i2b x) = x &&& 255) := by
  obtain ⟨k, hk', e1, e2⟩ := and_255 x
  have e3 : vp_nar .byte (i2b x) = (Int8.ofNat k).toInt32 := by
    rw [vp_nar_byte]
    unfold i2b
    rw [e2]
    simp
  rw [e1, e3]
  have : ∀ k, k < 256 → nI k = (Int8.ofNat k).toInt32 &&& 255 ∧ (nI k < 128 → (Int8.ofNat k).toInt32 = nI k) := by decide +kernel
  exact this k hk'
theorem si_ok {V : VS} (h : VOK V) {v : Int32} : VOK (siR V v).2 := by
  unfold siR
  split
  · rename_i c
    obtain ⟨⟨t1, t2⟩, h2⟩ := h
    refine ⟨⟨by show V.T.1 + 4 ≤ 80; omega, fun p hp => ?_⟩, h2⟩
    show ∃ k, k < 256 ∧ (if p < V.T.1 then V.T.2 p else sgB v (p - V.T.1)) = nI k
    by_cases e : p < V.T.1
    · rw [if_pos e]; exact t2 p e
    · rw [if_neg e]
      obtain ⟨k, a1, a2, -⟩ := and_255 (shr v (nI (24 - 8 * (p - V.T.1))))
      exact ⟨k, a1, a2⟩
  · exact h
section sign
variable {V : VS} {σ τ : Hp}
theorem c_sign (h : CV σ V) (hk : VOK V) {v : Int32} : wp (f_X1_sign (some 0) v σ) (GoC σ 0 (siR V v).1 (siR V v).2) := by
  have h0 := h
  obtain ⟨x, s, t, u, f, r, ch⟩ := h
  have t80 := hk.1.1
  unfold f_X1_sign siR
  rw [wp_gI, t.1]
  refine ⟨so_0 x.s, ?_⟩
  rw [show (76 : Int32) = nI 76 from rfl, ite_le (by omega) (by decide)]
  by_cases c : V.T.1 ≤ 76
  · rw [if_pos c, if_pos c]
    generalize hQ : GoC σ 0 (nI (V.T.1 + 4), sT V (sgT V.T v 4)).1 (nI (V.T.1 + 4), sT V (sgT V.T v 4)).2 = Q
    refine wp_up 4 (fun i y τ => y = nI i ∧ Fr [10] [] [] σ τ ∧ ∀ p, p < V.T.1 + i → hi τ 10 p = (sgT V.T v 4).2 p) (fun ag i y τ hi' hJ hag => ?_) (fun ag y τ hJ => ?_) (by decide) ⟨rfl, Fr.refl, fun p hp => by
      rw [Nat.add_zero] at hp
      show _ = if p < V.T.1 then V.T.2 p else _
      rw [if_pos hp]; exact t.2 p hp⟩
    · obtain ⟨rfl, g, h1⟩ := hJ
      have x1 := x.fr g rfl
      have e10 : hi τ 0 10 = nI V.T.1 := (g.i rfl).trans t.1
      unfold f_X1_sign_b13
      rw [n_4, if_neg (nI_ge hi' (by decide)), wp_gR, sp_0_9 x1.s]
      refine ⟨so_0 x1.s, ?_⟩
      rw [wp_gI, e10]
      refine ⟨so_0 x1.s, ?_⟩
      rw [nI_add, wp_sI, ix_nI (by omega), sl_10 x1.s, inb_nI (by omega)]
      refine ⟨⟨so_10 x1.s, by omega⟩, ?_⟩
      rw [nI_1, n_8, nI_mul, n_24, nI_sub (by omega)]
      refine hag _ _ ⟨rfl, g.putI rfl, fun p hp => ?_⟩
      by_cases e : p = V.T.1 + i
      · rw [e, hi_eq]
        show _ = if V.T.1 + i < V.T.1 then _ else sgB v (V.T.1 + i - V.T.1)
        rw [if_neg (by omega), Nat.add_sub_cancel_left]
        rfl
      · rw [hi_ni e]; exact h1 p (by omega)
    · obtain ⟨rfl, g, h1⟩ := hJ
      have x1 := x.fr g rfl
      have e10 : hi τ 0 10 = nI V.T.1 := (g.i rfl).trans t.1
      unfold f_X1_sign_b13
      rw [n_4, if_pos (nI_le (Nat.le_refl _) (by decide)), wp_gI, e10]
      refine ⟨so_0 x1.s, ?_⟩
      rw [wp_pI]
      refine ⟨so_0 x1.s, rfl, ?_⟩
      rw [nI_add, wp_gI]
      refine ⟨so_0 x1.s, ?_⟩
      rw [wp_some, hi_eq, ← hQ]
      have g1 : Fr [10] [10] [] σ (wI τ 0 10 (nI (V.T.1 + 4))) := (g.mono rfl).putI rfl
      have fs := g1.frs x.s rfl
      exact ⟨rfl, ⟨x.frs fs rfl, s.frs fs rfl, ⟨hi_eq, fun p hp => by rw [hi_ne (by decide)]; exact h1 p hp⟩, u.frs fs (g1.frd rfl) rfl, f.frs fs rfl, r.frs fs rfl, (fs.i (by decide) rfl).trans ch⟩, _, _, fs, rfl⟩
  · rw [if_neg c, if_neg c, wp_some]
    exact GoC.same h0
theorem m_sign (h : MW σ V) (hk : VOK V) {v : Int32} : wp (f_X3_sign (some 37) v σ) (GoM σ (siR V v).1 (siR V v).2) := by
  have h0 := h
  have h1 := h.thr (v := 0)
  obtain ⟨x, s, t, u, f, r, ch⟩ := h1
  have t80 := hk.1.1
  unfold f_X3_sign siR
  rw [wp_pI]
  refine ⟨so_37 h0.1.s, rfl, ?_⟩
  rw [wp_gI, t.1]
  refine ⟨so_37 x.s, ?_⟩
  rw [n_4, nI_add, n_80, ite_le (by omega) (by decide)]
  generalize hσ : wI σ 37 11 0 = ς at *
  by_cases c : V.T.1 ≤ 76
  · rw [if_pos (by omega), if_pos c]
    generalize hQ : GoM σ (nI (V.T.1 + 4), sT V (sgT V.T v 4)).1 (nI (V.T.1 + 4), sT V (sgT V.T v 4)).2 = Q
    refine wp_up 4 (fun i y τ => y = (if i = 4 then -1 else nI (3 - i)) ∧ Fr [42] [] [8] ς τ ∧ hi τ 37 8 = nI (V.T.1 + i) ∧ ∀ p, p < V.T.1 + i → (sgT V.T v 4).2 p = hi τ 42 p &&& 255 ∧ ((sgT V.T v 4).2 p < 128 → hi τ 42 p = (sgT V.T v 4).2 p)) (fun ag i y τ hi' hJ hag => ?_) (fun ag y τ hJ => ?_) (by decide) ⟨rfl, Fr.refl, t.1, fun p hp => by
      rw [Nat.add_zero] at hp
      have e : (sgT V.T v 4).2 p = V.T.2 p := if_pos hp
      rw [e]; exact t.2.1 p hp⟩
    · obtain ⟨rfl, g, e8, h1⟩ := hJ
      have x1 := x.fr g rfl
      unfold f_X3_sign_b20
      rw [if_neg (show ¬ i = 4 by omega), if_neg (nI_pos (by omega)), wp_gR, sp_37_7 x1.s]
      refine ⟨so_37 x1.s, ?_⟩
      rw [wp_gI, e8]
      refine ⟨so_37 x1.s, ?_⟩
      rw [wp_pI]
      refine ⟨so_37 x1.s, rfl, ?_⟩
      rw [nI_1, wp_sB, ix_nI (by omega), hk_wI, sl_42 x1.s, inb_nI (by omega)]
      refine ⟨⟨so_42 x1.s, by omega⟩, ?_⟩
      have ey : nI (3 - i) + -1 = if i + 1 = 4 then -1 else nI (3 - (i + 1)) := by
        by_cases e : i = 3
        · subst e; decide
        · rw [if_neg (by omega), l_addm1 (by omega), show 3 - i - 1 = 3 - (i + 1) by omega]
      rw [ey, n_8, nI_mul]
      refine hag _ _ ⟨rfl, (g.putI rfl).putI rfl, by rw [hi_ne (by decide), hi_eq]; rfl, fun p hp => ?_⟩
      by_cases e : p = V.T.1 + i
      · have e2 : (sgT V.T v 4).2 p = shr v (nI (8 * (3 - i))) &&& 255 := by
          rw [e]
          show (if V.T.1 + i < V.T.1 then _ else sgB v (V.T.1 + i - V.T.1)) = _
          rw [if_neg (by omega), Nat.add_sub_cancel_left, show 8 * (3 - i) = 24 - 8 * i by omega]
          rfl
        rw [e2, e, hi_eq]
        exact byt _
      · rw [hi_ni e, hi_ne (show 42 ≠ 37 by decide)]; exact h1 p (by omega)
    · obtain ⟨rfl, g, e8, h1⟩ := hJ
      have x1 := x.fr g rfl
      unfold f_X3_sign_b20
      rw [if_pos rfl, if_pos (by decide), wp_gI, e8]
      refine ⟨so_37 x1.s, ?_⟩
      rw [wp_some, ← hQ]
      have fs := g.frs x.s rfl
      have g0 : Fr [] [] [11] σ ς := by rw [← hσ]; exact Fr.refl.putI rfl
      exact ⟨rfl, ⟨x.frs fs rfl, s.frs fs rfl, ⟨e8, h1, (g.r rfl).trans t.2.2.1, (g.r rfl).trans t.2.2.2⟩, u.frs fs rfl, f.frs fs rfl, r.frs fs rfl, (fs.i (by decide) rfl).trans ch⟩, [42], [8, 11], (g0.mono rfl).trans (g.mono rfl), rfl⟩
  · rw [if_neg (by omega), if_neg c, wp_some, ← hσ]
    exact GoM.thr h0
/-- counts -/
def coR (V : VS) (v : Int32) : Int32 := if v = 0 then nI V.P.hrs else if v = 1 then nI V.P.beats else if v = 2 then nI V.P.n else if v = 3 then nI V.a.ill else if v = 4 then V.a.night else if v = 5 then V.a.gaps else if v = 6 then V.a.rid else if v = 7 then sumI V.a.tired V.P.n else if v = 8 then nI V.F.m else if v = 9 then nI V.U.1 else if v = 10 then nI V.w.length else if v = 11 then nI V.T.1 else if 20 ≤ v ∧ v ≤ 27 then V.a.rota (ix (v - 20)) else -100
theorem c_count (h : CV σ V) {v : Int32} : wp (f_X1_count (some 0) v σ) (GoC σ 0 (coR V v) V) := by
  have h0 := h
  obtain ⟨x, s, t, u, f, r, ch⟩ := h
  have o0 := so_0 x.s
  have o1 := so_1 x.s
  have p0 := sp_0_0 x.s
  have fin : ∀ r, r = coR V v → wp (some (r, σ)) (GoC σ 0 (coR V v) V) := fun r hr' => by rw [wp_some, hr']; exact GoC.same h0
  unfold f_X1_count
  by_cases c0 : v = 0
  · rw [if_pos c0, wp_gI, x.h]; exact ⟨o0, fin _ (by unfold coR; rw [if_pos c0])⟩
  rw [if_neg c0]
  by_cases c1 : v = 1
  · rw [if_pos c1, wp_gI, x.b]; exact ⟨o0, fin _ (by unfold coR; rw [if_neg c0, if_pos c1])⟩
  rw [if_neg c1]
  by_cases c2 : v = 2
  · rw [if_pos c2, wp_gI, x.n]; exact ⟨o0, fin _ (by unfold coR; rw [if_neg c0, if_neg c1, if_pos c2])⟩
  rw [if_neg c2]
  by_cases c3 : v = 3
  · rw [if_pos c3, wp_gR, p0]
    refine ⟨o0, ?_⟩
    rw [wp_gI, x.il]; exact ⟨o1, fin _ (by unfold coR; rw [if_neg c0, if_neg c1, if_neg c2, if_pos c3])⟩
  rw [if_neg c3]
  by_cases c4 : v = 4
  · rw [if_pos c4, wp_gR, p0]
    refine ⟨o0, ?_⟩
    rw [wp_gI, x.ni]; exact ⟨o1, fin _ (by unfold coR; rw [if_neg c0, if_neg c1, if_neg c2, if_neg c3, if_pos c4])⟩
  rw [if_neg c4]
  by_cases c5 : v = 5
  · rw [if_pos c5, wp_gR, p0]
    refine ⟨o0, ?_⟩
    rw [wp_gI, x.ga]; exact ⟨o1, fin _ (by unfold coR; rw [if_neg c0, if_neg c1, if_neg c2, if_neg c3, if_neg c4, if_pos c5])⟩
  rw [if_neg c5]
  by_cases c6 : v = 6
  · rw [if_pos c6, wp_gR, p0]
    refine ⟨o0, ?_⟩
    rw [wp_gI, x.ri]; exact ⟨o1, fin _ (by unfold coR; rw [if_neg c0, if_neg c1, if_neg c2, if_neg c3, if_neg c4, if_neg c5, if_pos c6])⟩
  rw [if_neg c6]
  by_cases c7 : v = 7
  · rw [if_pos c7, wp_gR, p0]
    refine ⟨o0, ?_⟩
    rw [wp_gR, sp_1_1 x.s]
    refine ⟨o1, ?_⟩
    rw [wp_ob]
    refine ⟨o0, ?_⟩
    rw [c_tsum x.s x.n x.n8 x.2.2.2.1, e_bnd]
    exact fin _ (by unfold coR; rw [if_neg c0, if_neg c1, if_neg c2, if_neg c3, if_neg c4, if_neg c5, if_neg c6, if_pos c7])
  rw [if_neg c7]
  by_cases c8 : v = 8
  · rw [if_pos c8, wp_gI, f.1]; exact ⟨o0, fin _ (by unfold coR; rw [if_neg c0, if_neg c1, if_neg c2, if_neg c3, if_neg c4, if_neg c5, if_neg c6, if_neg c7, if_pos c8])⟩
  rw [if_neg c8]
  by_cases c9 : v = 9
  · rw [if_pos c9, wp_gI, u.1.1]; exact ⟨o0, fin _ (by unfold coR; rw [if_neg c0, if_neg c1, if_neg c2, if_neg c3, if_neg c4, if_neg c5, if_neg c6, if_neg c7, if_neg c8, if_pos c9])⟩
  rw [if_neg c9]
  by_cases c10 : v = 10
  · rw [if_pos c10, wp_gI, r.1]; exact ⟨o0, fin _ (by unfold coR; rw [if_neg c0, if_neg c1, if_neg c2, if_neg c3, if_neg c4, if_neg c5, if_neg c6, if_neg c7, if_neg c8, if_neg c9, if_pos c10])⟩
  rw [if_neg c10]
  by_cases c11 : v = 11
  · rw [if_pos c11, wp_gI, t.1]; exact ⟨o0, fin _ (by unfold coR; rw [if_neg c0, if_neg c1, if_neg c2, if_neg c3, if_neg c4, if_neg c5, if_neg c6, if_neg c7, if_neg c8, if_neg c9, if_neg c10, if_pos c11])⟩
  rw [if_neg c11, w_in_20_27, b2_ite]
  have hco : coR V v = if 20 ≤ v ∧ v ≤ 27 then V.a.rota (ix (v - 20)) else -100 := by unfold coR; rw [if_neg c0, if_neg c1, if_neg c2, if_neg c3, if_neg c4, if_neg c5, if_neg c6, if_neg c7, if_neg c8, if_neg c9, if_neg c10, if_neg c11]
  by_cases c12 : 20 ≤ v ∧ v ≤ 27
  · rw [if_pos c12] at hco ⊢
    obtain ⟨k, hk', rfl⟩ := lo_pos (Int32.le_trans (by decide) c12.1)
    have k1 : 20 ≤ k := by have := c12.1; rw [n_20, nI_le_l (by decide) hk'] at this; exact this
    have k2 := nI_b1 (m := 27) hk' (by decide) c12.2
    rw [n_20, nI_sub k1, ix_nI (by omega)] at hco
    rw [wp_gR, p0]
    refine ⟨o0, ?_⟩
    rw [wp_gR, sp_1_0 x.s]
    refine ⟨o1, ?_⟩
    rw [n_20, nI_sub k1, wp_lI, ix_nI (by omega), sl_2 x.s, inb_nI (by omega)]
    refine ⟨⟨so_2 x.s, by omega⟩, ?_⟩
    rw [x.ro _ (by omega)]
    exact fin _ hco.symm
  · rw [if_neg c12] at hco ⊢
    exact fin _ hco.symm
theorem m_ill (x : MX σ V.P V.a) : f_X3_illBits (some 37) (some 38) σ = some (nI V.a.ill, σ) := by
  have n8 := x.n8
  rw [m_illBits x.s x.n n8 (so_38 x.s) (sl_38 x.s)]
  have e : orI (fun r => shl (hi σ 38 (16 + r)) (nI r)) V.P.n = nI (setN V.a.ill.testBit V.P.n) := orI_set V.P.n (fun i hi' => by
    rw [x.il i (by omega)]
    cases V.a.ill.testBit i
    · rw [if_neg (by decide), if_neg (by decide), shl_0 (by omega)]
    · rw [if_pos rfl, if_pos rfl, shl_1 (by omega)])
  rw [e]
  congr 3
  apply Nat.eq_of_testBit_eq
  intro i
  rw [setN_bit]
  by_cases hi' : i < V.P.n
  · rw [decide_eq_true hi', Bool.true_and]
  · rw [decide_eq_false hi', Bool.false_and, Nat.testBit_lt_two_pow (Nat.lt_of_lt_of_le x.ok.1 (Nat.pow_le_pow_right (by decide) (by omega)))]
theorem m_count (h : MW σ V) {v : Int32} : wp (f_X3_count (some 37) v σ) (GoM σ (coR V v) V) := by
  have h0 := h
  have h1 := h.thr (v := 0)
  obtain ⟨x, s, t, u, f, r, ch⟩ := h1
  have o0 := so_37 x.s
  have p0 := sp_37_0 x.s
  have fin : ∀ r, r = coR V v → wp (some (r, wI σ 37 11 0)) (GoM σ (coR V v) V) := fun r hr' => by rw [wp_some, hr']; exact GoM.thr h0
  unfold f_X3_count
  rw [wp_pI]
  refine ⟨so_37 h0.1.s, rfl, ?_⟩
  rw [w_in3, b2_ite]
  generalize (wI σ 37 11 0) = ς at *
  by_cases c12 : 20 ≤ v ∧ v ≤ 27
  · have hne : ∀ k : Int32, k < 20 → ¬ v = k := fun k hk' z => by rw [z] at c12; exact absurd c12.1 (Int32.not_le.mpr hk')
    have hco : coR V v = V.a.rota (ix (v - 20)) := by unfold coR; rw [if_neg (hne 0 (by decide)), if_neg (hne 1 (by decide)), if_neg (hne 2 (by decide)), if_neg (hne 3 (by decide)), if_neg (hne 4 (by decide)), if_neg (hne 5 (by decide)), if_neg (hne 6 (by decide)), if_neg (hne 7 (by decide)), if_neg (hne 8 (by decide)), if_neg (hne 9 (by decide)), if_neg (hne 10 (by decide)), if_neg (hne 11 (by decide)), if_pos c12]
    rw [if_pos c12]
    clear hne
    obtain ⟨k, hk', rfl⟩ := lo_pos (Int32.le_trans (by decide) c12.1)
    have k1 : 20 ≤ k := by have := c12.1; rw [n_20, nI_le_l (by decide) hk'] at this; exact this
    have k2 := nI_b1 (m := 27) hk' (by decide) c12.2
    rw [n_20, nI_sub k1, ix_nI (by omega)] at hco
    rw [wp_gR, p0]
    refine ⟨o0, ?_⟩
    rw [n_20, nI_sub k1, wp_lI, ix_nI (by omega), sl_38 x.s, inb_nI (by omega)]
    refine ⟨⟨so_38 x.s, by omega⟩, ?_⟩
    rw [x.ro _ (by omega)]
    exact fin _ hco.symm
  rw [if_neg c12]
  by_cases c0 : v = 0
  · rw [if_pos c0, wp_gI, x.h]; exact ⟨o0, fin _ (by unfold coR; rw [if_pos c0])⟩
  rw [if_neg c0]
  by_cases c1 : v = 1
  · rw [if_pos c1, wp_gI, x.b]; exact ⟨o0, fin _ (by unfold coR; rw [if_neg c0, if_pos c1])⟩
  rw [if_neg c1]
  by_cases c2 : v = 2
  · rw [if_pos c2, wp_gI, x.n]; exact ⟨o0, fin _ (by unfold coR; rw [if_neg c0, if_neg c1, if_pos c2])⟩
  rw [if_neg c2]
  by_cases c3 : v = 3
  · rw [if_pos c3, wp_gR, p0]
    refine ⟨o0, ?_⟩
    rw [wp_ob]
    refine ⟨o0, ?_⟩
    rw [m_ill x, e_bnd]; exact fin _ (by unfold coR; rw [if_neg c0, if_neg c1, if_neg c2, if_pos c3])
  rw [if_neg c3]
  have i24 : ∀ j, j < 27 → inb (nI j) (hk ς 38).2 := fun j hj => by rw [sl_38 x.s, inb_nI (by omega)]; exact hj
  by_cases c4 : v = 4
  · rw [if_pos c4, wp_gR, p0]
    refine ⟨o0, ?_⟩
    rw [wp_lI]
    refine ⟨⟨so_38 x.s, i24 24 (by decide)⟩, ?_⟩
    rw [show ix (24 : Int32) = 24 from rfl, x.ni]; exact fin _ (by unfold coR; rw [if_neg c0, if_neg c1, if_neg c2, if_neg c3, if_pos c4])
  rw [if_neg c4]
  by_cases c5 : v = 5
  · rw [if_pos c5, wp_gR, p0]
    refine ⟨o0, ?_⟩
    rw [wp_lI]
    refine ⟨⟨so_38 x.s, i24 25 (by decide)⟩, ?_⟩
    rw [show ix (25 : Int32) = 25 from rfl, x.ga]; exact fin _ (by unfold coR; rw [if_neg c0, if_neg c1, if_neg c2, if_neg c3, if_neg c4, if_pos c5])
  rw [if_neg c5]
  by_cases c6 : v = 6
  · rw [if_pos c6, wp_gR, p0]
    refine ⟨o0, ?_⟩
    rw [wp_lI]
    refine ⟨⟨so_38 x.s, i24 26 (by decide)⟩, ?_⟩
    rw [show ix (26 : Int32) = 26 from rfl, x.ri]; exact fin _ (by unfold coR; rw [if_neg c0, if_neg c1, if_neg c2, if_neg c3, if_neg c4, if_neg c5, if_pos c6])
  rw [if_neg c6]
  by_cases c7 : v = 7
  · rw [if_pos c7, wp_gR, p0]
    refine ⟨o0, ?_⟩
    rw [wp_ob]
    refine ⟨o0, ?_⟩
    rw [m_tsum x.s x.n x.n8 (so_38 x.s) (sl_38 x.s) x.2.2.2.1, e_bnd]
    exact fin _ (by unfold coR; rw [if_neg c0, if_neg c1, if_neg c2, if_neg c3, if_neg c4, if_neg c5, if_neg c6, if_pos c7])
  rw [if_neg c7]
  by_cases c8 : v = 8
  · rw [if_pos c8, wp_gI, f.1]; exact ⟨o0, fin _ (by unfold coR; rw [if_neg c0, if_neg c1, if_neg c2, if_neg c3, if_neg c4, if_neg c5, if_neg c6, if_neg c7, if_pos c8])⟩
  rw [if_neg c8]
  by_cases c9 : v = 9
  · rw [if_pos c9, wp_gI, u.1]; exact ⟨o0, fin _ (by unfold coR; rw [if_neg c0, if_neg c1, if_neg c2, if_neg c3, if_neg c4, if_neg c5, if_neg c6, if_neg c7, if_neg c8, if_pos c9])⟩
  rw [if_neg c9]
  by_cases c10 : v = 10
  · rw [if_pos c10, wp_gI, r.1]; exact ⟨o0, fin _ (by unfold coR; rw [if_neg c0, if_neg c1, if_neg c2, if_neg c3, if_neg c4, if_neg c5, if_neg c6, if_neg c7, if_neg c8, if_neg c9, if_pos c10])⟩
  rw [if_neg c10]
  by_cases c11 : v = 11
  · rw [if_pos c11, wp_gI, t.1]; exact ⟨o0, fin _ (by unfold coR; rw [if_neg c0, if_neg c1, if_neg c2, if_neg c3, if_neg c4, if_neg c5, if_neg c6, if_neg c7, if_neg c8, if_neg c9, if_neg c10, if_pos c11])⟩
  rw [if_neg c11]
  exact fin _ (by unfold coR; rw [if_neg c0, if_neg c1, if_neg c2, if_neg c3, if_neg c4, if_neg c5, if_neg c6, if_neg c7, if_neg c8, if_neg c9, if_neg c10, if_neg c11, if_neg c12])
end sign
