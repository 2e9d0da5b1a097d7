/-! PURE 115: a year (the reference) -/
section myear
variable {V : VS} {σ τ υ : Hp} {c : Nat → Int32} {e n : Nat}
theorem UMof {D F G : List Nat} {m : Nat} {U U' : US} {K : KS} (h : UM σ U K) (f : FrS D F G m σ τ) (u : hi τ 37 24 = nI U'.1 ∧ ∀ k, k < U'.1 → MH τ 48 (27 * k) (U'.2 k)) (q : (!D.contains 65 && !D.contains 66 && !D.contains 67) = true) : UM τ U' K := by
  simp only [Bool.and_eq_true, Bool.not_eq_true'] at q
  obtain ⟨⟨q3, q4⟩, q5⟩ := q
  refine ⟨u.1, u.2, fun i hi' => ?_⟩
  have := h.2.2 i hi'
  unfold KM at this ⊢
  cases hK : K i with
  | none => rw [hK] at this; dsimp only at this ⊢; rw [f.i (by decide) (dn_out q4 (by decide) (by decide))]; exact this
  | some b =>
    rw [hK] at this
    dsimp only at this ⊢
    rw [f.i (by decide) (dn_out q4 (by decide) (by decide)), f.i (by decide) (dn_out q5 (by decide) (by decide))]
    exact ⟨this.1, this.2.1.frs f (by decide) (by decide) (by decide) q3, this.2.2⟩
theorem m_acts (e60 : e ≤ 60) (n80 : n ≤ 80) (en : e ≤ n) {k0 : Int32 → Hp → Option (Int32 × Hp)} {Q : Int32 → Hp → Prop} : ∀ m M k p f σ, e - p < m → m < M → k ≤ p → MS σ c e p → hi σ 37 13 = nI n → (∀ j, j < k → AcM σ j (f j)) → (∀ τ n', Fr [53] [] [15, 16] σ τ → ((actsP c e m p k f).1 = true ∧ (actsP c e m p k f).2.1 = n → n' = nI (actsP c e m p k f).2.2.1 ∧ MS τ c e n ∧ ∀ j, j < (actsP c e m p k f).2.2.1 → AcM τ j ((actsP c e m p k f).2.2.2 j)) → (¬ ((actsP c e m p k f).1 = true ∧ (actsP c e m p k f).2.1 = n) → hi τ 37 16 = nI (actsP c e m p k f).2.1 ∧ hi τ 37 15 = nI (actsP c e m p k f).2.1) → wp (k0 n' τ) Q) → wp (lp M (f_X3_year_b13 (some 37) k0) (nI k) σ) Q := by
  intro m
  induction m with
  | zero => intro M k p f σ h; omega
  | succ m ih =>
    intro M k p f σ hm hM hkp ms e13 hf hk0
    obtain ⟨M, rfl⟩ : ∃ n, M = n + 2 := ⟨M - 2, by omega⟩
    have o0 := so_37 ms.1
    have e80 := ms.e80
    have hpe := ms.2.2.2.2
    show wp (f_X3_year_b13 (some 37) k0 (lp (M + 1) (f_X3_year_b13 (some 37) k0)) (nI k) σ) Q
    have stop : ∀ (g : Int32) (τ : Hp), Sh τ → ¬ hi τ 37 16 = -1 → wp (k0 g τ) Q → wp (lp (M + 1) (f_X3_year_b13 (some 37) k0) g τ) Q := fun g τ hs hw hq => by
      show wp (f_X3_year_b13 (some 37) k0 _ g τ) Q
      unfold f_X3_year_b13
      rw [wp_ob]
      refine ⟨so_37 hs, ?_⟩
      rw [m_fine hs, e_bnd, b2_ite, if_neg hw]
      exact hq
    generalize hag : lp (M + 1) (f_X3_year_b13 (some 37) k0) = ag at *
    unfold actsP at hk0
    unfold f_X3_year_b13
    rw [wp_ob]
    refine ⟨o0, ?_⟩
    rw [m_fine ms.1, e_bnd, b2_ite, if_pos ms.2.2.2.1, wp_gI, ms.2.2.1]
    refine ⟨o0, ?_⟩
    rw [wp_gI, e13, ite_le (by omega) (by omega)]
    refine ⟨o0, ?_⟩
    by_cases hn : n ≤ p
    · have h8 : e ≤ p := by omega
      have ep : p = n := by omega
      rw [if_pos h8] at hk0
      rw [if_pos hn]
      exact hk0 σ _ Fr.refl (fun _ => ⟨rfl, by rw [← ep]; exact ms, hf⟩) (fun z => absurd ⟨rfl, ep⟩ z)
    · rw [if_neg hn, wp_ob]
      refine ⟨o0, ?_⟩
      rw [n_3, nI_mul, wp_bnd]
      refine wp_mono (m_rdAct ms (show k ≤ 60 by omega)) (fun y τ h => ?_)
      obtain ⟨f1, k1, h1⟩ := h
      have hτ := f1.sh ms.1 rfl
      rw [nI_1]
      by_cases h8 : e ≤ p
      · rw [if_pos h8] at hk0
        have ep : p = e := by omega
        have eP : actP c p = (none, p) := by
          unfold actP
          rw [if_neg (fun z => act_ne z (ms.ends p h8))]
        rw [eP] at h1
        dsimp only at h1 hk0
        refine stop _ τ hτ (by rw [h1.1]; exact m1_ne (by omega)) (hk0 τ _ f1 (fun z => absurd z.2 (by omega)) (fun _ => h1))
      · rw [if_neg h8] at hk0
        have g := actP_good ms.ends hpe
        rcases hl : actP c p with ⟨z, q⟩
        rw [hl] at h1 hk0 g
        cases z with
        | none =>
          dsimp only at h1 hk0 g
          exact stop _ τ hτ (by rw [h1.1]; exact m1_ne (by omega)) (hk0 τ _ f1 (fun z => by cases z.1) (fun _ => h1))
        | some l =>
          dsimp only at h1 hk0 g
          obtain ⟨ms1, g1⟩ := h1
          have gq := (g.2.2 l rfl).2
          have hf' : ∀ j, j < k + 1 → AcM τ j (up1 f k l j) := fun j hj => by
            unfold up1
            by_cases ej : j = k
            · rw [if_pos ej, ej]; exact g1
            · rw [if_neg ej]
              obtain ⟨b1, b2', b3⟩ := hf j (by omega)
              exact ⟨(k1 _ (by omega)).trans b1, (k1 _ (by omega)).trans b2', fun z => (k1 _ (by omega)).trans (b3 z)⟩
          rw [← hag]
          exact ih (M + 1) (k + 1) q (up1 f k l) τ (by omega) (by omega) (by omega) ms1 ((f1.i rfl).trans e13) hf' (fun ω g f2 h2 h3 => hk0 ω g (f1.trans f2) h2 h3)
theorem m_year (h : MW σ V) (hk : VOK V) : wp (f_X3_year (some 37) σ) (GoM σ (yrR V).1 (yrR V).2) := by
  have h0 := h
  have h1 := h.thr (v := 0)
  obtain ⟨x, s, t, u, f, r, ch⟩ := h1
  have n8 := x.n8
  have t80 := hk.1.1
  obtain ⟨τ1, b1, f1, b2', b3, ms⟩ := m_begun x.s t hk.1 (m := 60) (by decide)
  have tt : ∀ {ω : Hp}, hi ω 37 8 = 0 → hr ω 37 18 = some 45 → hr ω 37 19 = some 46 → TM ω (0, V.T.2) := fun h a1 a2 => ⟨h, fun p hp => absurd hp (Nat.not_lt_zero _), a1, a2⟩
  have mk : ∀ {ω : Hp}, Fr [53] [] [15, 16] τ1 ω → MW ω (sT V (0, V.T.2)) ∧ Fr [53] [] [8, 12, 13, 14, 15, 16] (wI σ 37 11 0) ω := fun {ω} g => by
    have ff : Fr [53] [] [8, 12, 13, 14, 15, 16] (wI σ 37 11 0) ω := (f1.mono rfl).trans (g.mono rfl)
    have fs := ff.frs x.s rfl
    exact ⟨⟨x.frs fs rfl, s.frs fs rfl, tt ((g.i rfl).trans b2') ((ff.r rfl).trans t.2.2.1) ((ff.r rfl).trans t.2.2.2), u.frs fs rfl, f.frs fs rfl, r.frs fs rfl, (fs.i (by decide) rfl).trans ch⟩, ff⟩
  unfold f_X3_year
  rw [wp_pI]
  refine ⟨so_37 h0.1.s, rfl, ?_⟩
  rw [wp_ob]
  refine ⟨so_37 x.s, ?_⟩
  rw [show (60 : Int32) = nI 60 from rfl, b1, e_bnd]
  generalize hQ : GoM σ (yrR V).1 (yrR V).2 = Q
  have ends : Ends (fun p => if p < min V.T.1 60 then V.T.2 p else -1) (min V.T.1 60) := ends_cut V.T 60
  have good := actsP_good ends 61 0 0 (fun _ => (0, 0, 0)) (Nat.zero_le _) (by omega) (fun j hj => absurd hj (Nat.not_lt_zero _))
  refine m_acts (n := V.T.1) (by omega) t80 (by omega) 61 2000 0 0 (fun _ => (0, 0, 0)) _ (by omega) (by decide) (Nat.zero_le _) ms b3 (fun j hj => absurd hj (Nat.not_lt_zero _)) (fun τ n' f3 k1 k2 => ?_)
  rw [show actsP (fun p => if p < min V.T.1 60 then V.T.2 p else -1) (min V.T.1 60) 61 0 0 (fun _ => (0, 0, 0)) = yrL V from rfl] at k1 k2 good
  obtain ⟨h3, ff⟩ := mk f3
  obtain ⟨q1, q2, q3, q4⟩ := good
  have e13 : hi τ 37 13 = nI V.T.1 := (f3.i rfl).trans b3
  rw [wp_ob]
  refine ⟨so_37 h3.1.s, ?_⟩
  by_cases hg : (yrL V).1 = true ∧ (yrL V).2.1 = V.T.1
  · obtain ⟨rfl, ms3, hL⟩ := k1 hg
    have k60 : (yrL V).2.2.1 ≤ 60 := by omega
    have x3 := h3.1
    have wr := (m_wasRight x3.s ms3.2.2.1 e13 (Nat.le_refl _) t80).1 ms3.2.2.2.1
    rw [if_pos rfl, b2, if_pos rfl] at wr
    rw [wr, e_bnd, if_neg (by decide), wp_gR, sp_37_0 x3.s]
    refine ⟨so_37 x3.s, ?_⟩
    rw [wp_gR, sp_37_25 x3.s]
    refine ⟨so_37 x3.s, ?_⟩
    rw [wp_bnd]
    refine wp_mono (m_lay (k := 0) (so_38 x3.s) (sl_38 x3.s) (so_49 x3.s) (by rw [sl_49 x3.s]; decide) (by decide) (by decide)) (fun _ τ4 h4 => ?_)
    have g4 : Fr [49] [] [] τ τ4 := h4.1.fr rfl
    have hc49 : MH τ4 49 0 V.a := MH.copy h4.2.2 x3.2.2.2.1
    have h4 : MW τ4 (sT V (0, V.T.2)) := h3.frs (g4.frs x3.s rfl) rfl
    refine m_run (f := (yrL V).2.2.2) k60 q3 61 2000 0 (sT V (0, V.T.2)) τ4 (by omega) (by decide) (Nat.zero_le _) h4 (fun j hj => (hL j hj).fr g4 rfl) (fun ω g5 h5 => ?_)
    rw [show runA (sT V (0, V.T.2)).P (yrL V).2.2.2 (yrL V).2.2.1 61 0 (sT V (0, V.T.2)).a = yrX V from rfl] at h5 ⊢
    have rk := runA_ok (P := V.P) (f := (yrL V).2.2.2) (k := (yrL V).2.2.1) n8 61 0 V.a x.ok (Nat.zero_le _)
    rw [show runA V.P (yrL V).2.2.2 (yrL V).2.2.1 61 0 V.a = yrX V from rfl] at rk
    have x5 := h5.1
    have c49 : MH ω 49 0 V.a := hc49.fr g5 (by decide) (by decide) rfl
    have fω : Fr [38, 47, 49, 51, 52, 53] [] [8, 12, 13, 14, 15, 16, 21, 27, 28] (wI σ 37 11 0) ω := ((ff.mono rfl).trans (g4.mono rfl)).trans (g5.mono rfl)
    have eR : yrR V = (nI (yrX V).1, (V.P, (yrX V).2, (0, V.T.2), (if (yrX V).1 = 0 then V.U else psh V.U V.a), V.K, V.F, [(if (yrX V).1 < (yrL V).2.2.1 then 1 else 0), (yrX V).2.gaps.toInt64], V.ch)) := by
      unfold yrR
      rw [if_pos hg]
    have fin : ∀ (ψ : Hp) (U : US), Fr [48] [] [24] ω ψ → MW ψ (sA (sT V (0, V.T.2)) (yrX V).2 U) → U = (if (yrX V).1 = 0 then V.U else psh V.U V.a) → wp (pI 0 2 10 ψ (some 37) 0 fun σ => jn (fun (a18 : Int64) σ => ob 2 σ (some 37) fun _ => bnd (f_X3_tell (some 37) a18 σ) fun _ σ => gR 2 0 σ (some 37) fun y20 => lI 100 σ y20 25 fun x21 => ob 2 σ (some 37) fun _ => bnd (f_X3_tell (some 37) (Int32.toInt64 x21) σ) fun _ σ => some (nI (yrX V).1, σ)) fun j19 => if nI (yrL V).2.2.1 ≤ nI (yrX V).1 then j19 0 σ else j19 1 σ) Q := by
      intro ψ U f6 h6 hU
      have x6 := h6.1
      have e4 : hi ψ 38 25 = (yrX V).2.gaps := x6.ga
      have e25 : ix (25 : Int32) = 25 := rfl
      rw [wp_pI]
      refine ⟨so_37 x6.s, rfl, ?_⟩
      have g7 : Fr [] [] [10] ψ (wI ψ 37 10 0) := Fr.refl.putI rfl
      have x7 := x6.fr g7 rfl
      rw [y_jn, ite_le (by omega) (by omega)]
      have go : ∀ D : Int64, D = (if (yrX V).1 < (yrL V).2.2.1 then 1 else 0) → wp (ob 2 (wI ψ 37 10 0) (some 37) fun _ => bnd (f_X3_tell (some 37) D (wI ψ 37 10 0)) fun _ σ => gR 2 0 σ (some 37) fun y20 => lI 100 σ y20 25 fun x21 => ob 2 σ (some 37) fun _ => bnd (f_X3_tell (some 37) (Int32.toInt64 x21) σ) fun _ σ => some (nI (yrX V).1, σ)) Q := fun D hD => by
        rw [wp_ob]
        refine ⟨so_37 x7.s, ?_⟩
        rw [wtM_0 x7.s hi_eq]
        have g8 : Fr [43] [] [10] ψ (wI (wL (wI ψ 37 10 0) 43 0 D) 37 10 1) := ((Fr.refl.putI rfl).putL rfl).putI rfl
        have x8 := x6.fr g8 rfl
        rw [wp_gR, sp_37_0 x8.s]
        refine ⟨so_37 x8.s, ?_⟩
        rw [wp_lI, e25, show hi (wI (wL (wI ψ 37 10 0) 43 0 D) 37 10 1) 38 25 = (yrX V).2.gaps from (g8.i rfl).trans e4]
        refine ⟨⟨so_38 x8.s, i38 x8.s 25 (by decide)⟩, ?_⟩
        rw [wp_ob]
        refine ⟨so_37 x8.s, ?_⟩
        rw [wtM_1 x8.s hi_eq]
        have g9 : Fr [43] [] [10] ψ (wI (wL (wI (wL (wI ψ 37 10 0) 43 0 D) 37 10 1) 43 1 (yrX V).2.gaps.toInt64) 37 10 2) := ((((Fr.refl.putI rfl).putL rfl).putI rfl).putL rfl).putI rfl
        have h9 := h6.row g9 rfl rfl (rowM2 (σ := ψ) (v := D) (w := (yrX V).2.gaps.toInt64))
        have fall : Fr [38, 43, 47, 48, 49, 51, 52, 53] [] [8, 10, 12, 13, 14, 15, 16, 21, 24, 27, 28] (wI σ 37 11 0) _ := ((fω.mono rfl).trans (f6.mono rfl)).trans (g9.mono rfl)
        rw [wp_some, ← hQ, eR, ← hU, ← hD]
        exact MVo (h.thr (v := 0)) h h9 fall rfl rfl
      by_cases c : (yrL V).2.2.1 ≤ (yrX V).1
      · rw [if_pos c]
        exact go 0 (by rw [if_neg (by omega)])
      · rw [if_neg c]
        exact go 1 (by rw [if_pos (by omega)])
    rw [y_jn, ite_le0 (by omega)]
    by_cases c0 : (yrX V).1 = 0
    · rw [if_pos c0]
      exact fin ω V.U Fr.refl h5 (by rw [if_pos c0])
    · rw [if_neg c0, wp_gR, sp_37_25 x5.s]
      refine ⟨so_37 x5.s, ?_⟩
      rw [wp_ob]
      refine ⟨so_37 x5.s, ?_⟩
      rw [wp_bnd]
      obtain ⟨y1, y2, y3, y4, y5, y6, y7⟩ := h5
      refine wp_mono (m_remember x5.s hk.2.1.1 y4.1 y4.2.1 c49 (Or.inr rfl)) (fun _ ψ h6 => ?_)
      obtain ⟨f6, u6⟩ := h6
      have fs6 := f6.frs y1.s rfl
      exact fin ψ (psh V.U V.a) f6 ⟨y1.frs fs6 rfl, y2.frs fs6 rfl, y3.frs fs6 rfl, UMof y4 fs6 u6 rfl, y5.frs fs6 rfl, y6.frs fs6 rfl, (fs6.i (by decide) rfl).trans y7⟩ (by rw [if_neg c0])
  · obtain ⟨e16, e15⟩ := k2 hg
    have w := (m_wasRight h3.1.s e15 e13 (by omega) t80).2 (by rw [e16]; exact m1_ne (by omega))
    rw [w, e_bnd, if_pos rfl, wp_gI, e16]
    refine ⟨so_37 h3.1.s, ?_⟩
    rw [wp_some, ← hQ]
    have eR : yrR V = (-1 - nI (yrL V).2.1, sT V (0, V.T.2)) := by
      unfold yrR
      rw [if_neg hg]
    rw [eR]
    exact MVo (h.thr (v := 0)) h h3 ff rfl rfl
end myear
