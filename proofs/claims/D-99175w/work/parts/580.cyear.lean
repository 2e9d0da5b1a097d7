/-! PURE 112: a year (the class) -/
def yrL (V : VS) : Bool × Nat × Nat × (Nat → AC) := actsP (fun p => if p < min V.T.1 60 then V.T.2 p else -1) (min V.T.1 60) 61 0 0 (fun _ => (0, 0, 0))
def yrX (V : VS) : Nat × HS := runA V.P (yrL V).2.2.2 (yrL V).2.2.1 61 0 V.a
def yrR (V : VS) : Int32 × VS := if (yrL V).1 = true ∧ (yrL V).2.1 = V.T.1 then (nI (yrX V).1, (V.P, (yrX V).2, (0, V.T.2), (if (yrX V).1 = 0 then V.U else psh V.U V.a), V.K, V.F, [(if (yrX V).1 < (yrL V).2.2.1 then 1 else 0), (yrX V).2.gaps.toInt64], V.ch)) else (-1 - nI (yrL V).2.1, sT V (0, V.T.2))
theorem yr_ok {V : VS} (h : VOK V) (ha : HOK V.P.n V.a) : VOK (yrR V).2 := by
  unfold yrR
  split
  · refine ⟨⟨Nat.zero_le _, fun p hp => absurd hp (Nat.not_lt_zero _)⟩, ?_, h.2.2⟩
    show (if (yrX V).1 = 0 then V.U else psh V.U V.a).1 ≤ 12 ∧ ∀ k, k < (if (yrX V).1 = 0 then V.U else psh V.U V.a).1 → HOK V.P.n ((if (yrX V).1 = 0 then V.U else psh V.U V.a).2 k)
    split
    · exact h.2.1
    · exact ⟨psh_le h.2.1.1, psh_ok h.2.1.2 ha⟩
  · exact t0_ok h
section cyear
variable {V : VS} {σ τ υ : Hp} {c : Nat → Int32} {e : Nat}
theorem Bec.fr15 (h : Bec σ τ 15) : Fr [15, 16, 17] [] [] σ τ := by
  obtain ⟨h1, h2, h3, h4, h5, h6⟩ := h
  refine ⟨h1, h2, h3, fun c i => ⟨fun q => ?_, fun _ => by rw [h4]⟩⟩
  rw [h5]
  refine ⟨?_, rfl⟩
  by_cases e4 : c = 15
  · subst e4; cases (show false = true from q)
  · by_cases e5 : c = 16
    · subst e5; cases (show false = true from q)
    · by_cases e6 : c = 17
      · subst e6; cases (show false = true from q)
      · rw [h6 c e4 e5 e6]
theorem c_acts (e60 : e ≤ 60) {k0 : Int32 → Hp → Option (Int32 × Hp)} {Q : Int32 → Hp → Prop} : ∀ m M k p f σ, e - p < m → m < M → k ≤ p → CS σ c e p → hi σ 0 34 = nI k → (∀ j, j < k → AcC σ j (f j)) → (∀ τ g, Fr [21, 22, 23] [11, 34] [] σ τ → CS τ c e (actsP c e m p k f).2.1 → ((actsP c e m p k f).1 = true → hi τ 0 34 = nI (actsP c e m p k f).2.2.1 ∧ ∀ j, j < (actsP c e m p k f).2.2.1 → AcC τ j ((actsP c e m p k f).2.2.2 j)) → (g ≠ 0 ↔ (actsP c e m p k f).1 = true) → wp (k0 g τ) Q) → wp (lp M (f_X1_year_b14 (some 0) k0) 1 σ) Q := by
  intro m
  induction m with
  | zero => intro M k p f σ h; omega
  | succ m ih =>
    intro M k p f σ hm hM hkp cs e34 hf hk0
    obtain ⟨M, rfl⟩ : ∃ n, M = n + 2 := ⟨M - 2, by omega⟩
    have o0 := so_0 cs.1
    have hpe := cs.2.2.2.1
    show wp (f_X1_year_b14 (some 0) k0 (lp (M + 1) (f_X1_year_b14 (some 0) k0)) 1 σ) Q
    have stop : ∀ τ, lp (M + 1) (f_X1_year_b14 (some 0) k0) 0 τ = k0 0 τ := fun τ => by
      show f_X1_year_b14 (some 0) k0 _ 0 τ = _
      unfold f_X1_year_b14
      rw [if_pos rfl]
    generalize hag : lp (M + 1) (f_X1_year_b14 (some 0) k0) = ag at *
    unfold actsP at hk0
    unfold f_X1_year_b14
    rw [if_neg (by decide), wp_gI, cs.2.2.2.2.1]
    refine ⟨o0, ?_⟩
    rw [wp_gI, cs.2.2.2.2.2.1, ite_le (by omega) (by omega)]
    refine ⟨o0, ?_⟩
    by_cases h8 : e ≤ p
    · rw [if_pos h8] at hk0 ⊢
      exact hk0 σ 1 Fr.refl cs (fun _ => ⟨e34, hf⟩) ⟨fun _ => rfl, fun _ => by decide⟩
    · rw [if_neg h8] at hk0 ⊢
      rw [wp_ob]
      refine ⟨o0, ?_⟩
      rw [wp_bnd]
      refine wp_mono (c_rdAct cs (by omega) e34 (by omega)) (fun y τ h => ?_)
      obtain ⟨f1, cs1, k1, h1⟩ := h
      have g := actP_good cs.2.1 hpe
      rcases hl : actP c p with ⟨z, q⟩
      rw [hl] at cs1 h1 hk0 g
      cases z with
      | none =>
        dsimp only at cs1 h1 hk0
        subst h1
        rw [stop]
        exact hk0 τ 0 f1 cs1 (fun z => by cases z) ⟨fun z => absurd rfl z, fun z => by cases z⟩
      | some l =>
        dsimp only at cs1 h1 hk0 g
        obtain ⟨rfl, g34, g1⟩ := h1
        have gq := (g.2.2 l rfl).2
        have hf' : ∀ j, j < k + 1 → AcC τ j (up1 f k l j) := fun j hj => by
          unfold up1
          by_cases ej : j = k
          · rw [if_pos ej, ej]; exact g1
          · rw [if_neg ej]
            obtain ⟨a1, a2, a3⟩ := k1 j (by omega)
            obtain ⟨b1, b2', b3⟩ := hf j (by omega)
            exact ⟨a1.trans b1, a2.trans b2', fun z => a3.trans (b3 z)⟩
        rw [← hag]
        exact ih (M + 1) (k + 1) q (up1 f k l) τ (by omega) (by omega) (by omega) cs1 g34 hf' (fun ω g f2 cs2 h2 h3 => hk0 ω g (f1.trans f2) cs2 h2 h3)
theorem c_year (h : CV σ V) (hk : VOK V) : wp (f_X1_year (some 0) σ) (GoC σ 3 (yrR V).1 (yrR V).2) := by
  obtain ⟨x, s, t, u, f, r, ch⟩ := h
  have n8 := x.n8
  have t80 := hk.1.1
  obtain ⟨τ1, b1, f1, b2', b3, cs⟩ := c_begun x.s t hk.1 (m := 60) (by decide)
  have tt : ∀ {ω : Hp}, hi ω 0 10 = 0 → TC ω (0, V.T.2) := fun h => ⟨h, fun p hp => absurd hp (Nat.not_lt_zero _)⟩
  have mk : ∀ {ω : Hp}, Fr [21, 22, 23] [11, 34] [] τ1 ω → CV ω (sT V (0, V.T.2)) ∧ Fr [21, 22, 23] [10, 11, 12, 13, 34] [] σ ω := fun {ω} g => by
    have ff : Fr [21, 22, 23] [10, 11, 12, 13, 34] [] σ ω := (f1.mono rfl).trans (g.mono rfl)
    have fs := ff.frs x.s rfl
    exact ⟨⟨x.frs fs rfl, s.frs fs rfl, tt ((g.i rfl).trans b2'), u.frs fs (ff.frd rfl) rfl, f.frs fs rfl, r.frs fs rfl, (fs.i (by decide) rfl).trans ch⟩, ff⟩
  unfold f_X1_year
  rw [wp_ob]
  refine ⟨so_0 x.s, ?_⟩
  rw [show (60 : Int32) = nI 60 from rfl, b1, e_bnd, wp_pI]
  refine ⟨so_0 cs.1, rfl, ?_⟩
  generalize hQ : GoC σ 3 (yrR V).1 (yrR V).2 = Q
  have g2 : Fr [21, 22, 23] [11, 34] [] τ1 (wI τ1 0 34 0) := Fr.refl.putI rfl
  have cs2 := cs.fr (show Fr [] [34] [] τ1 (wI τ1 0 34 0) from Fr.refl.putI rfl) rfl rfl rfl rfl
  have good := actsP_good cs2.2.1 61 0 0 (fun _ => (0, 0, 0)) (Nat.zero_le _) (by omega) (fun j hj => absurd hj (Nat.not_lt_zero _))
  refine c_acts (by omega) 61 2000 0 0 (fun _ => (0, 0, 0)) _ (by omega) (by decide) (Nat.zero_le _) cs2 hi_eq (fun j hj => absurd hj (Nat.not_lt_zero _)) (fun τ g f3 cs3 k1 k2 => ?_)
  rw [show actsP (fun p => if p < min V.T.1 60 then V.T.2 p else -1) (min V.T.1 60) 61 0 0 (fun _ => (0, 0, 0)) = yrL V from rfl] at cs3 k1 k2 good
  obtain ⟨h3, ff⟩ := mk (g2.trans f3)
  obtain ⟨q1, q2, q3, q4⟩ := good
  rw [wp_ob]
  refine ⟨so_0 cs3.1, ?_⟩
  rw [c_faultOf cs3.1 cs3.2.2.2.2.1 cs3.2.2.2.2.2.1 cs3.2.2.2.1 (by omega) t80, e_bnd]
  by_cases hg : (yrL V).1 = true ∧ (yrL V).2.1 = V.T.1
  · have hg' : g ≠ 0 ∧ (yrL V).2.1 = V.T.1 := ⟨k2.mpr hg.1, hg.2⟩
    obtain ⟨e34, hL⟩ := k1 hg.1
    have k60 : (yrL V).2.2.1 ≤ 60 := by omega
    have x3 := h3.1
    rw [if_pos hg', if_pos (by decide), wp_gR, sp_0_24 x3.s]
    refine ⟨so_0 x3.s, ?_⟩
    rw [wp_gR, sp_0_0 x3.s]
    refine ⟨so_0 x3.s, ?_⟩
    rw [wp_ob]
    refine ⟨so_15 x3.s, ?_⟩
    rw [wp_bnd]
    refine wp_mono (c_becomes (ho_15 x3.s) x3.2.2.2.1 (Or.inl (by decide))) (fun _ τ4 h4 => ?_)
    obtain ⟨hb, hc15⟩ := h4
    have g4 : Fr [15, 16, 17] [] [] τ τ4 := hb.fr15
    have h4 : CV τ4 (sT V (0, V.T.2)) := h3.frs (g4.frs x3.s rfl) (g4.frd rfl) rfl
    refine c_run (f := (yrL V).2.2.2) k60 q3 61 2000 0 (sT V (0, V.T.2)) τ4 (by omega) (by decide) (Nat.zero_le _) h4 ((g4.i rfl).trans e34) (fun j hj => (hL j hj).fr g4 rfl) (fun ω g5 h5 => ?_)
    rw [show runA (sT V (0, V.T.2)).P (yrL V).2.2.2 (yrL V).2.2.1 61 0 (sT V (0, V.T.2)).a = yrX V from rfl] at h5 ⊢
    have rk := runA_ok (P := V.P) (f := (yrL V).2.2.2) (k := (yrL V).2.2.1) n8 61 0 V.a x.ok (Nat.zero_le _)
    rw [show runA V.P (yrL V).2.2.2 (yrL V).2.2.1 61 0 V.a = yrX V from rfl] at rk
    have x5 := h5.1
    have e34' : hi ω 0 34 = nI (yrL V).2.2.1 := (g5.i rfl).trans ((g4.i rfl).trans e34)
    have c15 : CH ω 15 V.a := hc15.fr g5 (by decide) (by decide) rfl rfl rfl
    have fω : Fr [1, 2, 3, 15, 16, 17, 18, 19, 21, 22, 23] [10, 11, 12, 13, 18, 19, 20, 28, 29, 34] [] σ ω := ((ff.mono rfl).trans (g4.mono rfl)).trans (g5.mono rfl)
    have eR : yrR V = (nI (yrX V).1, (V.P, (yrX V).2, (0, V.T.2), (if (yrX V).1 = 0 then V.U else psh V.U V.a), V.K, V.F, [(if (yrX V).1 < (yrL V).2.2.1 then 1 else 0), (yrX V).2.gaps.toInt64], V.ch)) := by
      unfold yrR
      rw [if_pos hg]
    have fin : ∀ (ψ : Hp) (U : US), FrS [] [25] [] 3 ω ψ → CV ψ (sA (sT V (0, V.T.2)) (yrX V).2 U) → U = (if (yrX V).1 = 0 then V.U else psh V.U V.a) → wp (pI 0 0 52 ψ (some 0) 0 fun σ => gI 0 34 σ (some 0) fun x14 => jn (fun (a15 : Int64) σ => ob 0 σ (some 0) fun _ => bnd (f_X1_tells (some 0) a15 σ) fun _ σ => gR 0 0 σ (some 0) fun y17 => gI 1 4 σ y17 fun x18 => ob 0 σ (some 0) fun _ => bnd (f_X1_tells (some 0) (Int32.toInt64 x18) σ) fun _ σ => some (nI (yrX V).1, σ)) fun j16 => if x14 ≤ nI (yrX V).1 then j16 0 σ else j16 1 σ) Q := by
      intro ψ U f6 h6 hU
      have x6 := h6.1
      have e34ψ : hi ψ 0 34 = nI (yrL V).2.2.1 := (f6.i (by decide) rfl).trans e34'
      have e4 : hi ψ 1 4 = (yrX V).2.gaps := x6.ga
      rw [wp_pI]
      refine ⟨so_0 x6.s, rfl, ?_⟩
      have g7 : Fr [] [52] [] ψ (wI ψ 0 52 0) := Fr.refl.putI rfl
      have x7 := x6.fr g7 rfl
      rw [wp_gI, show hi (wI ψ 0 52 0) 0 34 = nI (yrL V).2.2.1 from (g7.i rfl).trans e34ψ]
      refine ⟨so_0 x7.s, ?_⟩
      rw [y_jn, ite_le (by omega) (by omega)]
      have go : ∀ D : Int64, D = (if (yrX V).1 < (yrL V).2.2.1 then 1 else 0) → wp (ob 0 (wI ψ 0 52 0) (some 0) fun _ => bnd (f_X1_tells (some 0) D (wI ψ 0 52 0)) fun _ σ => gR 0 0 σ (some 0) fun y17 => gI 1 4 σ y17 fun x18 => ob 0 σ (some 0) fun _ => bnd (f_X1_tells (some 0) (Int32.toInt64 x18) σ) fun _ σ => some (nI (yrX V).1, σ)) Q := fun D hD => by
        rw [wp_ob]
        refine ⟨so_0 x7.s, ?_⟩
        rw [wt_0 x7.s hi_eq]
        have g8 : Fr [36] [52] [] ψ (wI (wL (wI ψ 0 52 0) 36 0 D) 0 52 1) := ((Fr.refl.putI rfl).putL rfl).putI rfl
        have x8 := x6.fr g8 rfl
        rw [wp_gR, sp_0_0 x8.s]
        refine ⟨so_0 x8.s, ?_⟩
        rw [wp_gI, show hi (wI (wL (wI ψ 0 52 0) 36 0 D) 0 52 1) 1 4 = (yrX V).2.gaps from (g8.i rfl).trans e4]
        refine ⟨so_1 x8.s, ?_⟩
        rw [wp_ob]
        refine ⟨so_0 x8.s, ?_⟩
        rw [wt_1 x8.s hi_eq]
        have g9 : Fr [36] [52] [] ψ (wI (wL (wI (wL (wI ψ 0 52 0) 36 0 D) 0 52 1) 36 1 (yrX V).2.gaps.toInt64) 0 52 2) := ((((Fr.refl.putI rfl).putL rfl).putI rfl).putL rfl).putI rfl
        have h9 := h6.row g9 rfl rfl (row2 (σ := ψ) (v := D) (w := (yrX V).2.gaps.toInt64))
        rw [wp_some, ← hQ, eR, ← hU, ← hD]
        exact ⟨rfl, h9, [1, 2, 3, 15, 16, 17, 18, 19, 21, 22, 23, 36], [10, 11, 12, 13, 18, 19, 20, 25, 28, 29, 34, 52], ((((fω.mono (D' := [1, 2, 3, 15, 16, 17, 18, 19, 21, 22, 23, 36]) (F' := [10, 11, 12, 13, 18, 19, 20, 25, 28, 29, 34, 52]) (G' := []) rfl).frs x.s rfl).trans (f6.mono rfl (Nat.le_refl _))).trans ((g9.mono rfl).frs x6.s rfl)).mono rfl (by decide), rfl⟩
      by_cases c : (yrL V).2.2.1 ≤ (yrX V).1
      · rw [if_pos c]
        exact go 0 (by rw [if_neg (by omega)])
      · rw [if_neg c]
        exact go 1 (by rw [if_pos (by omega)])
    rw [y_jn, ite_le0 (by omega)]
    by_cases c0 : (yrX V).1 = 0
    · rw [if_pos c0]
      exact fin ω V.U (((Fr.refl (D := []) (F := [25]) (G := [])).frs x5.s rfl).mono rfl (Nat.zero_le _)) h5 (by rw [if_pos c0])
    · rw [if_neg c0, wp_gR, sp_0_24 x5.s]
      refine ⟨so_0 x5.s, ?_⟩
      rw [wp_ob]
      refine ⟨so_0 x5.s, ?_⟩
      rw [wp_bnd]
      refine wp_mono (c_putsBy x5.s h5.2.2.2.1 c15 (Or.inr rfl)) (fun _ ψ h6 => ?_)
      obtain ⟨f6, u6⟩ := h6
      obtain ⟨y1, y2, y3, y4, y5, y6, y7⟩ := h5
      exact fin ψ (psh V.U V.a) f6 ⟨y1.frs f6 rfl, y2.frs f6 rfl, y3.frs f6 rfl, u6, y5.frs f6 rfl, y6.frs f6 rfl, (f6.i (by decide) rfl).trans y7⟩ (by rw [if_neg c0])
  · have hg' : ¬ (g ≠ 0 ∧ (yrL V).2.1 = V.T.1) := fun z => hg ⟨k2.mp z.1, z.2⟩
    have h81 : ∀ k, k < 81 → ¬ (0 ≤ -1 - nI k) := by decide +kernel
    rw [if_neg hg', if_neg (h81 _ (by omega)), wp_some, ← hQ]
    unfold yrR
    rw [if_neg hg]
    exact ⟨rfl, h3, _, _, (ff.frs x.s rfl).mono (D' := [21, 22, 23]) (F' := [10, 11, 12, 13, 34]) (G' := []) rfl (Nat.zero_le _), rfl⟩
end cyear
