/-! PURE 95: another rule weighed (the reference) -/
section mlaw
variable {V : VS} {σ τ υ : Hp} {P : Pk} {a : HS} {o : Option RE}
theorem RM.back (h : RM σ o) (h1 : hr σ 37 18 = some 45) (h2 : hr τ 37 18 = some 45) (h3 : hi τ 37 20 = hi σ 37 20) (h4 : hi τ 45 = hi σ 45) : RM τ o := by
  cases o with
  | none => exact h3.trans h
  | some E =>
    obtain ⟨b, len, c, hb, q1, q2, q3, q4, q5, q6⟩ := h
    rw [h1] at q1
    cases q1
    exact ⟨45, len, c, hb, h2, h3.trans q2, q3, q4, ⟨q5.1, fun p hp => by rw [h4]; exact q5.2 p hp⟩, q6⟩
theorem m_law (h : MW σ V) (hk : VOK V) : wp (f_X3_law (some 37) σ) (GoM σ (laR V).1 (laR V).2) := by
  have h1 := h.thr (v := 0)
  obtain ⟨x, s, t, u, f, r, ch⟩ := h1
  have t80 := hk.1.1
  unfold f_X3_law laR
  rw [wp_pI]
  refine ⟨so_37 h.1.s, rfl, ?_⟩
  rw [wp_gI, t.1]
  refine ⟨so_37 x.s, ?_⟩
  rw [wp_ob]
  refine ⟨so_37 x.s, ?_⟩
  rw [wp_bnd]
  refine wp_mono (m_readRule x.s t hk.1) (fun y τ h2 => ?_)
  obtain ⟨f1, e8, h3⟩ := h2
  have fs := f1.frs x.s rfl
  have hτ := f1.sh x.s rfl
  have tt : ∀ {ω : Hp}, hi ω 37 8 = 0 → hr ω 37 18 = some 45 → hr ω 37 19 = some 46 → TM ω (0, V.T.2) := fun h a1 a2 => ⟨h, fun p hp => absurd hp (Nat.not_lt_zero _), a1, a2⟩
  have r18 : hr τ 37 18 = some 45 := (f1.r rfl).trans t.2.2.1
  have r19 : hr τ 37 19 = some 46 := (f1.r rfl).trans t.2.2.2
  cases hO : ruO V.T with
  | none =>
    rw [hO] at h3
    dsimp only at h3 ⊢
    obtain ⟨rfl, e16⟩ := h3
    rw [if_pos rfl, wp_gI, e16]
    refine ⟨so_37 hτ, ?_⟩
    rw [wp_some]
    have h4 : MW τ (sT V (0, V.T.2)) := ⟨x.frs fs rfl, s.frs fs rfl, tt e8 r18 r19, u.frs fs rfl, f.frs fs rfl, r.frs fs rfl, (fs.i (by decide) rfl).trans ch⟩
    exact MVo (h.thr (v := 0)) h h4 f1 rfl rfl
  | some o =>
    rw [hO] at h3
    dsimp only at h3 ⊢
    subst h3
    obtain ⟨h40, -⟩ := ruO_some hO
    have x1 := x.frs fs rfl
    have e42 : ∀ p, p < V.T.1 → V.T.2 p = hi τ 42 p &&& 255 ∧ (V.T.2 p < 128 → hi τ 42 p = V.T.2 p) := fun p hp => by rw [f1.i (a := 42) rfl]; exact t.2.1 p hp
    rw [if_neg (by decide), wp_ob]
    refine ⟨so_37 hτ, ?_⟩
    rw [wp_bnd]
    refine wp_mono (m_hardRota x1) (fun v2 τ2 h4 => ?_)
    obtain ⟨rfl, f2⟩ := h4
    have x2 := x1.fr f2 rfl
    have q18 : hr τ2 37 18 = some 45 := (f2.r rfl).trans r18
    have q19 : hr τ2 37 19 = some 46 := (f2.r rfl).trans r19
    rw [wp_gR, q18]
    refine ⟨so_37 x2.s, ?_⟩
    rw [wp_gI]
    refine ⟨so_37 x2.s, ?_⟩
    rw [wp_gR, q19]
    refine ⟨so_37 x2.s, ?_⟩
    rw [wp_pR]
    refine ⟨so_37 x2.s, ?_⟩
    have s3 := sw_m18 (v := some 46) x2.s
    rw [wp_pI]
    refine ⟨so_37 s3, rfl, ?_⟩
    have g3 : Fr [] [] [18, 20] τ2 (wI (wR τ2 37 18 (some 46)) 37 20 (nI V.T.1)) := (Fr.refl.putR rfl).putI rfl
    have w18 : hr (wI (wR τ2 37 18 (some 46)) 37 20 (nI V.T.1)) 37 18 = some 46 := (show hr (wR τ2 37 18 (some 46)) 37 18 = some 46 from hr_eq)
    have w20 : hi (wI (wR τ2 37 18 (some 46)) 37 20 (nI V.T.1)) 37 20 = nI V.T.1 := hi_eq
    have s4 : Sh (wI (wR τ2 37 18 (some 46)) 37 20 (nI V.T.1)) := sw_I s3
    generalize hω : wI (wR τ2 37 18 (some 46)) 37 20 (nI V.T.1) = ω at *
    generalize hQ : GoM σ (rhI (rlP V.P o) V.a V.P.hrs - rhI V.P V.a V.P.hrs, setw (sT V (0, V.T.2)) (some [(rhI (rlP V.P o) V.a V.P.hrs).toInt64, (rhI V.P V.a V.P.hrs).toInt64])).1 (rhI (rlP V.P o) V.a V.P.hrs - rhI V.P V.a V.P.hrs, setw (sT V (0, V.T.2)) (some [(rhI (rlP V.P o) V.a V.P.hrs).toInt64, (rhI V.P V.a V.P.hrs).toInt64])).2 = Q
    refine wp_up V.T.1 (fun i y ψ => y = nI i ∧ Fr [46] [] [] ω ψ ∧ ∀ p, p < i → hi ψ 46 p = vp_nar .byte (hi τ 42 p)) (fun ag i y ψ hi' hJ hag => ?_) (fun ag y ψ hJ => ?_) (by omega) ⟨rfl, Fr.refl, fun p hp => absurd hp (Nat.not_lt_zero _)⟩
    · obtain ⟨rfl, g, k1⟩ := hJ
      have hψ := g.sh s4 rfl
      have c42 : hi ψ 42 i = hi τ 42 i := ((g.i rfl).trans (g3.i rfl)).trans (f2.i rfl)
      unfold f_X3_law_b58
      rw [if_neg (nI_ge hi' (by omega)), wp_gR, g.r (σ := ω) (a := 37) (i := 18) rfl, w18]
      refine ⟨so_37 hψ, ?_⟩
      rw [wp_gR, sp_37_7 hψ]
      refine ⟨so_37 hψ, ?_⟩
      rw [wp_lI, ix_nI (by omega), sl_42 hψ, inb_nI (by omega), c42]
      refine ⟨⟨so_42 hψ, by omega⟩, ?_⟩
      rw [wp_sB, ix_nI (by omega), sl_46 hψ, inb_nI (by omega), nI_1]
      refine ⟨⟨so_46 hψ, by omega⟩, hag _ _ ⟨rfl, g.putI rfl, fun p hp => ?_⟩⟩
      by_cases e : p = i
      · rw [e, hi_eq]
      · rw [hi_ni e]; exact k1 p (by omega)
    · obtain ⟨rfl, g, k1⟩ := hJ
      have hψ := g.sh s4 rfl
      have gg : Fr [46] [] [18, 20] τ2 ψ := (g3.mono rfl).trans (g.mono rfl)
      have ggs := gg.frs x2.s rfl
      have v18 : hr ψ 37 18 = some 46 := (g.r rfl).trans w18
      have v20 : hi ψ 37 20 = nI V.T.1 := (g.i rfl).trans w20
      have rm : RM ψ o := RM_of (T := V.T) (Or.inr rfl) v18 v20 (fun n40 => TxM_copy (σ := τ) k1 e42 rfl n40) hO
      have cp : MP ψ (rlP V.P o) := by
        refine ⟨(ggs.i (by decide) rfl).trans x2.2.1.1, (ggs.i (by decide) rfl).trans x2.2.1.2.1, (ggs.i (by decide) rfl).trans x2.2.1.2.2.1, fun r hr' => ?_, rm⟩
        rw [ggs.i (a := 39) (by decide) rfl, ggs.i (a := 40) (by decide) rfl, ggs.i (a := 41) (by decide) rfl]
        exact x2.2.1.2.2.2.1 r hr'
      have x3 : MX ψ (rlP V.P o) V.a := ⟨hψ, cp, x.pk, x2.2.2.2.1.frs ggs (by decide) (by decide) (by decide) rfl, x.ok⟩
      unfold f_X3_law_b58
      rw [if_pos (nI_le (Nat.le_refl _) (by omega)), wp_ob]
      refine ⟨so_37 hψ, ?_⟩
      rw [wp_bnd]
      refine wp_mono (m_hardRota x3) (fun v4 τ4 h5 => ?_)
      obtain ⟨rfl, f4⟩ := h5
      have x4 := x3.fr f4 rfl
      rw [wp_pR]
      refine ⟨so_37 x4.s, ?_⟩
      have s5 := sw_m18 (v := some 45) x4.s
      rw [wp_pI]
      refine ⟨so_37 s5, rfl, ?_⟩
      have g5 : Fr [] [] [18, 20] τ4 (wI (wR τ4 37 18 (some 45)) 37 20 (hi τ2 37 20)) := (Fr.refl.putR rfl).putI rfl
      have z18 : hr (wI (wR τ4 37 18 (some 45)) 37 20 (hi τ2 37 20)) 37 18 = some 45 := (show hr (wR τ4 37 18 (some 45)) 37 18 = some 45 from hr_eq)
      have z20 : hi (wI (wR τ4 37 18 (some 45)) 37 20 (hi τ2 37 20)) 37 20 = hi τ2 37 20 := hi_eq
      have s6 : Sh (wI (wR τ4 37 18 (some 45)) 37 20 (hi τ2 37 20)) := sw_I s5
      generalize wI (wR τ4 37 18 (some 45)) 37 20 (hi τ2 37 20) = χ at *
      have f5 : Fr [46, 47] [] [12, 13, 14, 15, 16, 18, 20, 21] τ2 χ := ((gg.mono rfl).trans (f4.mono rfl)).trans (g5.mono rfl)
      have fs5 := f5.frs x2.s rfl
      have rmb : RM χ V.P.rule := x2.2.1.2.2.2.2.back q18 z18 z20 (funext fun i => f5.i rfl)
      have cp5 : MP χ V.P := by
        refine ⟨(fs5.i (by decide) rfl).trans x2.2.1.1, (fs5.i (by decide) rfl).trans x2.2.1.2.1, (fs5.i (by decide) rfl).trans x2.2.1.2.2.1, fun r hr' => ?_, rmb⟩
        rw [fs5.i (a := 39) (by decide) rfl, fs5.i (a := 40) (by decide) rfl, fs5.i (a := 41) (by decide) rfl]
        exact x2.2.1.2.2.2.1 r hr'
      have x5 : MX χ V.P V.a := ⟨s6, cp5, x.pk, x2.2.2.2.1.frs fs5 (by decide) (by decide) (by decide) rfl, x.ok⟩
      rw [wp_pI]
      refine ⟨so_37 s6, rfl, ?_⟩
      have s7 : Sh (wI χ 37 10 0) := sw_I s6
      rw [wp_ob]
      refine ⟨so_37 s7, ?_⟩
      rw [wtM_0 s7 hi_eq, wp_ob]
      refine ⟨so_37 (σ := wI (wL (wI χ 37 10 0) 43 0 _) 37 10 1) s7, ?_⟩
      rw [wtM_1 (σ := wI (wL (wI χ 37 10 0) 43 0 _) 37 10 1) s7 hi_eq, wp_some, ← hQ]
      have e1 : (rlP V.P o).hrs = V.P.hrs := rfl
      rw [e1]
      generalize rhI (rlP V.P o) V.a V.P.hrs = A at *
      generalize rhI V.P V.a V.P.hrs = B at *
      have g7 : Fr [43] [] [10] χ (wI (wL (wI (wL (wI χ 37 10 0) 43 0 A.toInt64) 37 10 1) 43 1 B.toInt64) 37 10 2) := ((((Fr.refl.putI rfl).putL rfl).putI rfl).putL rfl).putI rfl
      have f8 : Fr [43, 46, 47] [] [8, 10, 12, 13, 14, 15, 16, 18, 20, 21] (wI σ 37 11 0) _ := (((f1.mono rfl).trans (f2.mono rfl)).trans (f5.mono rfl)).trans (g7.mono rfl)
      have fs8 := f8.frs x.s rfl
      have g75 : Fr [43, 46, 47] [] [10, 12, 13, 14, 15, 16, 18, 20, 21] τ _ := ((f2.mono rfl).trans (f5.mono rfl)).trans (g7.mono rfl)
      have h6 : MW (wI (wL (wI (wL (wI χ 37 10 0) 43 0 A.toInt64) 37 10 1) 43 1 B.toInt64) 37 10 2) (setw (sT V (0, V.T.2)) (some [A.toInt64, B.toInt64])) := by
        refine ⟨x5.fr g7 rfl, s.frs fs8 rfl, tt ((g75.i rfl).trans e8) ?_ ?_, u.frs fs8 rfl, f.frs fs8 rfl, rowM2, (fs8.i (by decide) rfl).trans ch⟩
        · exact (g7.r rfl).trans z18
        · exact ((g7.r rfl).trans (f5.r rfl)).trans q19
      exact MVo (h.thr (v := 0)) h h6 f8 rfl rfl
end mlaw
