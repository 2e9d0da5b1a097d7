/-! PURE 114: acts of a year done (the reference) -/
section mdoes
variable {V : VS} {σ τ υ : Hp} {k : Nat} {l : AC} {a : HS} {P : Pk}
theorem m_exch (x : MX σ P a) {u v : Int32} : wp (f_X3_goExchange (some 37) u v σ) (fun _ τ => Fr [38] [] [] σ τ ∧ MH τ 38 0 (exH a u v)) := by
  unfold f_X3_goExchange
  refine wp_up 8 (fun i y τ => y = nI i ∧ Fr [38] [] [] σ τ ∧ (∀ j, j < 8 → hi τ 38 j = if j < i then (exH a u v).rota j else a.rota j) ∧ ∀ j, 8 ≤ j → hi τ 38 j = hi σ 38 j) (fun ag i y τ hi' hJ hag => ?_) (fun ag y τ hJ => ?_) (by decide) ⟨rfl, Fr.refl, fun j hj => by rw [if_neg (Nat.not_lt_zero _)]; exact x.ro j hj, fun _ _ => rfl⟩
  · obtain ⟨rfl, g, m1, m2⟩ := hJ
    have hτ := g.sh x.s rfl
    have e : hi τ 38 i = a.rota i := by rw [m1 i hi', if_neg (Nat.lt_irrefl _)]
    unfold f_X3_goExchange_b2
    rw [n_8, if_neg (nI_ge hi' (by decide)), wp_gR, sp_37_0 hτ]
    refine ⟨so_37 hτ, ?_⟩
    rw [wp_gR, sp_37_0 hτ]
    refine ⟨so_37 hτ, ?_⟩
    rw [wp_lI, ix_nI (by omega), sl_38 hτ, inb_nI (by omega), e]
    refine ⟨⟨so_38 hτ, by omega⟩, ?_⟩
    have go : ∀ w, w = (exH a u v).rota i → wp (sI τ (some 38) (nI i) w fun σ => ag (nI i + 1) σ) _ := fun w hw => by
      rw [wp_sI, ix_nI (by omega), sl_38 hτ, inb_nI (by omega), nI_1]
      refine ⟨⟨so_38 hτ, by omega⟩, hag _ _ ⟨rfl, g.putI rfl, fun j hj => ?_, fun j hj => by rw [hi_ni (by omega)]; exact m2 j hj⟩⟩
      by_cases e : j = i
      · rw [e, hi_eq, if_pos (Nat.lt_succ_self i), hw]
      · rw [hi_ni e, m1 j hj]
        by_cases e2 : j < i
        · rw [if_pos e2, if_pos (by omega)]
        · rw [if_neg e2, if_neg (by omega)]
    have ex : (exH a u v).rota i = if a.rota i = u then v else if a.rota i = v then u else a.rota i := rfl
    rw [y_jn]
    by_cases c1 : a.rota i = u
    · rw [if_pos c1]
      exact go _ (by rw [ex, if_pos c1])
    · rw [if_neg c1, wp_gR, sp_37_0 hτ]
      refine ⟨so_37 hτ, ?_⟩
      rw [wp_lI, ix_nI (by omega), sl_38 hτ, inb_nI (by omega), e]
      refine ⟨⟨so_38 hτ, by omega⟩, ?_⟩
      by_cases c2 : a.rota i = v
      · rw [if_pos c2]
        exact go _ (by rw [ex, if_neg c1, if_pos c2])
      · rw [if_neg c2, wp_gR, sp_37_0 hτ]
        refine ⟨so_37 hτ, ?_⟩
        rw [wp_lI, ix_nI (by omega), sl_38 hτ, inb_nI (by omega), e]
        refine ⟨⟨so_38 hτ, by omega⟩, ?_⟩
        exact go _ (by rw [ex, if_neg c1, if_neg c2])
  · obtain ⟨rfl, g, m1, m2⟩ := hJ
    unfold f_X3_goExchange_b2
    rw [n_8, if_pos (nI_le (Nat.le_refl _) (by decide)), wp_some]
    exact ⟨g, MH.rotas (r := (exH a u v).rota) x.2.2.2.1 (fun j hj => by rw [m1 j hj, if_pos hj]) m2⟩
theorem m_does (h : MW σ V) (hl : acOK l) {w : Int32} (hw : l.1 = 103 ∨ l.1 = 120 → w = l.2.2) : wp (f_X3_act (some 37) l.1 l.2.1 w σ) (fun x τ => Fr [38, 47, 51, 52] [] GG2 σ τ ∧ (match doA V.P V.a l with
    | none => x = 0 ∧ MW τ V
    | some b => x = 1 ∧ MW τ (sA V b V.U))) := by
  obtain ⟨hl1, ⟨d, d9, ed⟩, hl3⟩ := hl
  have x := h.1
  have n8 := x.n8
  generalize hQ : (fun (x : Int32) τ => Fr [38, 47, 51, 52] [] GG2 σ τ ∧ (match doA V.P V.a l with
    | none => x = 0 ∧ MW τ V
    | some b => x = 1 ∧ MW τ (sA V b V.U))) = Q
  have fin0 : doA V.P V.a l = none → wp (rz1 0 σ) Q := fun e => by
    rw [wp_r0, ← hQ, e]
    exact ⟨Fr.refl, rfl, h⟩
  unfold f_X3_act
  by_cases h103 : l.1 = 103
  · rw [if_pos h103, hw (Or.inl h103), wp_ob]
    refine ⟨so_37 x.s, ?_⟩
    rw [m_isGift x.y, e_bnd, b2_ite]
    by_cases c : (0 ≤ l.2.1 ∧ l.2.1 ≤ 7) ∧ (l.2.2 = -1 ∨ isR (nI V.P.n) l.2.2)
    · have e : doA V.P V.a l = some (stR V.a (ix l.2.1) l.2.2) := by
        unfold doA
        rw [if_pos h103, if_pos c]
      have hv : okR V.P.n l.2.2 := by
        rcases c.2 with h3 | h3
        · exact Or.inl h3
        · exact isR_ok n8 h3
      have d7 := nI_b1 (k := d) (m := 7) (by omega) (by decide) (by rw [← ed]; exact c.1.2)
      rw [if_pos c]
      rw [ed] at e ⊢
      rw [ix_nI (by omega)] at e
      rw [wp_gR, sp_37_0 x.s]
      refine ⟨so_37 x.s, ?_⟩
      rw [wp_sI, ix_nI (by omega), sl_38 x.s, inb_nI (by omega)]
      refine ⟨⟨so_38 x.s, by omega⟩, ?_⟩
      rw [wp_r1, ← hQ, e]
      have g : Fr [38] [] [] σ (wI σ 38 d l.2.2) := Fr.refl.putI rfl
      exact ⟨g.mono rfl, rfl, h.horse g rfl (x.2.2.2.1.stR (show d < 8 by omega) l.2.2) (stR_ok x.ok hv)⟩
    · rw [if_neg c]
      exact fin0 (by unfold doA; rw [if_pos h103, if_neg c])
  · rw [if_neg h103]
    by_cases h105 : l.1 = 105
    · rw [if_pos h105, wp_ob]
      refine ⟨so_37 x.s, ?_⟩
      rw [w_isMan x.s, x.n, b2_ite]
      by_cases c : isR (nI V.P.n) l.2.1
      · have e : doA V.P V.a l = some (flp V.a (ix l.2.1)) := by
          unfold doA
          rw [if_neg h103, if_pos h105, if_pos c]
        have dn' : d < V.P.n := by rw [ed] at c; exact (isR_nI (by omega) (by omega)).mp c
        rw [if_pos c]
        rw [ed] at e ⊢
        rw [ix_nI (by omega)] at e
        rw [wp_gR, sp_37_0 x.s]
        refine ⟨so_37 x.s, ?_⟩
        rw [wp_gR, sp_37_0 x.s]
        refine ⟨so_37 x.s, ?_⟩
        rw [n_16, nI_add, wp_lI, ix_nI (by omega), sl_38 x.s, inb_nI (by omega)]
        refine ⟨⟨so_38 x.s, by omega⟩, ?_⟩
        rw [wp_sI, ix_nI (by omega), sl_38 x.s, inb_nI (by omega)]
        refine ⟨⟨so_38 x.s, by omega⟩, ?_⟩
        rw [wp_r1, ← hQ, e]
        have g : Fr [38] [] [] σ (wI σ 38 (16 + d) (1 - hi σ 38 (16 + d))) := Fr.refl.putI rfl
        exact ⟨g.mono rfl, rfl, h.horse g rfl (x.2.2.2.1.flp (show d < 8 by omega)) (flp_ok x.ok dn')⟩
      · rw [if_neg c]
        exact fin0 (by unfold doA; rw [if_neg h103, if_pos h105, if_neg c])
    · rw [if_neg h105]
      by_cases h110 : l.1 = 110
      · have h120 : ¬ l.1 = 120 := fun z => by rw [h110] at z; exact absurd z (by decide)
        have e : doA V.P V.a l = some (goI V.P V.a (ix l.2.1)) := by
          unfold doA
          rw [if_neg h103, if_neg h105, if_neg h120]
        rw [ed] at e ⊢
        rw [ix_nI (by omega)] at e
        rw [if_pos h110, wp_gR, sp_37_0 x.s]
        refine ⟨so_37 x.s, ?_⟩
        rw [wp_ob]
        refine ⟨so_37 x.s, ?_⟩
        rw [wp_bnd]
        refine wp_mono (m_goes1 h (show d ≤ 60 by omega)) (fun _ τ h1 => ?_)
        rw [wp_r1, ← hQ, e]
        exact ⟨h1.1, rfl, h1.2⟩
      · have h120 : l.1 = 120 := by
          rcases hl1 with z | z | z | z
          · exact absurd z h110
          · exact absurd z h105
          · exact absurd z h103
          · exact z
        rw [if_neg h110, hw (Or.inr h120), wp_ob]
        refine ⟨so_37 x.s, ?_⟩
        rw [w_areTwo x.s, x.n, b2_ite]
        by_cases c : isTwo (nI V.P.n) l.2.1 l.2.2
        · have e : doA V.P V.a l = some (exH V.a l.2.1 l.2.2) := by
            unfold doA
            rw [if_neg h103, if_neg h105, if_pos h120, if_pos c]
          rw [if_pos c, wp_ob]
          refine ⟨so_37 x.s, ?_⟩
          rw [wp_bnd]
          refine wp_mono (m_exch x) (fun y τ h1 => ?_)
          obtain ⟨g, hc⟩ := h1
          rw [wp_r1, ← hQ, e]
          exact ⟨g.mono rfl, rfl, h.horse g rfl hc (exH_ok x.ok (isR_ok n8 c.1) (isR_ok n8 c.2.1))⟩
        · rw [if_neg c]
          exact fin0 (by unfold doA; rw [if_neg h103, if_neg h105, if_pos h120, if_neg c])
theorem AcM.fr {D F G : List Nat} (h : AcM σ k l) (f : Fr D F G σ τ) (q : D.contains 53 = false) : AcM τ k l := ⟨(f.i (dn_out q (by decide) (by decide))).trans h.1, (f.i (dn_out q (by decide) (by decide))).trans h.2.1, fun z => (f.i (dn_out q (by decide) (by decide))).trans (h.2.2 z)⟩
theorem m_run {f : Nat → AC} {k : Nat} (k60 : k ≤ 60) (hf : ∀ j, j < k → acOK (f j)) {k0 : Int32 → Hp → Option (Int32 × Hp)} {Q : Int32 → Hp → Prop} : ∀ m M i V σ, k - i < m → m ≤ M → i ≤ k → MW σ V → (∀ j, j < k → AcM σ j (f j)) → (∀ τ, Fr [38, 47, 51, 52] [] GG2 σ τ → MW τ (sA V (runA V.P f k m i V.a).2 V.U) → wp (k0 (nI (runA V.P f k m i V.a).1) τ) Q) → wp (lp M (f_X3_year_b72 (some 37) (nI k) k0) (nI i) σ) Q := by
  intro m
  induction m with
  | zero => intro M i V σ h; omega
  | succ m ih =>
    intro M i V σ hm hM hik h hac hk0
    obtain ⟨M, rfl⟩ : ∃ n, M = n + 1 := ⟨M - 1, by omega⟩
    have x := h.1
    show wp (f_X3_year_b72 (some 37) (nI k) k0 (lp M (f_X3_year_b72 (some 37) (nI k) k0)) (nI i) σ) Q
    generalize hag : lp M (f_X3_year_b72 (some 37) (nI k) k0) = ag
    unfold runA at hk0
    unfold f_X3_year_b72
    rw [ite_le (by omega) (by omega)]
    by_cases c : k ≤ i
    · rw [if_pos c] at hk0 ⊢
      exact hk0 σ Fr.refl h
    · rw [if_neg c] at hk0 ⊢
      obtain ⟨a1, a2, a3⟩ := hac i (by omega)
      rw [wp_gR, sp_37_31 x.s]
      refine ⟨so_37 x.s, ?_⟩
      rw [n_3, nI_mul, nI_1, n_2, nI_add, wp_lI, ix_nI (by omega), sl_53 x.s, inb_nI (by omega), a1]
      refine ⟨⟨so_53 x.s, by omega⟩, ?_⟩
      rw [wp_gR, sp_37_31 x.s]
      refine ⟨so_37 x.s, ?_⟩
      rw [wp_lI, ix_nI (by omega), sl_53 x.s, inb_nI (by omega), a2]
      refine ⟨⟨so_53 x.s, by omega⟩, ?_⟩
      rw [wp_gR, sp_37_31 x.s]
      refine ⟨so_37 x.s, ?_⟩
      rw [wp_lI, ix_nI (by omega), sl_53 x.s, inb_nI (by omega)]
      refine ⟨⟨so_53 x.s, by omega⟩, ?_⟩
      rw [wp_ob]
      refine ⟨so_37 x.s, ?_⟩
      rw [wp_bnd]
      refine wp_mono (m_does h (hf i (by omega)) a3) (fun y τ h1 => ?_)
      obtain ⟨f1, h1⟩ := h1
      cases e : doA V.P V.a (f i) with
      | none =>
        rw [e] at h1 hk0
        obtain ⟨rfl, h2⟩ := h1
        rw [if_pos rfl]
        exact hk0 τ f1 h2
      | some b =>
        rw [e] at h1 hk0
        obtain ⟨rfl, h2⟩ := h1
        rw [if_neg (by decide), nI_1, ← hag]
        exact ih M (i + 1) (sA V b V.U) τ (by omega) (by omega) (by omega) h2 (fun j hj => (hac j hj).fr f1 rfl) (fun ω f2 h3 => hk0 ω (f1.trans f2) h3)
end mdoes
