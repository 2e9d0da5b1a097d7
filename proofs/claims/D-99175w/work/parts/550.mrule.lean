/-! PURE 94: a rule read from the text (the reference) -/
section mrule
variable {V : VS} {σ τ υ : Hp} {P : Pk} {a : HS} {T : TX} {c : Nat → Int32} {e p m n q : Nat} {o : Option RE}
/-- the reference begins to read -/
theorem m_begun (hs : Sh σ) (t : TM σ T) (ok : TOK T) (m80 : m ≤ 80) : ∃ τ, f_X3_beginText (some 37) (nI m) σ = some ((), τ) ∧ Fr [] [] [8, 12, 13, 14, 15, 16] σ τ ∧ hi τ 37 8 = 0 ∧ hi τ 37 13 = nI T.1 ∧ MS τ (fun p => if p < min T.1 m then T.2 p else -1) (min T.1 m) 0 := by
  have t80 := ok.1
  have o := so_37 hs
  refine ⟨wI (wI (wI (wI (wI (wR σ 37 12 (some 42)) 37 13 (nI T.1)) 37 14 (nI m)) 37 15 0) 37 16 (-1)) 37 8 0, ?_, ?_, hi_eq, ?_, ?_⟩
  · unfold f_X3_beginText
    rw [e_gR o, sp_37_7 hs, e_gI o, t.1, e_ob o, m_begin hs, e_bnd, e_pI (show Ok (wI (wI (wI (wI (wR σ 37 12 (some 42)) 37 13 (nI T.1)) 37 14 (nI m)) 37 15 0) 37 16 (-1)) 37 2 from o)]
  · exact (((((Fr.refl.putR rfl).putI rfl).putI rfl).putI rfl).putI rfl).putI rfl
  · rw [hi_ni (by decide), hi_ni (by decide), hi_ni (by decide), hi_ni (by decide), hi_eq]
  · have f : Fr [] [] [8, 12, 13, 14, 15, 16] σ (wI (wI (wI (wI (wI (wR σ 37 12 (some 42)) 37 13 (nI T.1)) 37 14 (nI m)) 37 15 0) 37 16 (-1)) 37 8 0) := (((((Fr.refl.putR rfl).putI rfl).putI rfl).putI rfl).putI rfl).putI rfl
    have hτ := f.sh hs rfl
    refine ⟨hτ, ⟨ends_cut T m, 42, T.1, m, Or.inl rfl, (show hr (wR σ 37 12 (some 42)) 37 12 = some 42 from hr_eq), ?_, ?_, by omega, by omega, rfl, by rw [sl_42 hτ]; omega, fun p hp => ?_⟩, ?_, ?_, Nat.zero_le _⟩
    · rw [hi_ni (by decide), hi_ni (by decide), hi_ni (by decide), hi_ni (by decide), hi_eq]
    · rw [hi_ni (by decide), hi_ni (by decide), hi_ni (by decide), hi_eq]
    · have h1 := t.2.1 p (by omega)
      have e1 : (if p < min T.1 m then T.2 p else -1) = T.2 p := if_pos hp
      dsimp only
      rw [e1, f.i (σ := σ) rfl]
      exact h1
    · rw [hi_ni (by decide), hi_ni (by decide), hi_eq]; rfl
    · rw [hi_ni (by decide), hi_eq]
/-- whether all was read rightly: at q of n, wrong or not -/
theorem m_wasRight (hs : Sh σ) (e15 : hi σ 37 15 = nI q) (e13 : hi σ 37 13 = nI n) (hqn : q ≤ n) (hn' : n ≤ 80) : (hi σ 37 16 = -1 → f_X3_wasRight (some 37) σ = some (b2 (q = n), if q = n then σ else wI σ 37 16 (nI q))) ∧ (¬ hi σ 37 16 = -1 → f_X3_wasRight (some 37) σ = some (0, σ)) := by
  have o := so_37 hs
  constructor
  · intro hw
    unfold f_X3_wasRight jn
    dsimp only
    rw [e_gI o, e15, e_gI o, e13, ite_le (by omega) (by omega)]
    by_cases h : q = n
    · rw [if_pos (by omega), e_ob o, m_fine hs, e_bnd, e_rzb, if_pos h, b2, b2, if_pos hw, if_pos h]
    · have hs2 : Sh (wI σ 37 16 (nI q)) := sw_I hs
      rw [if_neg (by omega), e_gI o, e15, e_ob o, m_fault hs hw, e_bnd, e_ob (so_37 hs2), m_fine hs2, e_bnd, e_rzb, if_neg h, b2, b2, hi_eq, if_neg (m1_ne (by omega)), if_neg h]
  · intro hw
    unfold f_X3_wasRight jn
    dsimp only
    rw [e_gI o, e15, e_gI o, e13, ite_le (by omega) (by omega)]
    have e0 : b2 (hi σ 37 16 = -1) = 0 := by rw [b2, if_neg hw]
    by_cases h : n ≤ q
    · rw [if_pos h, e_ob o, m_fine hs, e_bnd, e_rzb, e0]
    · rw [if_neg h, e_gI o, e15, e_ob o, m_fault' hs hw, e_bnd, e_ob o, m_fine hs, e_bnd, e_rzb, e0]
/-- a rule read: whether it was right, where not -/
theorem m_readRule (hs : Sh σ) (t : TM σ T) (ok : TOK T) : wp (f_X3_readRule (some 37) σ) (fun x τ => Fr [] [] [8, 12, 13, 14, 15, 16, 21] σ τ ∧ hi τ 37 8 = 0 ∧ (match ruO T with
    | none => x = 0 ∧ hi τ 37 16 = nI (ruQ T)
    | some _ => x = 1)) := by
  have t80 := ok.1
  obtain ⟨τ1, b1, f1, b2', b3, ms⟩ := m_begun hs t ok (m := 40) (by decide)
  have s1 := ms.1
  unfold f_X3_readRule
  rw [wp_ob]
  refine ⟨so_37 hs, ?_⟩
  rw [show (40 : Int32) = nI 40 from rfl, b1, e_bnd, wp_pI]
  refine ⟨so_37 s1, rfl, ?_⟩
  have g1 : Fr [] [] [21] τ1 (wI τ1 37 21 0) := Fr.refl.putI rfl
  have ms2 : MS (wI τ1 37 21 0) (fun p => if p < min T.1 40 then T.2 p else -1) (min T.1 40) 0 := ⟨sw_I s1, ms.2.1.fr g1 rfl, (g1.i rfl).trans ms.2.2.1, (g1.i rfl).trans ms.2.2.2.1, ms.2.2.2.2⟩
  have f2 : Fr [] [] [8, 12, 13, 14, 15, 16, 21] σ (wI τ1 37 21 0) := (f1.mono rfl).putI rfl
  have e8 : hi (wI τ1 37 21 0) 37 8 = 0 := (g1.i rfl).trans b2'
  have e13 : hi (wI τ1 37 21 0) 37 13 = nI T.1 := (g1.i rfl).trans b3
  have s2 := ms2.1
  generalize wI τ1 37 21 0 = ω at *
  rw [wp_gI, e13]
  refine ⟨so_37 s2, ?_⟩
  rw [y_jn, ite_le0 (by omega)]
  by_cases h0 : T.1 = 0
  · have hw := (m_wasRight (q := 0) (n := T.1) s2 ms2.2.2.1 e13 (Nat.zero_le _) t80).1 ms2.2.2.2.1
    rw [if_pos h0.symm] at hw
    have e : ruO T = some none := by unfold ruO; rw [if_pos h0]
    rw [if_pos h0, wp_ob]
    refine ⟨so_37 s2, ?_⟩
    rw [hw, e_bnd, e_rzb, wp_some, e]
    exact ⟨f2, e8, by rw [b2, if_pos h0.symm]⟩
  · rw [if_neg h0, wp_ob]
    refine ⟨so_37 s2, ?_⟩
    obtain ⟨x, r1, -⟩ := m_heldBy ms2 (show min T.1 40 ≤ 40 by omega)
    have hq := (ruleP_good (ends_cut T 40) (show min T.1 40 ≤ 40 by omega)).1
    have hq' : ruQ T ≤ min T.1 40 := hq
    have hO : ruO T = (match (ruleP (ruC T)).1 with
      | none => none
      | some E => if ruQ T = T.1 then some (some E) else none) := by unfold ruO; rw [if_neg h0]; rfl
    rw [r1, e_bnd]
    have fE : Fr [] [] [15, 16] ω (endM ω (ruleP (ruC T))) := endM_fr
    have sE := fE.sh s2 rfl
    have e13' : hi (endM ω (ruleP (ruC T))) 37 13 = nI T.1 := (fE.i rfl).trans e13
    have e8' : hi (endM ω (ruleP (ruC T))) 37 8 = 0 := (fE.i rfl).trans e8
    have fall : Fr [] [] [8, 12, 13, 14, 15, 16, 21] σ (endM ω (ruleP (ruC T))) := f2.then fE rfl
    show wp (ob 2 (endM ω (ruleP (ruC T))) (some 37) fun _ => bnd (f_X3_wasRight (some 37) (endM ω (ruleP (ruC T)))) fun x4 σ => rz1 x4 σ) _
    rw [wp_ob]
    refine ⟨so_37 sE, ?_⟩
    rw [hO]
    rcases hP : ruleP (ruC T) with ⟨z, q⟩
    have hqq : ruQ T = q := by unfold ruQ; rw [hP]
    rw [hP] at fE sE e13' e8' fall
    rw [hqq] at hq' ⊢
    cases z with
    | none =>
      have e15 : hi (endM ω (none, q)) 37 15 = nI q := by
        show hi (wI (wI ω 37 15 (nI q)) 37 16 (nI q)) 37 15 = _
        rw [hi_ni (by decide), hi_eq]
      have e16 : hi (endM ω (none, q)) 37 16 = nI q := hi_eq
      have hw := (m_wasRight (q := q) (n := T.1) sE e15 e13' (by omega) t80).2 (by rw [e16]; exact m1_ne (by omega))
      rw [hw, e_bnd, e_rz0, wp_some]
      exact ⟨fall, e8', rfl, e16⟩
    | some E =>
      have e15 : hi (endM ω (some E, q)) 37 15 = nI q := hi_eq
      have e16 : hi (endM ω (some E, q)) 37 16 = -1 := by
        show hi (wI ω 37 15 (nI q)) 37 16 = _
        rw [hi_ni (by decide)]; exact ms2.2.2.2.1
      have hw := (m_wasRight (q := q) (n := T.1) sE e15 e13' (by omega) t80).1 e16
      rw [hw, e_bnd, e_rzb, wp_some]
      dsimp only
      by_cases h2 : q = T.1
      · rw [if_pos h2, if_pos h2]
        exact ⟨fall, e8', by rw [b2, if_pos h2]⟩
      · rw [if_neg h2, if_neg h2]
        exact ⟨fall.putI rfl, by rw [hi_ni (by decide)]; exact e8', by rw [b2, if_neg h2], hi_eq⟩
/-- the text copied into a rule's bytes -/
theorem TxM_copy {b : Nat} (h : ∀ p, p < n → hi τ b p = vp_nar .byte (hi σ 42 p)) (ht : ∀ p, p < n → T.2 p = hi σ 42 p &&& 255 ∧ (T.2 p < 128 → hi σ 42 p = T.2 p)) (hT : T.1 = n) (n40 : n ≤ 40) : TxM τ b n (ruC T) := by
  have e : min T.1 40 = n := by omega
  refine ⟨fun p hp => if_neg (by omega), fun p hp => ?_⟩
  have e1 : ruC T p = T.2 p := if_pos (by omega)
  rw [e1, h p hp, (ht p hp).1]
  exact byt2 _
theorem ruO_some (h : ruO T = some o) : T.1 ≤ 40 ∧ (match o with
    | none => T.1 = 0
    | some E => 0 < T.1 ∧ ruleP (ruC T) = (some E, T.1)) := by
  unfold ruO at h
  by_cases h0 : T.1 = 0
  · rw [if_pos h0] at h; cases h; exact ⟨by omega, h0⟩
  · rw [if_neg h0] at h
    have hq := (ruleP_good (ends_cut T 40) (show min T.1 40 ≤ 40 by omega)).1
    have hq' : (ruleP (ruC T)).2 ≤ min T.1 40 := hq
    rcases hP : ruleP (ruC T) with ⟨z, q⟩
    rw [hP] at h hq'
    cases z with
    | none => cases h
    | some E =>
      dsimp only at h hq'
      by_cases h2 : q = T.1
      · rw [if_pos h2] at h; cases h; subst h2; exact ⟨by omega, by omega, rfl⟩
      · rw [if_neg h2] at h; cases h
theorem RM_of {b : Nat} (hb : b = 45 ∨ b = 46) (h1 : hr τ 37 18 = some b) (h2 : hi τ 37 20 = nI T.1) (hx : T.1 ≤ 40 → TxM τ b T.1 (ruC T)) (hO : ruO T = some o) : RM τ o := by
  obtain ⟨h40, h3⟩ := ruO_some hO
  cases o with
  | none => dsimp only at h3; show hi τ 37 20 = 0; rw [h2, h3]; rfl
  | some E => exact ⟨b, T.1, ruC T, hb, h1, h2, h3.1, h40, hx h40, h3.2⟩
theorem m_rule (h : MW σ V) (hk : VOK V) : wp (f_X3_rule (some 37) σ) (GoM σ (ruR V).1 (ruR V).2) := by
  have h1 := h.thr (v := 0)
  obtain ⟨x, s, t, u, f, r, ch⟩ := h1
  have t80 := hk.1.1
  unfold f_X3_rule ruR
  rw [wp_pI]
  refine ⟨so_37 h.1.s, rfl, ?_⟩
  rw [wp_gI, t.1]
  refine ⟨so_37 x.s, ?_⟩
  rw [wp_ob]
  refine ⟨so_37 x.s, ?_⟩
  rw [wp_bnd]
  refine wp_mono (m_readRule x.s t hk.1) (fun y τ h2 => ?_)
  obtain ⟨f1, e8, h3⟩ := h2
  have fs := f1.frs x.s rfl
  have hτ := f1.sh x.s rfl
  have tt : ∀ {ω : Hp}, hi ω 37 8 = 0 → hr ω 37 18 = some 45 → hr ω 37 19 = some 46 → TM ω (0, V.T.2) := fun h a1 a2 => ⟨h, fun p hp => absurd hp (Nat.not_lt_zero _), a1, a2⟩
  have r18 : hr τ 37 18 = some 45 := (f1.r rfl).trans t.2.2.1
  have r19 : hr τ 37 19 = some 46 := (f1.r rfl).trans t.2.2.2
  cases hO : ruO V.T with
  | none =>
    rw [hO] at h3
    dsimp only at h3 ⊢
    obtain ⟨rfl, e16⟩ := h3
    rw [if_pos rfl, wp_gI, e16]
    refine ⟨so_37 hτ, ?_⟩
    rw [wp_some]
    have h4 : MW τ (sT V (0, V.T.2)) := ⟨x.frs fs rfl, s.frs fs rfl, tt e8 r18 r19, u.frs fs rfl, f.frs fs rfl, r.frs fs rfl, (fs.i (by decide) rfl).trans ch⟩
    exact MVo (h.thr (v := 0)) h h4 f1 rfl rfl
  | some o =>
    rw [hO] at h3
    dsimp only at h3 ⊢
    subst h3
    obtain ⟨h40, -⟩ := ruO_some hO
    rw [if_neg (by decide)]
    generalize hς : wI σ 37 11 0 = ς at *
    generalize hQ : GoM σ (0, sT (sP V (rlP V.P o)) (0, V.T.2)).1 (0, sT (sP V (rlP V.P o)) (0, V.T.2)).2 = Q
    refine wp_up V.T.1 (fun i y ω => y = nI i ∧ Fr [45] [] [] τ ω ∧ ∀ p, p < i → hi ω 45 p = vp_nar .byte (hi τ 42 p)) (fun ag i y ω hi' hJ hag => ?_) (fun ag y ω hJ => ?_) (by omega) ⟨rfl, Fr.refl, fun p hp => absurd hp (Nat.not_lt_zero _)⟩
    · obtain ⟨rfl, g, k1⟩ := hJ
      have hω := g.sh hτ rfl
      unfold f_X3_rule_b26
      rw [if_neg (nI_ge hi' (by omega)), wp_gR, g.r (σ := τ) (a := 37) (i := 18) rfl, r18]
      refine ⟨so_37 hω, ?_⟩
      rw [wp_gR, sp_37_7 hω]
      refine ⟨so_37 hω, ?_⟩
      rw [wp_lI, ix_nI (by omega), sl_42 hω, inb_nI (by omega), g.i (σ := τ) (a := 42) rfl]
      refine ⟨⟨so_42 hω, by omega⟩, ?_⟩
      rw [wp_sB, ix_nI (by omega), sl_45 hω, inb_nI (by omega), nI_1]
      refine ⟨⟨so_45 hω, by omega⟩, hag _ _ ⟨rfl, g.putI rfl, fun p hp => ?_⟩⟩
      by_cases e : p = i
      · rw [e, hi_eq]
      · rw [hi_ni e]; exact k1 p (by omega)
    · obtain ⟨rfl, g, k1⟩ := hJ
      have hω := g.sh hτ rfl
      unfold f_X3_rule_b26
      rw [if_pos (nI_le (Nat.le_refl _) (by omega)), wp_pI]
      refine ⟨so_37 hω, rfl, ?_⟩
      rw [wp_some, ← hQ]
      have g2 : Fr [45] [] [20] τ (wI ω 37 20 (nI V.T.1)) := (g.mono rfl).putI rfl
      have f2 : Fr [45] [] [8, 12, 13, 14, 15, 16, 20, 21] ς (wI ω 37 20 (nI V.T.1)) := (f1.mono rfl).trans (g2.mono rfl)
      have fs2 := f2.frs x.s rfl
      have w18 : hr (wI ω 37 20 (nI V.T.1)) 37 18 = some 45 := (g2.r rfl).trans r18
      have w19 : hr (wI ω 37 20 (nI V.T.1)) 37 19 = some 46 := (g2.r rfl).trans r19
      have rm : RM (wI ω 37 20 (nI V.T.1)) o := RM_of (T := V.T) (Or.inl rfl) w18 hi_eq (fun n40 => TxM_copy (σ := τ) (fun p hp => by rw [hi_ne (show 45 ≠ 37 by decide)]; exact k1 p hp) (fun p hp => by rw [f1.i (σ := ς) (a := 42) rfl]; exact t.2.1 p hp) rfl n40) hO
      have cp : MP (wI ω 37 20 (nI V.T.1)) (rlP V.P o) := by
        refine ⟨(fs2.i (by decide) rfl).trans x.2.1.1, (fs2.i (by decide) rfl).trans x.2.1.2.1, (fs2.i (by decide) rfl).trans x.2.1.2.2.1, fun r hr' => ?_, rm⟩
        rw [fs2.i (a := 39) (by decide) rfl, fs2.i (a := 40) (by decide) rfl, fs2.i (a := 41) (by decide) rfl]
        exact x.2.1.2.2.2.1 r hr'
      have h4 : MW (wI ω 37 20 (nI V.T.1)) (sT (sP V (rlP V.P o)) (0, V.T.2)) := ⟨⟨fs2.sh x.s rfl, cp, x.pk, x.2.2.2.1.frs fs2 (by decide) (by decide) (by decide) rfl, x.ok⟩, s.frs fs2 rfl, tt ((g2.i rfl).trans e8) w18 w19, u.frs fs2 rfl, f.frs fs2 rfl, r.frs fs2 rfl, (fs2.i (by decide) rfl).trans ch⟩
      subst hς
      exact MVo (h.thr (v := 0)) h h4 f2 rfl rfl
theorem m_hardRota (x : MX σ P a) : wp (f_X3_hardOfRota (some 37) σ) (fun v τ => v = rhI P a P.hrs ∧ Fr [47] [] [12, 13, 14, 15, 16, 21] σ τ) := by
  have x0 := x
  have n8 := x.n8
  have h8 := x.h8
  unfold f_X3_hardOfRota
  refine wp_up P.hrs (fun h y τ => y = (rhI P a h, nI h) ∧ Fr [47] [] [12, 13, 14, 15, 16, 21] σ τ) (fun ag h y τ hh hJ hag => ?_) (fun ag y τ hJ => ?_) (by omega) ⟨rfl, Fr.refl⟩
  · obtain ⟨rfl, f⟩ := hJ
    replace x := x0.fr f rfl
    have st : rhI P a (h + 1) = rhI P a h + (if a.rota h = -1 then 0 else hardI P a (ix (a.rota h)) h) := rfl
    unfold f_X3_hardOfRota_b4
    rw [wp_gI, x.h, if_neg (nI_ge hh (by omega))]
    refine ⟨so_37 x.s, ?_⟩
    rw [wp_gR, sp_37_0 x.s]
    refine ⟨so_37 x.s, ?_⟩
    rw [wp_lI, ix_nI (by omega), sl_38 x.s, inb_nI (by omega), x.ro h (by omega)]
    refine ⟨⟨so_38 x.s, by omega⟩, ?_⟩
    rw [y_jn]
    rcases x.ok.2 h (by omega) with er | ⟨r, hr', er⟩
    · rw [er, if_pos rfl, nI_1]
      exact hag _ _ ⟨by rw [st, er, if_pos rfl], f⟩
    · rw [er, if_neg (m1_ne (by omega)), wp_gR, sp_37_0 x.s]
      refine ⟨so_37 x.s, ?_⟩
      rw [wp_gR, sp_37_0 x.s]
      refine ⟨so_37 x.s, ?_⟩
      rw [wp_lI, ix_nI (by omega), sl_38 x.s, inb_nI (by omega), x.ro h (by omega), er]
      refine ⟨⟨so_38 x.s, by omega⟩, ?_⟩
      rw [wp_ob]
      refine ⟨so_37 x.s, ?_⟩
      rw [wp_bnd]
      refine wp_mono (m_hard x hr' (show h < 8 by omega)) (fun y τ2 h2 => ?_)
      obtain ⟨rfl, f2⟩ := h2
      rw [nI_1]
      exact hag _ _ ⟨by rw [st, er, if_neg (m1_ne (by omega)), ix_nI (by omega)], f.then f2 rfl⟩
  · obtain ⟨rfl, f⟩ := hJ
    replace x := x0.fr f rfl
    unfold f_X3_hardOfRota_b4
    rw [wp_gI, x.h, if_pos (nI_le (Nat.le_refl _) (by omega)), wp_some]
    exact ⟨so_37 x.s, rfl, f⟩
end mrule
