/-! PURE 99: a rota read from the text (the reference) -/
section mrota
variable {V : VS} {σ τ υ : Hp} {T : TX}
theorem m_rota (h : MW σ V) (hk : VOK V) : wp (f_X3_rota (some 37) σ) (GoM σ (rtR V).1 (rtR V).2) := by
  have h0 := h
  have h1 := h.thr (v := 0)
  obtain ⟨x, s, t, u, f, r, ch⟩ := h1
  have n8 := x.n8
  have h8 := x.h8
  have t80 := hk.1.1
  obtain ⟨τ1, b1, f1, b2', b3, ms⟩ := m_begun x.s t hk.1 (m := V.P.hrs) (by omega)
  have tt : ∀ {ω : Hp}, hi ω 37 8 = 0 → hr ω 37 18 = some 45 → hr ω 37 19 = some 46 → TM ω (0, V.T.2) := fun h a1 a2 => ⟨h, fun p hp => absurd hp (Nat.not_lt_zero _), a1, a2⟩
  have mk : ∀ {ω : Hp}, Fr [44] [] [15, 16] τ1 ω → MW ω (sT V (0, V.T.2)) ∧ Fr [44] [] [8, 12, 13, 14, 15, 16] (wI σ 37 11 0) ω := fun {ω} g => by
    have ff : Fr [44] [] [8, 12, 13, 14, 15, 16] (wI σ 37 11 0) ω := (f1.mono rfl).trans (g.mono rfl)
    have fs := ff.frs x.s rfl
    exact ⟨⟨x.frs fs rfl, s.frs fs rfl, tt ((g.i rfl).trans b2') ((ff.r rfl).trans t.2.2.1) ((ff.r rfl).trans t.2.2.2), u.frs fs rfl, f.frs fs rfl, r.frs fs rfl, (fs.i (by decide) rfl).trans ch⟩, ff⟩
  unfold f_X3_rota
  rw [wp_pI]
  refine ⟨so_37 h0.1.s, rfl, ?_⟩
  rw [wp_gI, x.h]
  refine ⟨so_37 x.s, ?_⟩
  rw [wp_ob]
  refine ⟨so_37 x.s, ?_⟩
  rw [b1, e_bnd]
  generalize hc : (fun p => if p < min V.T.1 V.P.hrs then V.T.2 p else -1) = c at *
  have hcc : ∀ p, p < V.P.hrs → c p = rtC V.T p := fun p hp => by
    rw [← hc]
    show (if p < min V.T.1 V.P.hrs then V.T.2 p else -1) = if p < V.T.1 then V.T.2 p else -1
    by_cases e : p < V.T.1
    · rw [if_pos e, if_pos (by omega)]
    · rw [if_neg e, if_neg (by omega)]
  generalize hQ : GoM σ (rtR V).1 (rtR V).2 = Q
  generalize hk0 : (fun (_ : Unit) σ => ob 2 σ (some 37) fun _ => bnd (f_X3_wasRight (some 37) σ) fun x18 σ => if x18 = 0 then gI 2 16 σ (some 37) fun x31 => some (((-1) - x31), σ) else gR 2 0 σ (some 37) fun y19 => ob 2 σ (some 37) fun _ => bnd (f_X3_remember (some 37) y19 σ) fun _ σ => lp 2000 (f_X3_rota_b128 (some 37) (fun (a30 : Int32) σ => some (a30, σ))) (0, 0) σ) = k0
  have e13 : ∀ {ω : Hp}, Fr [44] [] [15, 16] τ1 ω → hi ω 37 13 = nI V.T.1 := fun g => (g.i rfl).trans b3
  -- a fault laid at q
  have told : ∀ (ω : Hp) (q : Nat), Fr [44] [] [15, 16] τ1 ω → hi ω 37 16 = nI q → roQ V.P.n V.P.hrs V.T = some q → wp (gI 2 16 ω (some 37) fun x31 => some (((-1) - x31), ω)) Q := fun ω q g e16 hq => by
    obtain ⟨h2, ff⟩ := mk g
    rw [wp_gI, e16]
    refine ⟨so_37 h2.1.s, ?_⟩
    rw [wp_some, ← hQ]
    unfold rtR
    rw [hq]
    exact MVo (h.thr (v := 0)) h h2 ff rfl rfl
  have bad : ∀ (ω : Hp) (q p : Nat), Fr [44] [] [15, 16] τ1 ω → hi ω 37 16 = nI q → q ≤ 80 → hi ω 37 15 = nI p → p ≤ V.T.1 → roQ V.P.n V.P.hrs V.T = some q → wp (k0 () ω) Q := fun ω q p g e16 q80 e15 hp hq => by
    obtain ⟨h2, ff⟩ := mk g
    rw [← hk0]
    dsimp only
    rw [wp_ob]
    refine ⟨so_37 h2.1.s, ?_⟩
    rw [(m_wasRight h2.1.s e15 (e13 g) hp t80).2 (by rw [e16]; exact m1_ne (by omega)), e_bnd, if_pos rfl]
    exact told ω q g e16 hq
  refine wp_up V.P.hrs (fun h y ω => y = nI h ∧ Fr [44] [] [15, 16] τ1 ω ∧ ((MS ω c (min V.T.1 V.P.hrs) h ∧ (∀ q, q < h → rtB V.P.n (rtC V.T q)) ∧ ∀ q, q < h → hi ω 44 q = rtV (rtC V.T q)) ∨ ∃ q p, hi ω 37 16 = nI q ∧ q ≤ 80 ∧ hi ω 37 15 = nI p ∧ p ≤ V.T.1 ∧ roQ V.P.n V.P.hrs V.T = some q)) (fun ag h y ω hh hJ hag => ?_) (fun ag y ω hJ => ?_) (by omega) ⟨rfl, Fr.refl, Or.inl ⟨ms, fun q hq => absurd hq (Nat.not_lt_zero _), fun q hq => absurd hq (Nat.not_lt_zero _)⟩⟩
  · obtain ⟨rfl, g, hJ⟩ := hJ
    obtain ⟨h2, ff⟩ := mk g
    have xw := h2.1
    have e1 : hi ω 37 1 = nI V.P.hrs := xw.h
    unfold f_X3_rota_b15
    rw [wp_gI, e1, if_neg (nI_ge hh (by omega))]
    refine ⟨so_37 xw.s, ?_⟩
    rw [wp_ob]
    refine ⟨so_37 xw.s, ?_⟩
    rw [m_fine xw.s, e_bnd, b2_ite]
    rcases hJ with ⟨mw, k1, k2⟩ | ⟨q, p, e16, q80, e15, hp, hq⟩
    · have e80 := mw.e80
      have hle := mw.2.2.2.2
      rw [if_pos mw.2.2.2.1, wp_ob]
      refine ⟨so_37 xw.s, ?_⟩
      rw [m_here mw, e_bnd, hcc h hh, y_jn]
      have step : ∀ w, w = rtV (rtC V.T h) → (rtC V.T h = 45 ∨ isR (nI V.P.n) w) ∧ rtB V.P.n (rtC V.T h) → wp (gI 2 15 ω (some 37) fun x12 => pI 0 2 15 ω (some 37) (x12 + 1) fun σ => gR 2 17 σ (some 37) fun y13 => sI σ y13 (nI h) w fun σ => ag (nI h + 1) σ) Q := fun w hw hb => by
        have hlt : h < min V.T.1 V.P.hrs := by
          have h3 := (rtB_V n8 hb.2).2.2.1
          exact mw.ends.lt (hcc h hh) h3
        have mw1 := mw.go (q := h + 1) hlt
        rw [wp_gI, mw.2.2.1]
        refine ⟨so_37 xw.s, ?_⟩
        rw [wp_pI]
        refine ⟨so_37 xw.s, rfl, ?_⟩
        rw [nI_1, show wI ω 37 15 (nI (h + 1)) = atM ω (h + 1) from rfl, wp_gR, sp_37_17 mw1.1]
        refine ⟨so_37 mw1.1, ?_⟩
        rw [wp_sI, ix_nI (by omega), sl_44 mw1.1, inb_nI (by omega)]
        refine ⟨⟨so_44 mw1.1, by omega⟩, ?_⟩
        have g2 : Fr [44] [] [] (atM ω (h + 1)) (wI (atM ω (h + 1)) 44 h w) := Fr.refl.putI rfl
        refine hag _ _ ⟨rfl, (g.trans (atM_fr.mono rfl)).putI rfl, Or.inl ⟨⟨sw_I mw1.1, mw1.2.1.fr g2 rfl, (g2.i rfl).trans mw1.2.2.1, (g2.i rfl).trans mw1.2.2.2.1, mw1.2.2.2.2⟩, fun q hq => ?_, fun q hq => ?_⟩⟩
        · by_cases e : q = h
          · rw [e]; exact hb.2
          · exact k1 q (by omega)
        · by_cases e : q = h
          · rw [e, hi_eq, hw]
          · rw [hi_ni e, atM_fr.i (a := 44) rfl]; exact k2 q (by omega)
      by_cases c1 : rtC V.T h = 45
      · rw [if_pos c1, wp_ob]
        refine ⟨so_37 xw.s, ?_⟩
        rw [m_here mw, e_bnd, hcc h hh, y_jn, y_jn, if_pos c1]
        exact step (-1) (by unfold rtV; rw [if_pos c1]) ⟨Or.inl c1, Or.inl c1⟩
      · rw [if_neg c1, wp_ob]
        refine ⟨so_37 xw.s, ?_⟩
        rw [m_here mw, e_bnd, hcc h hh, wp_ob]
        refine ⟨so_37 xw.s, ?_⟩
        rw [m_here mw, e_bnd, hcc h hh, y_jn, y_jn, if_neg c1, wp_ob]
        refine ⟨so_37 xw.s, ?_⟩
        rw [w_isMan xw.s, xw.n, b2_ite]
        have en : (sT V (0, V.T.2)).P.n = V.P.n := rfl
        rw [en]
        by_cases c2 : isR (nI V.P.n) (rtC V.T h - 48)
        · rw [if_pos c2]
          exact step _ (by unfold rtV; rw [if_neg c1]) ⟨Or.inr c2, Or.inr c2⟩
        · rw [if_neg c2, wp_gI, mw.2.2.1]
          refine ⟨so_37 xw.s, ?_⟩
          rw [wp_ob]
          refine ⟨so_37 xw.s, ?_⟩
          rw [m_fault xw.s mw.2.2.2.1, e_bnd]
          refine hag _ _ ⟨by rw [nI_1], g.putI rfl, Or.inr ⟨h, h, hi_eq, by omega, by rw [hi_ni (by decide)]; exact mw.2.2.1, by omega, roQ_at hh (fun z => by rcases z with z | z; exact c1 z; exact c2 z) k1⟩⟩
    · rw [if_neg (by rw [e16]; exact m1_ne (by omega))]
      exact bad ω q p g e16 q80 e15 hp hq
  · obtain ⟨rfl, g, hJ⟩ := hJ
    obtain ⟨h2, ff⟩ := mk g
    have xw := h2.1
    have e1 : hi ω 37 1 = nI V.P.hrs := xw.h
    unfold f_X3_rota_b15
    rw [wp_gI, e1, if_pos (nI_le (Nat.le_refl _) (by omega))]
    refine ⟨so_37 xw.s, ?_⟩
    rcases hJ with ⟨mw, k1, k2⟩ | ⟨q, p, e16, q80, e15, hp, hq⟩
    · have hle := mw.2.2.2.2
      have hq := roQ_end k1
      have wr := (m_wasRight xw.s mw.2.2.1 (e13 g) (by omega) t80).1 mw.2.2.2.1
      rw [← hk0]
      dsimp only
      rw [wp_ob]
      refine ⟨so_37 xw.s, ?_⟩
      by_cases c1 : V.P.hrs = V.T.1
      · rw [if_neg (by omega)] at hq
        rw [if_pos c1, b2, if_pos c1] at wr
        rw [wr, e_bnd, if_neg (by decide), wp_gR, sp_37_0 xw.s]
        refine ⟨so_37 xw.s, ?_⟩
        rw [wp_ob]
        refine ⟨so_37 xw.s, ?_⟩
        rw [wp_bnd]
        refine wp_mono (m_rem1 h2 (t0_ok hk)) (fun _ τ3 h3 => ?_)
        obtain ⟨f3, h3⟩ := h3
        have x3 := h3.1
        have k3 : ∀ q, q < V.P.hrs → hi τ3 44 q = rtV (rtC V.T q) := fun q hq => (f3.i rfl).trans (k2 q hq)
        refine wp_up 8 (fun i y τ => y = (nI (roN V.T (min i V.P.hrs)), nI i) ∧ Fr [38] [] [] τ3 τ ∧ (∀ j, j < 8 → hi τ 38 j = if j < i then (roH V.a V.T V.P.hrs).rota j else V.a.rota j) ∧ ∀ j, 8 ≤ j → hi τ 38 j = hi τ3 38 j) (fun ag i y τ hi' hJ hag => ?_) (fun ag y τ hJ => ?_) (by decide) ⟨by rw [Nat.zero_min]; rfl, Fr.refl, fun j hj => by rw [if_neg (Nat.not_lt_zero _)]; exact x3.ro j hj, fun _ _ => rfl⟩
        · obtain ⟨rfl, g4, m1, m2⟩ := hJ
          have hτ := g4.sh x3.s rfl
          have e1' : hi τ 37 1 = nI V.P.hrs := (g4.i rfl).trans x3.h
          unfold f_X3_rota_b128
          rw [n_8, if_neg (nI_ge hi' (by decide)), wp_gR, sp_37_0 hτ]
          refine ⟨so_37 hτ, ?_⟩
          rw [wp_gI, e1']
          refine ⟨so_37 hτ, ?_⟩
          have go : ∀ w, w = (roH V.a V.T V.P.hrs).rota i → wp (sI τ (some 38) (nI i) w fun σ => gR 2 0 σ (some 37) fun y24 => lI 100 σ y24 (nI i) fun x25 => jn (fun (a26 : Int32) σ => ag ((nI (roN V.T (min i V.P.hrs)) + a26), (nI i + 1)) σ) fun j27 => if x25 = (-1) then j27 0 σ else j27 1 σ) Q := fun w hw => by
            rw [wp_sI, ix_nI (by omega), sl_38 hτ, inb_nI (by omega)]
            refine ⟨⟨so_38 hτ, by omega⟩, ?_⟩
            have s4 : Sh (wI τ 38 i w) := sw_I hτ
            rw [wp_gR, sp_37_0 s4]
            refine ⟨so_37 s4, ?_⟩
            rw [wp_lI, ix_nI (by omega), sl_38 s4, inb_nI (by omega), hi_eq]
            refine ⟨⟨so_38 s4, by omega⟩, ?_⟩
            have fin : ∀ k, roN V.T (min i V.P.hrs) + k = roN V.T (min (i + 1) V.P.hrs) → wp (ag (nI (roN V.T (min i V.P.hrs)) + nI k, nI i + 1) (wI τ 38 i w)) Q := fun k hk' => by
              rw [nI_1, nI_add, hk']
              refine hag _ _ ⟨rfl, g4.putI rfl, fun j hj => ?_, fun j hj => by rw [hi_ni (by omega)]; exact m2 j hj⟩
              by_cases e : j = i
              · rw [e, hi_eq, if_pos (Nat.lt_succ_self i), hw]
              · rw [hi_ni e, m1 j hj]
                by_cases e2 : j < i
                · rw [if_pos e2, if_pos (by omega)]
                · rw [if_neg e2, if_neg (by omega)]
            rw [y_jn]
            by_cases e : i < V.P.hrs
            · have hwv : w = rtV (rtC V.T i) := by rw [hw]; exact if_pos e
              have hB := (rtB_V n8 (k1 i e)).2.1
              have st : roN V.T (i + 1) = roN V.T i + (!decide (rtC V.T i = 45)).toNat := rfl
              rw [Nat.min_eq_left (show i ≤ V.P.hrs by omega), Nat.min_eq_left (show i + 1 ≤ V.P.hrs by omega)] at fin
              rw [Nat.min_eq_left (show i ≤ V.P.hrs by omega)]
              by_cases c45 : rtC V.T i = 45
              · rw [if_pos (hwv.trans (hB.mpr c45))]
                exact fin 0 (by rw [st, decide_eq_true c45]; rfl)
              · rw [if_neg (fun z => c45 (hB.mp (hwv.symm.trans z)))]
                exact fin 1 (by rw [st, decide_eq_false c45]; rfl)
            · have hwv : w = -1 := by rw [hw]; exact if_neg e
              rw [if_pos hwv]
              exact fin 0 (by rw [Nat.min_eq_right (by omega), Nat.min_eq_right (by omega)]; rfl)
          rw [y_jn, ite_le (by omega) (by omega)]
          by_cases c2 : V.P.hrs ≤ i
          · rw [if_pos c2]
            exact go _ (by show _ = if i < V.P.hrs then _ else (-1 : Int32); rw [if_neg (by omega)])
          · rw [if_neg c2, wp_gR, sp_37_17 hτ]
            refine ⟨so_37 hτ, ?_⟩
            rw [wp_lI, ix_nI (by omega), sl_44 hτ, inb_nI (by omega), g4.i (σ := τ3) (a := 44) rfl, k3 i (by omega)]
            refine ⟨⟨so_44 hτ, by omega⟩, ?_⟩
            exact go _ (by show _ = if i < V.P.hrs then rtV (rtC V.T i) else (-1 : Int32); rw [if_pos (by omega)])
        · obtain ⟨rfl, g4, m1, m2⟩ := hJ
          unfold f_X3_rota_b128
          rw [n_8, if_pos (nI_le (Nat.le_refl _) (by decide)), wp_some, ← hQ]
          unfold rtR
          rw [hq]
          have hcm : MH τ 38 0 (roH V.a V.T V.P.hrs) := MH.rotas (r := (roH V.a V.T V.P.hrs).rota) x3.2.2.2.1 (fun j hj => by rw [m1 j hj, if_pos hj]) m2
          have h4 := h3.horse g4 rfl hcm (roH_ok n8 x3.ok k1)
          have fall : Fr [38, 44, 48] [] [8, 12, 13, 14, 15, 16, 24] (wI σ 37 11 0) τ := ((ff.mono rfl).trans (f3.mono rfl)).trans (g4.mono rfl)
          have := MVo (h.thr (v := 0)) h (r := nI (roN V.T V.P.hrs)) h4 fall rfl rfl
          rw [Nat.min_eq_right h8]
          exact this
      · rw [if_pos (by omega)] at hq
        rw [if_neg c1, b2, if_neg c1] at wr
        rw [wr, e_bnd, if_pos rfl]
        exact told _ V.P.hrs (g.putI rfl) hi_eq hq
    · exact bad ω q p g e16 q80 e15 hp hq
end mrota
