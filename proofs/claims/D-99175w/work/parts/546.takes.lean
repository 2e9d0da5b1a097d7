/-! PURE 92: a rota taken -/
def tkH (a : HS) (t : Nat → Nat) (n : Nat) : HS := ((fun h => if h < n then nI (t h) else a.rota h), a.2)
def tkN (a : HS) (t : Nat → Nat) (n : Nat) : Nat := cnt (fun h => !decide (a.rota h = nI (t h))) n
noncomputable def tkT (P : Pk) (a : HS) (v : Nat) : Nat → Nat := (layS P 1000000 (prH P a) v (mayOf P a 0) P.hrs).2
noncomputable def tkR (V : VS) : Int32 × VS := match lstO V.P (mayOf V.P V.a 0) 1000000 (prH V.P V.a) with
  | none => (-2, V)
  | some v => (nI (tkN V.a (tkT V.P V.a v) V.P.hrs), sA V (tkH V.a (tkT V.P V.a v) V.P.hrs) (psh V.U V.a))
theorem tk_ok {V : VS} (h : VOK V) (ha : HOK V.P.n V.a) : VOK (tkR V).2 := by
  unfold tkR
  split
  · exact h
  · exact psh_vok h ha _
section takes
variable {V : VS} {σ τ υ : Hp} {P : Pk} {a : HS} {s t : Nat} {r : Nat → Int32}
theorem CH.rotas {D F G : List Nat} (h : CH σ s a) (f : Fr D F G σ τ) (h0 : s ≠ 0) (hs : s < 35 ∨ 37 < s) (d0 : D.contains s = false) (d2 : D.contains (s + 2) = false) (hr' : ∀ j, j < 8 → hi τ (s + 1) j = r j) : CH τ s (r, a.2) := by
  obtain ⟨⟨q1, q2, q3, q4, q5, q6, q7⟩, q8, q9, q10, q11, q12, q13⟩ := h
  have e0 : ∀ i, dn D F G s i = true := fun i => dn_out d0 h0 (by omega)
  have e2 : ∀ i, dn D F G (s + 2) i = true := fun i => dn_out d2 (by omega) (by omega)
  exact ⟨⟨f.ok q1, (f.r (dn_nil (e0 0))).trans q2, (f.r (dn_nil (e0 1))).trans q3, f.ok q4, by rw [f.k]; exact q5, f.ok q6, by rw [f.k]; exact q7⟩, hr', fun j hj => (f.i (e2 j)).trans (q9 j hj), (f.i (e0 2)).trans q10, (f.i (e0 3)).trans q11, (f.i (e0 4)).trans q12, (f.i (e0 5)).trans q13⟩
theorem MH.rotas (h : MH σ t 0 a) (h1 : ∀ j, j < 8 → hi τ t j = r j) (h2 : ∀ j, 8 ≤ j → hi τ t j = hi σ t j) : MH τ t 0 (r, a.2) := by
  obtain ⟨q1, q2, q3, q4, q5, q6⟩ := h
  refine ⟨fun j hj => by rw [Nat.zero_add]; exact h1 j hj, fun j hj => by rw [h2 _ (by omega)]; exact q2 j hj, fun j hj => by rw [h2 _ (by omega)]; exact q3 j hj, by rw [h2 _ (by omega)]; exact q4, by rw [h2 _ (by omega)]; exact q5, by rw [h2 _ (by omega)]; exact q6⟩
theorem tk_hok {t : Nat → Nat} {n : Nat} (h : HOK P.n a) (ht : ∀ k, k < n → t k < P.n) : HOK P.n (tkH a t n) := ⟨h.1, fun j hj => by
  show okR P.n (if j < n then nI (t j) else a.rota j)
  by_cases c : j < n
  · rw [if_pos c]; exact Or.inr ⟨_, ht j c, rfl⟩
  · rw [if_neg c]; exact h.2 j hj⟩
theorem CV.scr (h : CV σ V) (f : Fr CD CF [] σ τ) (s : SC τ) (r : RwC σ τ none) : CV τ V := (h.qu (r := 0) (x := 0) (w := none) ⟨rfl, f, s, r⟩).2.1
theorem MW.scr (h : MW σ V) (f : Fr MD [] MG σ τ) (s : SM τ) (r : RwM σ τ none) : MW τ V := (h.qu (r := 0) (x := 0) (w := none) ⟨rfl, f, s, r⟩).2.1
theorem c_takes2 (h : CV σ V) : wp (f_X1_takes_2 (some 0) σ) (GoC σ 3 (tkR V).1 (tkR V).2) := by
  have x := h.1
  have h8 := x.h8
  have sc := h.2.1
  unfold f_X1_takes_2 tkR
  rw [wp_ob]
  refine ⟨so_0 x.s, ?_⟩
  rw [wp_bnd, show (0 : Int32) = nI 0 from rfl]
  refine wp_mono (c_easiestBut x sc (w := 0) (by decide)) (fun y τ h1 => ?_)
  obtain ⟨rfl, f1, ld⟩ := h1
  have g1 : Fr CD CF [] σ τ := f1.mono rfl
  have h1 : CV τ V := h.scr g1 ld.sc (RwC.fr f1 rfl)
  have x1 := h1.1
  cases hl2 : lstO V.P (mayOf V.P V.a 0) 1000000 (prH V.P V.a) with
  | none =>
    rw [Option.getD_none, if_pos (by rw [show (1000000 : Int32) = nI 1000000 from rfl]), wp_some]
    exact ⟨rfl, h1, CD, CF, (g1.frs x.s rfl).mono rfl (Nat.zero_le _), rfl⟩
  | some v =>
    have v8 := lst_le (prH_le V.P V.a) hl2
    dsimp only
    rw [Option.getD_some, if_neg (by rw [show (1000000 : Int32) = nI 1000000 from rfl, nI_eq_l (by omega) (by decide)]; omega), wp_ob]
    refine ⟨so_0 x1.s, ?_⟩
    rw [wp_bnd]
    refine wp_mono (c_laysTurn x1 ld.1 mayOf_ok ld.2.1 (prH_le V.P V.a) ld.2.2.1 (by decide) ld.2.2.2 hl2) (fun _ τ2 h2 => ?_)
    obtain ⟨f2, z2, ht⟩ := h2
    have tl := layS_lt (P := V.P) (lim := 1000000) (pr := prH V.P V.a) hl2 V.P.hrs (Nat.le_refl _)
    have h2 : CV τ2 V := h1.scr (f2.mono rfl) ⟨(f2.i rfl).trans ld.2.2.1, z2⟩ (RwC.fr f2 rfl)
    have x2 := h2.1
    rw [wp_gR, sp_0_0 x2.s]
    refine ⟨so_0 x2.s, ?_⟩
    rw [wp_ob]
    refine ⟨so_0 x2.s, ?_⟩
    rw [wp_bnd]
    refine wp_mono (c_puts1 h2) (fun _ τ3 h3 => ?_)
    obtain ⟨fs3, h3⟩ := h3
    have x3 := h3.1
    have t3 : ∀ k, k < V.P.hrs → hi τ3 29 k = nI (tkT V.P V.a v k) := fun k hk' => (fs3.i (by decide) rfl).trans (ht k hk')
    unfold tkT at t3 ⊢
    generalize (layS V.P 1000000 (prH V.P V.a) v (mayOf V.P V.a 0) V.P.hrs).2 = t at *
    generalize hQ : GoC σ 3 (nI (tkN V.a t V.P.hrs), sA V (tkH V.a t V.P.hrs) (psh V.U V.a)).1 (nI (tkN V.a t V.P.hrs), sA V (tkH V.a t V.P.hrs) (psh V.U V.a)).2 = Q
    refine wp_up V.P.hrs (fun i y τ => y = (nI (tkN V.a t i), nI i) ∧ Fr [2] [] [] τ3 τ ∧ ∀ j, j < 8 → hi τ 2 j = if j < i then nI (t j) else V.a.rota j) (fun ag i y τ hi' hJ hag => ?_) (fun ag y τ hJ => ?_) (by omega) ⟨rfl, Fr.refl, fun j hj => by rw [if_neg (Nat.not_lt_zero _)]; exact x3.ro j hj⟩
    · obtain ⟨rfl, g, k1⟩ := hJ
      have hτ := g.sh x3.s rfl
      have e6 : hi τ 0 6 = nI V.P.hrs := (g.i rfl).trans x3.h
      have e29 : hi τ 29 i = nI (t i) := (g.i rfl).trans (t3 i hi')
      have st : tkN V.a t (i + 1) = tkN V.a t i + (!decide (V.a.rota i = nI (t i))).toNat := rfl
      have e2 := k1 i (by omega)
      rw [if_neg (Nat.lt_irrefl i)] at e2
      unfold f_X1_takes_2_b32
      rw [wp_gI, e6, if_neg (nI_ge hi' (by omega))]
      refine ⟨so_0 hτ, ?_⟩
      rw [wp_gR, sp_0_0 hτ]
      refine ⟨so_0 hτ, ?_⟩
      rw [wp_gR, sp_1_0 hτ]
      refine ⟨so_1 hτ, ?_⟩
      rw [wp_lI, ix_nI (by omega), sl_2 hτ, inb_nI (by omega), e2]
      refine ⟨⟨so_2 hτ, by omega⟩, ?_⟩
      rw [wp_gR, sp_0_40 hτ]
      refine ⟨so_0 hτ, ?_⟩
      rw [wp_lI, ix_nI (by omega), sl_29 hτ, inb_nI (by omega), e29]
      refine ⟨⟨so_29 hτ, by omega⟩, ?_⟩
      have go : ∀ w, w = (!decide (V.a.rota i = nI (t i))).toNat → wp (gR 0 0 τ (some 0) fun y11 => gR 1 0 τ y11 fun y12 => gR 0 40 τ (some 0) fun y13 => lI 100 τ y13 (nI i) fun x14 => sI τ y12 (nI i) x14 fun σ => ag (nI (tkN V.a t i) + nI w, nI i + 1) σ) Q := by
        intro w hw
        rw [wp_gR, sp_0_0 hτ]
        refine ⟨so_0 hτ, ?_⟩
        rw [wp_gR, sp_1_0 hτ]
        refine ⟨so_1 hτ, ?_⟩
        rw [wp_gR, sp_0_40 hτ]
        refine ⟨so_0 hτ, ?_⟩
        rw [wp_lI, ix_nI (by omega), sl_29 hτ, inb_nI (by omega), e29]
        refine ⟨⟨so_29 hτ, by omega⟩, ?_⟩
        rw [wp_sI, ix_nI (by omega), sl_2 hτ, inb_nI (by omega), nI_1, nI_add, hw, ← st]
        refine ⟨⟨so_2 hτ, by omega⟩, hag _ _ ⟨rfl, g.putI rfl, fun j hj => ?_⟩⟩
        by_cases e : j = i
        · rw [e, hi_eq, if_pos (Nat.lt_succ_self i)]
        · rw [hi_ni e, k1 j hj]
          by_cases e2 : j < i
          · rw [if_pos e2, if_pos (by omega)]
          · rw [if_neg e2, if_neg (by omega)]
      rw [y_jn]
      by_cases e : V.a.rota i = nI (t i)
      · rw [if_pos e]
        exact go 0 (by rw [decide_eq_true e]; rfl)
      · rw [if_neg e]
        exact go 1 (by rw [decide_eq_false e]; rfl)
    · obtain ⟨rfl, g, k1⟩ := hJ
      have hτ := g.sh x3.s rfl
      have e6 : hi τ 0 6 = nI V.P.hrs := (g.i rfl).trans x3.h
      unfold f_X1_takes_2_b32
      rw [wp_gI, e6, if_pos (nI_le (Nat.le_refl _) (by omega)), wp_some]
      refine ⟨so_0 hτ, ?_⟩
      rw [← hQ]
      have hc : CH τ 1 (tkH V.a t V.P.hrs) := CH.rotas (s := 1) x3.2.2.2.1 g (by decide) (by decide) rfl rfl k1
      have h4 := h3.horse g rfl hc (tk_hok x3.ok tl)
      refine ⟨rfl, h4, [2, 4, 5, 6, 11, 12, 13, 15, 16, 17, 18, 19, 20, 21, 22, 23, 24, 25, 26, 27, 28, 29, 30, 36], 25 :: CF, ?_, rfl⟩
      have b1 := ((g1.mono (D' := [2, 4, 5, 6, 11, 12, 13, 15, 16, 17, 18, 19, 20, 21, 22, 23, 24, 25, 26, 27, 28, 29, 30, 36]) (F' := 25 :: CF) (G' := []) rfl).frs x.s rfl).trans ((f2.mono rfl).frs x1.s rfl)
      have b2' := (b1.trans (fs3.mono rfl (Nat.le_refl _))).trans ((g.mono rfl).frs x3.s rfl)
      exact b2'
theorem m_takes (h : MW σ V) (hk : VOK V) : wp (f_X3_takes (some 37) σ) (GoM σ (tkR V).1 (tkR V).2) := by
  have h0 := h.thr (v := 0)
  have x := h0.1
  have h8 := x.h8
  have n8 := x.n8
  have sc := h0.2.1
  unfold f_X3_takes tkR
  rw [wp_pI]
  refine ⟨so_37 h.1.s, rfl, ?_⟩
  rw [wp_ob]
  refine ⟨so_37 x.s, ?_⟩
  rw [wp_bnd]
  refine wp_mono (m_easiestBut x sc (but_none n8)) (fun y τ h1 => ?_)
  obtain ⟨rfl, f1, ld⟩ := h1
  have g1 : Fr MD [] MG (wI σ 37 11 0) τ := f1.mono rfl
  have h1 : MW τ V := h0.scr g1 ld.sm (RwM.fr f1 rfl)
  have x1 := h1.1
  cases hl2 : lstO V.P (mayOf V.P V.a 0) 1000000 (prH V.P V.a) with
  | none =>
    rw [Option.getD_none, if_pos n_1000000000.symm, wp_some]
    exact ⟨rfl, h1, MD, MG, (Fr.refl.putI rfl).trans g1, rfl⟩
  | some v =>
    have v8 := lst_le (prH_le V.P V.a) hl2
    dsimp only
    rw [Option.getD_some, if_neg (by rw [n_1000000000, nI_eq_l (by omega) (by decide)]; omega), wp_ob]
    refine ⟨so_37 x1.s, ?_⟩
    rw [wp_bnd]
    refine wp_mono (m_layLine (lim' := 1000000) x1 ld mayOf_ok MustI.zero (hardN_le V.P V.a) (prH_le V.P V.a) (Nat.le_refl _) (bd_far (hardN_le V.P V.a) (prH_le V.P V.a)) (m_cost0' x1 ld) hl2) (fun _ τ2 h2 => ?_)
    obtain ⟨f2, ht⟩ := h2
    have tl := layS_lt (P := V.P) (lim := 1000000) (pr := prH V.P V.a) hl2 V.P.hrs (Nat.le_refl _)
    have h2 : MW τ2 V := h1.scr (f2.mono rfl) (ld.sm.fr f2 rfl) (RwM.fr f2 rfl)
    have x2 := h2.1
    rw [wp_gR, sp_37_0 x2.s]
    refine ⟨so_37 x2.s, ?_⟩
    rw [wp_ob]
    refine ⟨so_37 x2.s, ?_⟩
    rw [wp_bnd]
    refine wp_mono (m_rem1 h2 hk) (fun _ τ3 h3 => ?_)
    obtain ⟨f3, h3⟩ := h3
    have x3 := h3.1
    have t3 : ∀ k, k < V.P.hrs → hi τ3 61 k = nI (tkT V.P V.a v k) := fun k hk' => (f3.i rfl).trans (ht k hk')
    unfold tkT at t3 ⊢
    generalize (layS V.P 1000000 (prH V.P V.a) v (mayOf V.P V.a 0) V.P.hrs).2 = t at *
    generalize hQ : GoM σ (nI (tkN V.a t V.P.hrs), sA V (tkH V.a t V.P.hrs) (psh V.U V.a)).1 (nI (tkN V.a t V.P.hrs), sA V (tkH V.a t V.P.hrs) (psh V.U V.a)).2 = Q
    refine wp_up V.P.hrs (fun i y τ => y = (nI (tkN V.a t i), nI i) ∧ Fr [38] [] [] τ3 τ ∧ (∀ j, j < 8 → hi τ 38 j = if j < i then nI (t j) else V.a.rota j) ∧ ∀ j, 8 ≤ j → hi τ 38 j = hi τ3 38 j) (fun ag i y τ hi' hJ hag => ?_) (fun ag y τ hJ => ?_) (by omega) ⟨rfl, Fr.refl, fun j hj => by rw [if_neg (Nat.not_lt_zero _)]; exact x3.ro j hj, fun _ _ => rfl⟩
    · obtain ⟨rfl, g, k1, k2⟩ := hJ
      have hτ := g.sh x3.s rfl
      have e6 : hi τ 37 1 = nI V.P.hrs := (g.i rfl).trans x3.h
      have e61 : hi τ 61 i = nI (t i) := (g.i rfl).trans (t3 i hi')
      have st : tkN V.a t (i + 1) = tkN V.a t i + (!decide (V.a.rota i = nI (t i))).toNat := rfl
      have e2 := k1 i (by omega)
      rw [if_neg (Nat.lt_irrefl i)] at e2
      unfold f_X3_takes_b38
      rw [wp_gI, e6, if_neg (nI_ge hi' (by omega))]
      refine ⟨so_37 hτ, ?_⟩
      rw [wp_gR, sp_37_0 hτ]
      refine ⟨so_37 hτ, ?_⟩
      rw [wp_lI, ix_nI (by omega), sl_38 hτ, inb_nI (by omega), e2]
      refine ⟨⟨so_38 hτ, by omega⟩, ?_⟩
      rw [wp_gR, sp_37_40 hτ]
      refine ⟨so_37 hτ, ?_⟩
      rw [wp_lI, ix_nI (by omega), sl_61 hτ, inb_nI (by omega), e61]
      refine ⟨⟨so_61 hτ, by omega⟩, ?_⟩
      have go : ∀ w, w = (!decide (V.a.rota i = nI (t i))).toNat → wp (gR 2 0 τ (some 37) fun y10 => gR 2 40 τ (some 37) fun y11 => lI 100 τ y11 (nI i) fun x12 => sI τ y10 (nI i) x12 fun σ => ag (nI (tkN V.a t i) + nI w, nI i + 1) σ) Q := by
        intro w hw
        rw [wp_gR, sp_37_0 hτ]
        refine ⟨so_37 hτ, ?_⟩
        rw [wp_gR, sp_37_40 hτ]
        refine ⟨so_37 hτ, ?_⟩
        rw [wp_lI, ix_nI (by omega), sl_61 hτ, inb_nI (by omega), e61]
        refine ⟨⟨so_61 hτ, by omega⟩, ?_⟩
        rw [wp_sI, ix_nI (by omega), sl_38 hτ, inb_nI (by omega), nI_1, nI_add, hw, ← st]
        refine ⟨⟨so_38 hτ, by omega⟩, hag _ _ ⟨rfl, g.putI rfl, fun j hj => ?_, fun j hj => by rw [hi_ni (by omega)]; exact k2 j hj⟩⟩
        by_cases e : j = i
        · rw [e, hi_eq, if_pos (Nat.lt_succ_self i)]
        · rw [hi_ni e, k1 j hj]
          by_cases e2 : j < i
          · rw [if_pos e2, if_pos (by omega)]
          · rw [if_neg e2, if_neg (by omega)]
      rw [y_jn]
      by_cases e : V.a.rota i = nI (t i)
      · rw [if_pos e]
        exact go 0 (by rw [decide_eq_true e]; rfl)
      · rw [if_neg e]
        exact go 1 (by rw [decide_eq_false e]; rfl)
    · obtain ⟨rfl, g, k1, k2⟩ := hJ
      have hτ := g.sh x3.s rfl
      have e6 : hi τ 37 1 = nI V.P.hrs := (g.i rfl).trans x3.h
      unfold f_X3_takes_b38
      rw [wp_gI, e6, if_pos (nI_le (Nat.le_refl _) (by omega)), wp_some]
      refine ⟨so_37 hτ, ?_⟩
      rw [← hQ]
      have hc : MH τ 38 0 (tkH V.a t V.P.hrs) := MH.rotas x3.2.2.2.1 k1 k2
      have h4 := h3.horse g rfl hc (tk_hok x3.ok tl)
      have fall : Fr (38 :: 48 :: MD) [] (24 :: MG) (wI σ 37 11 0) τ := (((g1.mono rfl).trans (f2.mono rfl)).trans (f3.mono rfl)).trans (g.mono rfl)
      exact MVo h0 h h4 fall rfl rfl
end takes
