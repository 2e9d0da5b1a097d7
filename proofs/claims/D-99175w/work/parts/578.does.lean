/-! PURE 111: acts of a year done (the class) -/
def exH (a : HS) (x y : Int32) : HS := ((fun h => if a.rota h = x then y else if a.rota h = y then x else a.rota h), a.2)
def doA (P : Pk) (a : HS) (l : AC) : Option HS := if l.1 = 103 then (if (0 ≤ l.2.1 ∧ l.2.1 ≤ 7) ∧ (l.2.2 = -1 ∨ isR (nI P.n) l.2.2) then some (stR a (ix l.2.1) l.2.2) else none) else if l.1 = 105 then (if isR (nI P.n) l.2.1 then some (flp a (ix l.2.1)) else none) else if l.1 = 120 then (if isTwo (nI P.n) l.2.1 l.2.2 then some (exH a l.2.1 l.2.2) else none) else some (goI P a (ix l.2.1))
def runA (P : Pk) (f : Nat → AC) (k : Nat) : Nat → Nat → HS → Nat × HS
  | 0, i, a => (i, a)
  | m + 1, i, a => if k ≤ i then (i, a) else match doA P a (f i) with
    | none => (i, a)
    | some b => runA P f k m (i + 1) b
theorem exH_ok {n : Nat} {a : HS} (h : HOK n a) {x y : Int32} (hx : okR n x) (hy : okR n y) : HOK n (exH a x y) := ⟨h.1, fun j hj => by
  show okR n (if a.rota j = x then y else if a.rota j = y then x else a.rota j)
  split
  · exact hy
  · split
    · exact hx
    · exact h.2 j hj⟩
theorem isR_ok {n : Nat} (n8 : n ≤ 8) {v : Int32} (h : isR (nI n) v) : okR n v := by
  obtain ⟨r, hr', e⟩ := (isR_iff (by omega)).mp h
  exact Or.inr ⟨r, hr', e⟩
theorem doA_ok {P : Pk} {a b : HS} {l : AC} (n8 : P.n ≤ 8) (h : HOK P.n a) (e : doA P a l = some b) : HOK P.n b := by
  unfold doA at e
  by_cases h1 : l.1 = 103
  · rw [if_pos h1] at e
    by_cases h2 : (0 ≤ l.2.1 ∧ l.2.1 ≤ 7) ∧ (l.2.2 = -1 ∨ isR (nI P.n) l.2.2)
    · rw [if_pos h2] at e
      cases e
      refine stR_ok h ?_
      rcases h2.2 with h3 | h3
      · exact Or.inl h3
      · exact isR_ok n8 h3
    · rw [if_neg h2] at e; cases e
  · rw [if_neg h1] at e
    by_cases h2 : l.1 = 105
    · rw [if_pos h2] at e
      by_cases h3 : isR (nI P.n) l.2.1
      · rw [if_pos h3] at e
        cases e
        obtain ⟨r, hr', er⟩ := (isR_iff (by omega)).mp h3
        rw [er, ix_nI (by omega)]
        exact flp_ok h hr'
      · rw [if_neg h3] at e; cases e
    · rw [if_neg h2] at e
      by_cases h3 : l.1 = 120
      · rw [if_pos h3] at e
        by_cases h4 : isTwo (nI P.n) l.2.1 l.2.2
        · rw [if_pos h4] at e
          cases e
          exact exH_ok h (isR_ok n8 h4.1) (isR_ok n8 h4.2.1)
        · rw [if_neg h4] at e; cases e
      · rw [if_neg h3] at e
        cases e
        exact goI_ok h _
theorem runA_ok {P : Pk} {f : Nat → AC} {k : Nat} (n8 : P.n ≤ 8) : ∀ m i a, HOK P.n a → i ≤ k → HOK P.n (runA P f k m i a).2 ∧ (runA P f k m i a).1 ≤ k := by
  intro m
  induction m with
  | zero => intro i a h hi'; exact ⟨h, hi'⟩
  | succ m ih =>
    intro i a h hi'
    unfold runA
    by_cases c : k ≤ i
    · rw [if_pos c]; exact ⟨h, hi'⟩
    · rw [if_neg c]
      cases e : doA P a (f i) with
      | none => exact ⟨h, hi'⟩
      | some b => exact ih (i + 1) b (doA_ok n8 h e) (by omega)
section does
variable {V : VS} {σ τ υ : Hp} {k : Nat} {l : AC} {s : Nat} {a : HS} {P : Pk}
theorem c_givesNot (x : CY σ P) {h v : Int32} (hn' : ¬ ((0 ≤ h ∧ h ≤ 7) ∧ (v = -1 ∨ isR (nI P.n) v))) : f_X1_gives (some 0) (some s) h v σ = some (0, σ) := by
  refine wp_eq ?_
  unfold f_X1_gives
  rw [w_in_0_7, b2_ite]
  by_cases h1 : 0 ≤ h ∧ h ≤ 7
  · rw [if_pos h1, y_jn, if_neg (fun z => hn' ⟨h1, Or.inl z⟩), wp_ob]
    refine ⟨so_0 x.s, ?_⟩
    rw [w_isRider x.s, x.n, b2_ite, if_neg (fun z => hn' ⟨h1, Or.inr z⟩), wp_r0]
    exact ⟨rfl, rfl⟩
  · rw [if_neg h1, wp_r0]
    exact ⟨rfl, rfl⟩
theorem c_exch (x : CX σ P a) {u v : Int32} (h2 : isTwo (nI P.n) u v) : wp (f_X1_exchanges (some 0) (some 1) u v σ) (fun y τ => y = 1 ∧ Fr [2] [] [] σ τ ∧ CH τ 1 (exH a u v)) := by
  unfold f_X1_exchanges
  rw [wp_ob]
  refine ⟨so_0 x.s, ?_⟩
  rw [w_isPair x.s, x.n, b2_ite, if_pos h2]
  refine wp_up 8 (fun i y τ => y = nI i ∧ Fr [2] [] [] σ τ ∧ ∀ j, j < 8 → hi τ 2 j = if j < i then (exH a u v).rota j else a.rota j) (fun ag i y τ hi' hJ hag => ?_) (fun ag y τ hJ => ?_) (by decide) ⟨rfl, Fr.refl, fun j hj => by rw [if_neg (Nat.not_lt_zero _)]; exact x.ro j hj⟩
  · obtain ⟨rfl, g, m1⟩ := hJ
    have hτ := g.sh x.s rfl
    have e : hi τ 2 i = a.rota i := by rw [m1 i hi', if_neg (Nat.lt_irrefl _)]
    unfold f_X1_exchanges_b14
    rw [n_8, if_neg (nI_ge hi' (by decide)), wp_gR, sp_1_0 hτ]
    refine ⟨so_1 hτ, ?_⟩
    rw [wp_gR, sp_1_0 hτ]
    refine ⟨so_1 hτ, ?_⟩
    rw [wp_lI, ix_nI (by omega), sl_2 hτ, inb_nI (by omega), e]
    refine ⟨⟨so_2 hτ, hi'⟩, ?_⟩
    have go : ∀ w, w = (exH a u v).rota i → wp (sI τ (some 2) (nI i) w fun σ => ag (nI i + 1) σ) _ := fun w hw => by
      rw [wp_sI, ix_nI (by omega), sl_2 hτ, inb_nI (by omega), nI_1]
      refine ⟨⟨so_2 hτ, hi'⟩, hag _ _ ⟨rfl, g.putI rfl, fun j hj => ?_⟩⟩
      by_cases e : j = i
      · rw [e, hi_eq, if_pos (Nat.lt_succ_self i), hw]
      · rw [hi_ni e, m1 j hj]
        by_cases e2 : j < i
        · rw [if_pos e2, if_pos (by omega)]
        · rw [if_neg e2, if_neg (by omega)]
    have ex : (exH a u v).rota i = if a.rota i = u then v else if a.rota i = v then u else a.rota i := rfl
    rw [y_jn]
    by_cases c1 : a.rota i = u
    · rw [if_pos c1]
      exact go _ (by rw [ex, if_pos c1])
    · rw [if_neg c1, wp_gR, sp_1_0 hτ]
      refine ⟨so_1 hτ, ?_⟩
      rw [wp_lI, ix_nI (by omega), sl_2 hτ, inb_nI (by omega), e]
      refine ⟨⟨so_2 hτ, hi'⟩, ?_⟩
      by_cases c2 : a.rota i = v
      · rw [if_pos c2]
        exact go _ (by rw [ex, if_neg c1, if_pos c2])
      · rw [if_neg c2, wp_gR, sp_1_0 hτ]
        refine ⟨so_1 hτ, ?_⟩
        rw [wp_lI, ix_nI (by omega), sl_2 hτ, inb_nI (by omega), e]
        refine ⟨⟨so_2 hτ, hi'⟩, ?_⟩
        exact go _ (by rw [ex, if_neg c1, if_neg c2])
  · obtain ⟨rfl, g, m1⟩ := hJ
    unfold f_X1_exchanges_b14
    rw [n_8, if_pos (nI_le (Nat.le_refl _) (by decide)), wp_r1]
    exact ⟨rfl, g, CH.rotas (s := 1) (r := (exH a u v).rota) x.2.2.2.1 g (by decide) (by decide) rfl rfl (fun j hj => by rw [m1 j hj, if_pos hj])⟩
theorem c_exchNot (x : CX σ P a) {u v : Int32} (h2 : ¬ isTwo (nI P.n) u v) : f_X1_exchanges (some 0) (some 1) u v σ = some (0, σ) := by
  refine wp_eq ?_
  unfold f_X1_exchanges
  rw [wp_ob]
  refine ⟨so_0 x.s, ?_⟩
  rw [w_isPair x.s, x.n, b2_ite, if_neg h2, wp_r0]
  exact ⟨rfl, rfl⟩
theorem c_does (h : CV σ V) (ha : AcC σ k l) (hl : acOK l) (k60 : k < 60) : wp (f_X1_does (some 0) (nI k) σ) (fun x τ => Fr [1, 2, 3, 18, 19] [18, 19, 20, 28, 29] [] σ τ ∧ (match doA V.P V.a l with
    | none => x = 0 ∧ CV τ V
    | some b => x = 1 ∧ CV τ (sA V b V.U))) := by
  obtain ⟨a1, a2, a3⟩ := ha
  obtain ⟨hl1, ⟨d, d9, ed⟩, hl3⟩ := hl
  have x := h.1
  have n8 := x.n8
  generalize hQ : (fun (x : Int32) τ => Fr [1, 2, 3, 18, 19] [18, 19, 20, 28, 29] [] σ τ ∧ (match doA V.P V.a l with
    | none => x = 0 ∧ CV τ V
    | some b => x = 1 ∧ CV τ (sA V b V.U))) = Q
  have fin0 : doA V.P V.a l = none → wp (rz1 0 σ) Q := fun e => by
    rw [wp_r0, ← hQ, e]
    exact ⟨Fr.refl, rfl, h⟩
  unfold f_X1_does
  rw [wp_gR, sp_0_32 x.s]
  refine ⟨so_0 x.s, ?_⟩
  rw [wp_lI, ix_nI (by omega), sl_22 x.s, inb_nI (by omega), a2]
  refine ⟨⟨so_22 x.s, k60⟩, ?_⟩
  rw [wp_gR, sp_0_31 x.s]
  refine ⟨so_0 x.s, ?_⟩
  rw [wp_lI, ix_nI (by omega), sl_21 x.s, inb_nI (by omega), a1]
  refine ⟨⟨so_21 x.s, k60⟩, ?_⟩
  by_cases h103 : l.1 = 103
  · rw [if_pos h103, wp_gR, sp_0_0 x.s]
    refine ⟨so_0 x.s, ?_⟩
    rw [wp_gR, sp_0_33 x.s]
    refine ⟨so_0 x.s, ?_⟩
    rw [wp_lI, ix_nI (by omega), sl_23 x.s, inb_nI (by omega), a3 (Or.inl h103)]
    refine ⟨⟨so_23 x.s, k60⟩, ?_⟩
    rw [wp_ob]
    refine ⟨so_0 x.s, ?_⟩
    by_cases c : (0 ≤ l.2.1 ∧ l.2.1 ≤ 7) ∧ (l.2.2 = -1 ∨ isR (nI V.P.n) l.2.2)
    · have e : doA V.P V.a l = some (stR V.a (ix l.2.1) l.2.2) := by
        unfold doA
        rw [if_pos h103, if_pos c]
      have hv : okR V.P.n l.2.2 := by
        rcases c.2 with h3 | h3
        · exact Or.inl h3
        · exact isR_ok n8 h3
      have d7 := nI_b1 (k := d) (m := 7) (by omega) (by decide) (by rw [← ed]; exact c.1.2)
      rw [ed] at e ⊢
      rw [ix_nI (by omega)] at e
      rw [c_gives x.y x.2.2.2.1 (show d < 8 by omega) hv, e_bnd, wp_r1, ← hQ, e]
      have g : Fr [2] [] [] σ (wI σ 2 d l.2.2) := Fr.refl.putI rfl
      exact ⟨g.mono rfl, rfl, h.horse g rfl (x.2.2.2.1.stR d l.2.2) (stR_ok x.ok hv)⟩
    · rw [c_givesNot x.y c, e_bnd]
      exact fin0 (by unfold doA; rw [if_pos h103, if_neg c])
  · rw [if_neg h103]
    by_cases h105 : l.1 = 105
    · rw [if_pos h105, wp_gR, sp_0_0 x.s]
      refine ⟨so_0 x.s, ?_⟩
      rw [wp_ob]
      refine ⟨so_0 x.s, ?_⟩
      by_cases c : isR (nI V.P.n) l.2.1
      · have e : doA V.P V.a l = some (flp V.a (ix l.2.1)) := by
          unfold doA
          rw [if_neg h103, if_pos h105, if_pos c]
        have dn' : d < V.P.n := by rw [ed] at c; exact (isR_nI (by omega) (by omega)).mp c
        rw [ed] at e ⊢
        rw [ix_nI (by omega)] at e
        have ex : pop (V.a.ill ^^^ 2 ^ d) < 2 ^ 31 := by
          have := pop_le (V.a.ill ^^^ 2 ^ d)
          omega
        rw [c_falls x.y x.2.2.2.1 x.ok dn', e_bnd, if_neg (nI_pos ex), wp_r1, ← hQ, e]
        have g : Fr [1] [] [] σ (wI σ 1 2 (nI (V.a.ill ^^^ 2 ^ d))) := Fr.refl.putI rfl
        exact ⟨g.mono rfl, rfl, h.horse g rfl (x.2.2.2.1.flp d) (flp_ok x.ok dn')⟩
      · rw [c_fallsNot x.y (fun z => c ((isR_iff (by omega)).mpr z)), e_bnd, if_pos (by decide)]
        exact fin0 (by unfold doA; rw [if_neg h103, if_pos h105, if_neg c])
    · rw [if_neg h105]
      by_cases h120 : l.1 = 120
      · rw [if_pos h120, wp_gR, sp_0_0 x.s]
        refine ⟨so_0 x.s, ?_⟩
        rw [wp_gR, sp_0_33 x.s]
        refine ⟨so_0 x.s, ?_⟩
        rw [wp_lI, ix_nI (by omega), sl_23 x.s, inb_nI (by omega), a3 (Or.inr h120)]
        refine ⟨⟨so_23 x.s, k60⟩, ?_⟩
        rw [wp_ob]
        refine ⟨so_0 x.s, ?_⟩
        by_cases c : isTwo (nI V.P.n) l.2.1 l.2.2
        · have e : doA V.P V.a l = some (exH V.a l.2.1 l.2.2) := by
            unfold doA
            rw [if_neg h103, if_neg h105, if_pos h120, if_pos c]
          rw [wp_bnd]
          refine wp_mono (c_exch x c) (fun y τ h1 => ?_)
          obtain ⟨rfl, g, hc⟩ := h1
          rw [wp_r1, ← hQ, e]
          exact ⟨g.mono rfl, rfl, h.horse g rfl hc (exH_ok x.ok (isR_ok n8 c.1) (isR_ok n8 c.2.1))⟩
        · rw [c_exchNot x c, e_bnd]
          exact fin0 (by unfold doA; rw [if_neg h103, if_neg h105, if_pos h120, if_neg c])
      · have e : doA V.P V.a l = some (goI V.P V.a (ix l.2.1)) := by
          unfold doA
          rw [if_neg h103, if_neg h105, if_neg h120]
        rw [ed] at e ⊢
        rw [ix_nI (by omega)] at e
        rw [if_neg h120, wp_gR, sp_0_0 x.s]
        refine ⟨so_0 x.s, ?_⟩
        rw [wp_ob]
        refine ⟨so_0 x.s, ?_⟩
        rw [wp_bnd]
        refine wp_mono (c_goes1 h (show d ≤ 60 by omega)) (fun _ τ h1 => ?_)
        rw [wp_r1, ← hQ, e]
        exact ⟨h1.1.mono rfl, rfl, h1.2⟩
theorem AcC.fr {D F G : List Nat} (h : AcC σ k l) (f : Fr D F G σ τ) (q : (!D.contains 21 && !D.contains 22 && !D.contains 23) = true) : AcC τ k l := by
  simp only [Bool.and_eq_true, Bool.not_eq_true'] at q
  obtain ⟨⟨q1, q2⟩, q3⟩ := q
  exact ⟨(f.i (dn_out q1 (by decide) (by decide))).trans h.1, (f.i (dn_out q2 (by decide) (by decide))).trans h.2.1, fun z => (f.i (dn_out q3 (by decide) (by decide))).trans (h.2.2 z)⟩
theorem c_run {f : Nat → AC} {k : Nat} (k60 : k ≤ 60) (hf : ∀ j, j < k → acOK (f j)) {k0 : Int32 → Hp → Option (Int32 × Hp)} {Q : Int32 → Hp → Prop} : ∀ m M i V σ, k - i < m → m ≤ M → i ≤ k → CV σ V → hi σ 0 34 = nI k → (∀ j, j < k → AcC σ j (f j)) → (∀ τ, Fr [1, 2, 3, 18, 19] [18, 19, 20, 28, 29] [] σ τ → CV τ (sA V (runA V.P f k m i V.a).2 V.U) → wp (k0 (nI (runA V.P f k m i V.a).1) τ) Q) → wp (lp M (f_X1_year_b64 (some 0) k0) (nI i) σ) Q := by
  intro m
  induction m with
  | zero => intro M i V σ h; omega
  | succ m ih =>
    intro M i V σ hm hM hik h e34 hac hk0
    obtain ⟨M, rfl⟩ : ∃ n, M = n + 1 := ⟨M - 1, by omega⟩
    have x := h.1
    show wp (f_X1_year_b64 (some 0) k0 (lp M (f_X1_year_b64 (some 0) k0)) (nI i) σ) Q
    generalize hag : lp M (f_X1_year_b64 (some 0) k0) = ag
    unfold runA at hk0
    unfold f_X1_year_b64
    rw [wp_gI, e34, ite_le (by omega) (by omega)]
    refine ⟨so_0 x.s, ?_⟩
    by_cases c : k ≤ i
    · rw [if_pos c] at hk0 ⊢
      exact hk0 σ Fr.refl h
    · rw [if_neg c] at hk0 ⊢
      rw [wp_ob]
      refine ⟨so_0 x.s, ?_⟩
      rw [wp_bnd]
      refine wp_mono (c_does h (hac i (by omega)) (hf i (by omega)) (by omega)) (fun y τ h1 => ?_)
      obtain ⟨f1, h1⟩ := h1
      cases e : doA V.P V.a (f i) with
      | none =>
        rw [e] at h1 hk0
        obtain ⟨rfl, h2⟩ := h1
        rw [if_pos rfl]
        exact hk0 τ f1 h2
      | some b =>
        rw [e] at h1 hk0
        obtain ⟨rfl, h2⟩ := h1
        rw [if_neg (by decide), nI_1, ← hag]
        exact ih M (i + 1) (sA V b V.U) τ (by omega) (by omega) (by omega) h2 ((f1.i rfl).trans e34) (fun j hj => (hac j hj).fr f1 rfl) (fun ω f2 h3 => hk0 ω (f1.trans f2) h3)
end does
