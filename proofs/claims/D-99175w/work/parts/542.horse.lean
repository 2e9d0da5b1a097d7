/-! PURE 90: the horse changed: give, ill, nights, takes -/
def okCH (D F G : List Nat) : Bool := (okD D && okCY D F G) && (qS D F G && (qT D F G && (qU D F G && (qF D F G && (dn D F G 0 8 && qR D F G)))))
def okMH (D F G : List Nat) : Bool := (okD D && okMY D F G) && (dn D F G 37 39 && ((dn D F G 37 8 && !D.contains 42 && dn D F G 37 18 && dn D F G 37 19) && ((dn D F G 37 24 && !D.contains 48 && !D.contains 65 && !D.contains 66 && !D.contains 67) && ((dn D F G 37 45 && dn D F G 37 44 && !D.contains 63 && !D.contains 64) && (dn D F G 37 47 && oRM D F G)))))
section horse
variable {V : VS} {σ τ υ : Hp} {D F G : List Nat} {a b : HS} {m : Nat} {l : List Int64}
theorem CV.horse (h : CV σ V) (f : Fr D F G σ τ) (q : okCH D F G = true) (hc : CH τ 1 b) (hb : HOK V.P.n b) : CV τ (sA V b V.U) := by
  unfold okCH at q
  obtain ⟨q, qq⟩ := an2 q
  obtain ⟨q0, q1⟩ := an2 q
  obtain ⟨q2, qq⟩ := an2 qq
  obtain ⟨q3, qq⟩ := an2 qq
  obtain ⟨q4, qq⟩ := an2 qq
  obtain ⟨q5, qq⟩ := an2 qq
  obtain ⟨q6, q7⟩ := an2 qq
  obtain ⟨x, s, t, u, w, r, ch⟩ := h
  have fs := f.frs x.s q0
  have y := x.y.frs fs q1
  exact ⟨⟨y.1, y.2.1, y.2.2, hc, hb⟩, s.frs fs q2, t.frs fs q3, u.frs fs (f.frd q0) q4, w.frs fs q5, r.frs fs q7, (fs.i (by decide) q6).trans ch⟩
theorem MY.frs {P : Pk} (x : MY σ P) (f : FrS D F G m σ τ) (h : okMY D F G = true) : MY τ P := by
  unfold okMY at h
  simp only [Bool.and_eq_true, Bool.not_eq_true'] at h
  obtain ⟨h2, h3⟩ := h
  exact ⟨f.sh x.1 h2, x.2.1.frs f (by simp only [Bool.and_eq_true, Bool.not_eq_true']; exact h3), x.2.2⟩
theorem MW.horse (h : MW σ V) (f : Fr D F G σ τ) (q : okMH D F G = true) (hc : MH τ 38 0 b) (hb : HOK V.P.n b) : MW τ (sA V b V.U) := by
  unfold okMH at q
  obtain ⟨q, qq⟩ := an2 q
  obtain ⟨q0, q1⟩ := an2 q
  obtain ⟨q2, qq⟩ := an2 qq
  obtain ⟨q3, qq⟩ := an2 qq
  obtain ⟨q4, qq⟩ := an2 qq
  obtain ⟨q5, qq⟩ := an2 qq
  obtain ⟨q6, q7⟩ := an2 qq
  obtain ⟨x, s, t, u, w, r, ch⟩ := h
  have fs := f.frs x.s q0
  have y := x.y.frs fs q1
  exact ⟨⟨y.1, y.2.1, y.2.2, hc, hb⟩, s.frs fs q2, t.frs fs q3, u.frs fs q4, w.frs fs q5, r.frs fs q7, (fs.i (by decide) q6).trans ch⟩
theorem CV.row (h : CV σ V) (f : Fr D F G σ τ) (q : okCV D F G = true) (hD : okD D = true) (r' : RowC τ l) : CV τ (setw V (some l)) := by
  unfold okCV at q
  obtain ⟨q1, qq⟩ := an2 q
  obtain ⟨q2, qq⟩ := an2 qq
  obtain ⟨q3, qq⟩ := an2 qq
  obtain ⟨q4, qq⟩ := an2 qq
  obtain ⟨q5, q6⟩ := an2 qq
  obtain ⟨h1, h2, h3, h4, h5, h6, h7⟩ := h
  have fs := f.frs h1.s hD
  exact ⟨h1.frs fs q1, h2.frs fs q2, h3.frs fs q3, h4.frs fs (f.frd hD) q4, h5.frs fs q5, r', (fs.i (by decide) q6).trans h7⟩
theorem MW.row (h : MW σ V) (f : Fr D F G σ τ) (q : okMV D F G = true) (hD : okD D = true) (r' : RowM τ l) : MW τ (setw V (some l)) := by
  unfold okMV at q
  obtain ⟨q1, qq⟩ := an2 q
  obtain ⟨q2, qq⟩ := an2 qq
  obtain ⟨q3, qq⟩ := an2 qq
  obtain ⟨q4, qq⟩ := an2 qq
  obtain ⟨q5, q6⟩ := an2 qq
  obtain ⟨h1, h2, h3, h4, h5, h6, h7⟩ := h
  have fs := f.frs h1.s hD
  exact ⟨h1.frs fs q1, h2.frs fs q2, h3.frs fs q3, h4.frs fs q4, h5.frs fs q5, r', (fs.i (by decide) q6).trans h7⟩
theorem c_puts1 (h : CV σ V) : wp (f_X1_putsBy (some 0) (some 1) σ) (fun _ τ => FrS [] [25] [] 3 σ τ ∧ CV τ (sA V V.a (psh V.U V.a))) := by
  obtain ⟨x, s, t, u, w, r, ch⟩ := h
  refine wp_mono (c_putsBy x.s u x.2.2.2.1 (Or.inl rfl)) (fun _ τ h => ?_)
  obtain ⟨fs, u'⟩ := h
  exact ⟨fs, x.frs fs rfl, s.frs fs rfl, t.frs fs rfl, u', w.frs fs rfl, r.frs fs rfl, (fs.i (by decide) rfl).trans ch⟩
theorem m_rem1 (h : MW σ V) (hk : VOK V) : wp (f_X3_remember (some 37) (some 38) σ) (fun _ τ => Fr [48] [] [24] σ τ ∧ MW τ (sA V V.a (psh V.U V.a))) := by
  obtain ⟨x, s, t, u, w, r, ch⟩ := h
  refine wp_mono (m_remember x.s hk.2.1.1 u.1 u.2.1 x.2.2.2.1 (Or.inl rfl)) (fun _ τ h => ?_)
  obtain ⟨f, e24, u2⟩ := h
  have fs := f.frs x.s rfl
  refine ⟨f, x.frs fs rfl, s.frs fs rfl, t.frs fs rfl, ⟨e24, u2, fun i hi' => ?_⟩, w.frs fs rfl, r.frs fs rfl, (fs.i (by decide) rfl).trans ch⟩
  have := u.2.2 i hi'
  show KM τ i (V.K i)
  unfold KM at this ⊢
  cases hK : V.K i with
  | none => rw [hK] at this; dsimp only at this ⊢; rw [fs.i (by decide) rfl]; exact this
  | some b =>
    rw [hK] at this
    dsimp only at this ⊢
    rw [fs.i (a := 66) (by decide) rfl, fs.i (a := 67) (by decide) rfl]
    exact ⟨this.1, this.2.1.frs fs (by decide) (by decide) (by decide) rfl, this.2.2⟩
/-- give -/
def gvR (V : VS) (h r : Int32) : Int32 × VS := if (0 ≤ h ∧ h ≤ 7) ∧ (r = -1 ∨ isR (nI V.P.n) r) then (V.a.rota (ix h), sA V (stR V.a (ix h) r) (psh V.U V.a)) else (-2, V)
def ilR (V : VS) (r : Int32) : Int32 × VS := if isR (nI V.P.n) r then (nI (pop (V.a.ill ^^^ 2 ^ ix r)), sA V (flp V.a (ix r)) (psh V.U V.a)) else (-1, V)
theorem psh_vok (h : VOK V) (ha : HOK V.P.n V.a) (b : HS) : VOK (sA V b (psh V.U V.a)) := ⟨h.1, ⟨psh_le h.2.1.1, psh_ok h.2.1.2 ha⟩, h.2.2⟩
theorem gv_ok (h : VOK V) (ha : HOK V.P.n V.a) {x r : Int32} : VOK (gvR V x r).2 := by
  unfold gvR
  split
  · exact psh_vok h ha _
  · exact h
theorem il_ok (h : VOK V) (ha : HOK V.P.n V.a) {r : Int32} : VOK (ilR V r).2 := by
  unfold ilR
  split
  · exact psh_vok h ha _
  · exact h
theorem okR_of {n : Nat} {r : Int32} (n8 : n ≤ 8) (h : r = -1 ∨ isR (nI n) r) : okR n r := by
  rcases h with h | h
  · exact Or.inl h
  · exact Or.inr ((isR_iff (by omega)).mp h)
theorem c_give (h : CV σ V) {p r : Int32} : wp (f_X1_give (some 0) p r σ) (GoC σ 3 (gvR V p r).1 (gvR V p r).2) := by
  have x := h.1
  have n8 := x.n8
  unfold f_X1_give gvR
  rw [w_in_0_7, b2_ite]
  by_cases c1 : 0 ≤ p ∧ p ≤ 7
  · rw [if_pos c1, y_jn]
    have no : ¬ (r = -1 ∨ isR (nI V.P.n) r) → wp (some ((-2 : Int32), σ)) (GoC σ 3 (if (0 ≤ p ∧ p ≤ 7) ∧ (r = -1 ∨ isR (nI V.P.n) r) then (V.a.rota (ix p), sA V (stR V.a (ix p) r) (psh V.U V.a)) else (-2, V)).1 (if (0 ≤ p ∧ p ≤ 7) ∧ (r = -1 ∨ isR (nI V.P.n) r) then (V.a.rota (ix p), sA V (stR V.a (ix p) r) (psh V.U V.a)) else (-2, V)).2) := fun z => by
      rw [if_neg (fun w => z w.2), wp_some]
      exact GoC.same h
    have yes : (r = -1 ∨ isR (nI V.P.n) r) → wp (gR 0 0 σ (some 0) fun y4 => ob 0 σ (some 0) fun _ => bnd (f_X1_putsBy (some 0) y4 σ) fun _ σ => gR 0 0 σ (some 0) fun y5 => gR 1 0 σ y5 fun y6 => lI 100 σ y6 p fun x7 => gR 0 0 σ (some 0) fun y8 => ob 0 σ (some 0) fun _ => bnd (f_X1_gives (some 0) y8 p r σ) fun x9 σ => some (x7, σ)) (GoC σ 3 (if (0 ≤ p ∧ p ≤ 7) ∧ (r = -1 ∨ isR (nI V.P.n) r) then (V.a.rota (ix p), sA V (stR V.a (ix p) r) (psh V.U V.a)) else (-2, V)).1 (if (0 ≤ p ∧ p ≤ 7) ∧ (r = -1 ∨ isR (nI V.P.n) r) then (V.a.rota (ix p), sA V (stR V.a (ix p) r) (psh V.U V.a)) else (-2, V)).2) := fun c2 => by
      rw [if_pos ⟨c1, c2⟩]
      obtain ⟨k, hk', rfl⟩ := lo_pos c1.1
      have k7 := nI_b1 (m := 7) hk' (by decide) c1.2
      rw [ix_nI hk', wp_gR, sp_0_0 x.s]
      refine ⟨so_0 x.s, ?_⟩
      rw [wp_ob]
      refine ⟨so_0 x.s, ?_⟩
      rw [wp_bnd]
      refine wp_mono (c_puts1 h) (fun _ τ h1 => ?_)
      obtain ⟨fs, h1⟩ := h1
      have x1 := h1.1
      rw [wp_gR, sp_0_0 x1.s]
      refine ⟨so_0 x1.s, ?_⟩
      rw [wp_gR, sp_1_0 x1.s]
      refine ⟨so_1 x1.s, ?_⟩
      rw [wp_lI, ix_nI (by omega), sl_2 x1.s, inb_nI (by omega), x1.ro k (by omega)]
      refine ⟨⟨so_2 x1.s, by omega⟩, ?_⟩
      rw [wp_gR, sp_0_0 x1.s]
      refine ⟨so_0 x1.s, ?_⟩
      rw [wp_ob]
      refine ⟨so_0 x1.s, ?_⟩
      rw [c_gives x1.y x1.2.2.2.1 (show k < 8 by omega) (okR_of n8 c2), e_bnd, wp_some]
      have g : Fr [2] [] [] τ (wI τ (1 + 1) k r) := Fr.refl.putI rfl
      have h2 := h1.horse g rfl (x1.2.2.2.1.stR k r) (stR_ok x1.ok (okR_of n8 c2))
      exact ⟨rfl, h2, [2], [25], (fs.mono rfl (Nat.le_refl _)).trans ((g.frs x1.s rfl).mono rfl (Nat.le_refl _)), rfl⟩
    by_cases c2 : r = -1
    · rw [if_pos c2]; exact yes (Or.inl c2)
    · rw [if_neg c2, wp_ob]
      refine ⟨so_0 x.s, ?_⟩
      rw [w_isRider x.s, x.n, b2_ite]
      by_cases c3 : isR (nI V.P.n) r
      · rw [if_pos c3]; exact yes (Or.inr c3)
      · rw [if_neg c3]; exact no (fun z => by rcases z with z | z; exact c2 z; exact c3 z)
  · rw [if_neg c1, if_neg (fun z => c1 z.1), wp_some]
    exact GoC.same h
theorem m_isGift {P : Pk} (x : MY σ P) {p r : Int32} : f_X3_isGift (some 37) p r σ = some (b2 ((0 ≤ p ∧ p ≤ 7) ∧ (r = -1 ∨ isR (nI P.n) r)), σ) := by
  unfold f_X3_isGift
  rw [m_isHour, e_bnd, b2_ite]
  by_cases c1 : 0 ≤ p ∧ p ≤ 7
  · rw [if_pos c1]
    by_cases c2 : r = -1
    · rw [if_pos c2, e_rz1, b2, if_pos ⟨c1, Or.inl c2⟩]
    · rw [if_neg c2, e_ob (so_37 x.s), m_isMan x.s, x.n, e_bnd, b2_ite]
      by_cases c3 : isR (nI P.n) r
      · rw [if_pos c3, e_rz1, b2, if_pos ⟨c1, Or.inr c3⟩]
      · rw [if_neg c3, e_rz0, b2, if_neg (fun z => by rcases z.2 with z | z; exact c2 z; exact c3 z)]
  · rw [if_neg c1, e_rz0, b2, if_neg (fun z => c1 z.1)]
theorem MVo (h : MW (wI σ 37 11 0) V) (h0 : MW σ V) {r : Int32} {V' : VS} {τ : Hp} (h2 : MW τ V') {D G : List Nat} (f : Fr D [] G (wI σ 37 11 0) τ) (q : (okD D && (okCV D [] (11 :: G) && qR D [] (11 :: G))) = true) (hs : sb D [] G D [] (11 :: G) = true) : GoM σ r V' r τ := ⟨rfl, h2, D, 11 :: G, (Fr.refl.putI (by unfold dn; cases D.contains 37 <;> rfl)).trans (f.mono hs), q⟩
theorem m_give (h : MW σ V) (hk : VOK V) {p r : Int32} : wp (f_X3_give (some 37) p r σ) (GoM σ (gvR V p r).1 (gvR V p r).2) := by
  have h1 := h.thr (v := 0)
  have x := h1.1
  have n8 := x.n8
  unfold f_X3_give gvR
  rw [wp_pI]
  refine ⟨so_37 h.1.s, rfl, ?_⟩
  rw [wp_ob]
  refine ⟨so_37 x.s, ?_⟩
  rw [m_isGift x.y, e_bnd, b2_ite]
  by_cases c : (0 ≤ p ∧ p ≤ 7) ∧ (r = -1 ∨ isR (nI V.P.n) r)
  · rw [if_pos c, if_pos c]
    obtain ⟨c1, c2⟩ := c
    obtain ⟨k, hk', rfl⟩ := lo_pos c1.1
    have k7 := nI_b1 (m := 7) hk' (by decide) c1.2
    rw [ix_nI hk', wp_gR, sp_37_0 x.s]
    refine ⟨so_37 x.s, ?_⟩
    rw [wp_ob]
    refine ⟨so_37 x.s, ?_⟩
    rw [wp_bnd]
    refine wp_mono (m_rem1 h1 hk) (fun _ τ h2 => ?_)
    obtain ⟨f1, h2⟩ := h2
    have x1 := h2.1
    rw [wp_gR, sp_37_0 x1.s]
    refine ⟨so_37 x1.s, ?_⟩
    rw [wp_lI, ix_nI (by omega), sl_38 x1.s, inb_nI (by omega), x1.ro k (by omega)]
    refine ⟨⟨so_38 x1.s, by omega⟩, ?_⟩
    rw [wp_gR, sp_37_0 x1.s]
    refine ⟨so_37 x1.s, ?_⟩
    rw [wp_sI, ix_nI (by omega), sl_38 x1.s, inb_nI (by omega)]
    refine ⟨⟨so_38 x1.s, by omega⟩, ?_⟩
    rw [wp_some]
    have g : Fr [38] [] [] τ (wI τ 38 k r) := Fr.refl.putI rfl
    have h3 := h2.horse g rfl (x1.2.2.2.1.stR (show k < 8 by omega) r) (stR_ok x1.ok (okR_of n8 c2))
    exact MVo h1 h h3 (D := [38, 48]) (G := [24]) ((f1.mono rfl).trans (g.mono rfl)) rfl rfl
  · rw [if_neg c, if_neg c, wp_some]
    exact GoM.thr h
theorem c_ill (h : CV σ V) {r : Int32} : wp (f_X1_ill (some 0) r σ) (GoC σ 3 (ilR V r).1 (ilR V r).2) := by
  have x := h.1
  have n8 := x.n8
  unfold f_X1_ill ilR
  rw [wp_ob]
  refine ⟨so_0 x.s, ?_⟩
  rw [w_isRider x.s, x.n, b2_ite]
  by_cases c : isR (nI V.P.n) r
  · rw [if_pos c, if_pos c]
    obtain ⟨q, hq, rfl⟩ := (isR_iff (by omega)).mp c
    rw [ix_nI (by omega), wp_gR, sp_0_0 x.s]
    refine ⟨so_0 x.s, ?_⟩
    rw [wp_ob]
    refine ⟨so_0 x.s, ?_⟩
    rw [wp_bnd]
    refine wp_mono (c_puts1 h) (fun _ τ h1 => ?_)
    obtain ⟨fs, h1⟩ := h1
    have x1 := h1.1
    rw [wp_gR, sp_0_0 x1.s]
    refine ⟨so_0 x1.s, ?_⟩
    rw [wp_ob]
    refine ⟨so_0 x1.s, ?_⟩
    rw [c_falls x1.y x1.2.2.2.1 x1.ok hq, e_bnd, wp_some]
    have g : Fr [1] [] [] τ (wI τ 1 2 (nI ((sA V V.a (psh V.U V.a)).a.ill ^^^ 2 ^ q))) := Fr.refl.putI rfl
    have h2 := h1.horse g rfl (x1.2.2.2.1.flp q) (flp_ok x1.ok hq)
    exact ⟨rfl, h2, [1], [25], (fs.mono rfl (Nat.le_refl _)).trans ((g.frs x1.s rfl).mono rfl (Nat.le_refl _)), rfl⟩
  · rw [if_neg c, if_neg c, wp_some]
    exact GoC.same h
theorem m_ill1 (h : MW σ V) (hk : VOK V) {r : Int32} : wp (f_X3_ill (some 37) r σ) (GoM σ (ilR V r).1 (ilR V r).2) := by
  have h1 := h.thr (v := 0)
  have x := h1.1
  have n8 := x.n8
  unfold f_X3_ill ilR
  rw [wp_pI]
  refine ⟨so_37 h.1.s, rfl, ?_⟩
  rw [wp_ob]
  refine ⟨so_37 x.s, ?_⟩
  rw [w_isMan x.s, x.n, b2_ite]
  by_cases c : isR (nI V.P.n) r
  · rw [if_pos c, if_pos c]
    obtain ⟨q, hq, rfl⟩ := (isR_iff (by omega)).mp c
    rw [ix_nI (by omega), wp_gR, sp_37_0 x.s]
    refine ⟨so_37 x.s, ?_⟩
    rw [wp_ob]
    refine ⟨so_37 x.s, ?_⟩
    rw [wp_bnd]
    refine wp_mono (m_rem1 h1 hk) (fun _ τ h2 => ?_)
    obtain ⟨f1, h2⟩ := h2
    have x1 := h2.1
    rw [wp_gR, sp_37_0 x1.s]
    refine ⟨so_37 x1.s, ?_⟩
    rw [wp_gR, sp_37_0 x1.s]
    refine ⟨so_37 x1.s, ?_⟩
    rw [n_16, nI_add, wp_lI, ix_nI (by omega), sl_38 x1.s, inb_nI (by omega)]
    refine ⟨⟨so_38 x1.s, by omega⟩, ?_⟩
    rw [wp_sI, ix_nI (by omega), sl_38 x1.s, inb_nI (by omega)]
    refine ⟨⟨so_38 x1.s, by omega⟩, ?_⟩
    have g : Fr [38] [] [] τ (wI τ 38 (16 + q) (1 - hi τ 38 (16 + q))) := Fr.refl.putI rfl
    have h3 := h2.horse g rfl (x1.2.2.2.1.flp (show q < 8 by omega)) (flp_ok x1.ok hq)
    have x3 := h3.1
    rw [wp_gR, sp_37_0 x3.s]
    refine ⟨so_37 x3.s, ?_⟩
    rw [wp_ob]
    refine ⟨so_37 x3.s, ?_⟩
    have e : bcI (nI (V.a.ill ^^^ 2 ^ q)) = nI (pop (V.a.ill ^^^ 2 ^ q)) := bc_nI (xor_lt x.i8 (pow_lt8 (by omega)))
    rw [m_ill x3, e_bnd, w_bc, wp_some]
    show GoM σ _ _ (bcI (nI (V.a.ill ^^^ 2 ^ q))) _
    rw [e]
    exact MVo h1 h h3 (D := [38, 48]) (G := [24]) ((f1.mono rfl).trans (g.mono rfl)) rfl rfl
  · rw [if_neg c, if_neg c, wp_some]
    exact GoM.thr h
end horse
