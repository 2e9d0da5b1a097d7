/-! PURE 96: a rider asked, the row asked: with what is thrown -/
def riO (V : VS) (r w : Int32) : Option Int32 := if isR (nI V.P.n) r then (if w = 0 then some (nI (V.P.most (ix r))) else if w = 1 then some (nI (V.P.width (ix r))) else if w = 2 then some (nI (V.P.can (ix r))) else if w = 3 then some (V.a.tired (ix r)) else if w = 4 then some (if V.a.ill.testBit (ix r) then 1 else 0) else if w = 5 then some (nI (hrsN V.a (ix r))) else none) else none
def roO (V : VS) (i : Int32) : Option Int64 := if isR (nI V.w.length) i then some (V.w.getD (ix i) 0) else none
section rider
variable {V : VS} {σ τ υ : Hp} {r w : Int32}
theorem thrown_frs (hs : Sh σ) : FrS [] [] [] 1 σ (nw σ 7 6) ∧ FrD σ (nw σ 7 6) := by
  have h69 := hs.1
  refine ⟨⟨⟨Nat.le_succ _, Nat.le_refl _⟩, ⟨Nat.le_add_right _ _, by show hu σ + 6 ≤ hu σ + 10 * 1; omega⟩, nw_nk, fun a ha i => ?_⟩, ⟨nw_hr (by omega), nw_hr (by omega)⟩, fun a _ hb => ⟨nw_kn (Nat.ne_of_lt hb), nw_hi (Nat.ne_of_lt hb), nw_hr (Nat.ne_of_lt hb)⟩⟩
  have hne : a ≠ hn σ := by omega
  exact ⟨fun _ => ⟨by rw [nw_hi hne], by rw [nw_hl hne]⟩, fun _ _ _ => by rw [nw_hr hne]⟩
theorem out_frs (hs : Sh σ) {v : Int64} : FrS [68] [] [] 0 σ (wL σ 68 0 v) ∧ FrD σ (wL σ 68 0 v) := by
  have f : Fr [68] [] [] σ (wL σ 68 0 v) := Fr.refl.putL rfl
  exact ⟨f.frs hs rfl, f.frd rfl⟩
theorem wp_out (hs : Sh σ) {β : Type} {P : β → Hp → Prop} {v : Int64} {K : Hp → Option (β × Hp)} : wp (sL σ (some 68) 0 v K) P ↔ wp (K (wL σ 68 0 v)) P := by
  rw [wp_sL]
  have h : Ok σ 68 103 ∧ inb 0 (hk σ 68).2 := ⟨⟨hs.1, by rw [hs.2.1 68 (by decide)]; rfl⟩, by rw [hs.2.1 68 (by decide)]; unfold inb; decide⟩
  exact ⟨fun z => z.2, fun z => ⟨h, z⟩⟩
/-- what the law sees of the class's rider -/
def QCx (σ : Hp) (V : VS) (o : Option Int64) (k : Int32) (τ : Hp) : Prop := CV τ V ∧ FrS [68] [] [] 1 σ τ ∧ (match o with
  | none => k = 1
  | some v => k = 0 ∧ hl τ 68 0 = v)
theorem qx_none (h : CV σ V) : QCx σ V none 1 (nw σ 7 6) := by
  obtain ⟨f, d⟩ := thrown_frs h.1.s
  exact ⟨h.frs f d rfl, f.mono rfl (Nat.le_refl _), rfl⟩
theorem qx_some (h : CV σ V) (v : Int64) : QCx σ V (some v) 0 (wL σ 68 0 v) := by
  obtain ⟨f, d⟩ := out_frs (v := v) h.1.s
  exact ⟨h.frs f d rfl, f.mono rfl (by decide), rfl, hl_eq⟩
theorem c_riderX (h : CV σ V) : wp (f_X0_rider (some 0) r w (some 68) σ) (QCx σ V ((riO V r w).map Int32.toInt64)) := by
  have x := h.1
  have n8 := x.n8
  unfold f_X0_rider f_X1_rider
  rw [wp_ob]
  refine ⟨so_0 x.s, ?_⟩
  rw [e_ob (so_0 x.s), c_isRider x.s, x.n, e_bnd, b2_ite]
  by_cases c : isR (nI V.P.n) r
  · obtain ⟨q, hq, rfl⟩ := (isR_iff (by omega)).mp c
    have hri : riO V (nI q) w = (if w = 0 then some (nI (V.P.most q)) else if w = 1 then some (nI (V.P.width q)) else if w = 2 then some (nI (V.P.can q)) else if w = 3 then some (V.a.tired q) else if w = 4 then some (if V.a.ill.testBit q then 1 else 0) else if w = 5 then some (nI (hrsN V.a q)) else none) := by
      unfold riO
      rw [if_pos c, ix_nI (by omega)]
    have fin : ∀ v, riO V (nI q) w = some v → wp (bndX (some (some v, σ)) (fun x1 σ => sL σ (some 68) 0 (Int32.toInt64 x1) fun σ => some (0, σ)) (fun σ => some ((1 : Int32), σ))) (QCx σ V ((riO V (nI q) w).map Int32.toInt64)) := fun v hv => by
      rw [hv]
      show wp (sL σ (some 68) 0 (Int32.toInt64 v) fun σ => some (0, σ)) _
      rw [wp_out x.s, wp_some]
      exact qx_some h _
    have o0 := so_0 x.s
    have ib : ∀ {t : Nat}, (hk σ t).2 = 8 → inb (nI q) (hk σ t).2 := fun ht => by rw [ht, inb_nI (by omega)]; omega
    rw [if_pos c]
    by_cases c0 : w = 0
    · rw [if_pos c0] at hri ⊢
      rw [e_gR o0, sp_0_2 x.s, e_lI (so_7 x.s) (ib (sl_7 x.s)), ix_nI (by omega), x.mo q hq]
      exact fin _ hri
    rw [if_neg c0] at hri ⊢
    by_cases c1 : w = 1
    · rw [if_pos c1] at hri ⊢
      rw [e_gR o0, sp_0_3 x.s, e_lI (so_8 x.s) (ib (sl_8 x.s)), ix_nI (by omega), x.wi q hq]
      exact fin _ hri
    rw [if_neg c1] at hri ⊢
    by_cases c2 : w = 2
    · rw [if_pos c2] at hri ⊢
      rw [e_gR o0, sp_0_4 x.s, e_lI (so_9 x.s) (ib (sl_9 x.s)), ix_nI (by omega), x.ca q hq]
      exact fin _ hri
    rw [if_neg c2] at hri ⊢
    by_cases c3 : w = 3
    · rw [if_pos c3] at hri ⊢
      rw [e_gR o0, sp_0_0 x.s, e_gR (so_1 x.s), sp_1_1 x.s, e_lI (so_3 x.s) (ib (sl_3 x.s)), ix_nI (by omega), x.ti q (by omega)]
      exact fin _ hri
    rw [if_neg c3] at hri ⊢
    by_cases c4 : w = 4
    · rw [if_pos c4] at hri ⊢
      have i8 := x.i8
      rw [e_gR o0, sp_0_0 x.s, e_gI (so_1 x.s), x.il, c_has, e_bnd, b2_ite]
      by_cases cb : V.a.ill.testBit q = true
      · rw [if_pos ((bit_nI (by omega) (by omega)).mpr cb)]
        exact fin _ (by rw [hri, if_pos cb])
      · rw [if_neg (fun z => cb ((bit_nI (by omega) (by omega)).mp z))]
        exact fin _ (by rw [hri, if_neg cb])
    rw [if_neg c4] at hri ⊢
    by_cases c5 : w = 5
    · rw [if_pos c5] at hri ⊢
      rw [e_gR o0, sp_0_0 x.s, e_ob (so_1 x.s), c_hoursOf (so_1 x.s) (sp_1_0 x.s) (so_2 x.s) (sl_2 x.s), e_bnd, hrs_nI (a := V.a) (fun i hi' => x.ro i hi')]
      exact fin _ hri
    rw [if_neg c5] at hri ⊢
    rw [hri]
    show wp (some ((1 : Int32), nw σ 7 6)) _
    rw [wp_some]
    exact qx_none h
  · rw [if_neg c]
    have e : riO V r w = none := by unfold riO; rw [if_neg c]
    rw [e]
    show wp (some ((1 : Int32), nw σ 7 6)) _
    rw [wp_some]
    exact qx_none h
theorem c_rowX (h : CV σ V) {i : Int32} : wp (f_X0_row (some 0) i (some 68) σ) (QCx σ V (roO V i)) := by
  have x := h.1
  have r := h.2.2.2.2.2.1
  have l16 := r.2.1
  unfold f_X0_row f_X1_row roO
  rw [wp_ob]
  refine ⟨so_0 x.s, ?_⟩
  rw [e_gI (so_0 x.s), r.1, show (0 : Int64) = Int32.toInt64 0 from rfl, c_in, e_bnd, b2_ite]
  by_cases c : isR (nI V.w.length) i
  · obtain ⟨q, hq, rfl⟩ := (isR_iff (by omega)).mp c
    rw [if_pos c, if_pos (show 0 ≤ nI q ∧ nI q ≤ nI V.w.length - 1 from c), e_gR (so_0 x.s), sp_0_51 x.s, e_lL (so_36 x.s) (by rw [sl_36 x.s, inb_nI (by omega)]; omega), ix_nI (by omega), r.2.2 q hq]
    show wp (sL σ (some 68) 0 _ fun σ => some (0, σ)) _
    rw [wp_out x.s, wp_some]
    exact qx_some h _
  · rw [if_neg c, if_neg (show ¬ (0 ≤ i ∧ i ≤ nI V.w.length - 1) from c)]
    show wp (some ((1 : Int32), nw σ 7 6)) _
    rw [wp_some]
    exact qx_none h
/-- what the law sees of the reference's -/
def QMx {β : Type} (σ : Hp) (V : VS) (o : Option β) (x : β) (τ : Hp) : Prop := MW τ V ∧ Fr [] [] [11] σ τ ∧ (match o with
  | none => hi τ 37 11 = 1
  | some v => x = v ∧ hi τ 37 11 = 0)
theorem qy_none {β : Type} {x : β} (h : MW σ V) : QMx σ V (none : Option β) x (wI (wI σ 37 11 0) 37 11 1) := ⟨(h.thr (v := 0)).thr (v := 1), (Fr.refl.putI rfl).putI rfl, hi_eq⟩
theorem qy_some {β : Type} {x : β} (h : MW σ V) : QMx σ V (some x) x (wI σ 37 11 0) := ⟨h.thr (v := 0), Fr.refl.putI rfl, rfl, hi_eq⟩
theorem m_riderX (h : MW σ V) : wp (f_X3_rider (some 37) r w σ) (QMx σ V (riO V r w)) := by
  have h1 := h.thr (v := 0)
  have x := h1.1
  have n8 := x.n8
  unfold f_X3_rider
  rw [wp_pI]
  refine ⟨so_37 h.1.s, rfl, ?_⟩
  rw [wp_ob]
  refine ⟨so_37 x.s, ?_⟩
  rw [w_isMan x.s, x.n, y_jn, b2_ite]
  have no : riO V r w = none → wp (ob 2 (wI σ 37 11 0) (some 37) fun _ => bnd (f_X3_lost (some 37) (wI σ 37 11 0)) fun x4 σ => some (x4, σ)) (QMx σ V (riO V r w)) := fun e => by
    rw [wp_ob]
    refine ⟨so_37 x.s, ?_⟩
    rw [m_lost x.s, e_bnd, wp_some, e]
    exact qy_none h
  by_cases c : isR (nI V.P.n) r
  · obtain ⟨q, hq, rfl⟩ := (isR_iff (by omega)).mp c
    have hri : riO V (nI q) w = (if w = 0 then some (nI (V.P.most q)) else if w = 1 then some (nI (V.P.width q)) else if w = 2 then some (nI (V.P.can q)) else if w = 3 then some (V.a.tired q) else if w = 4 then some (if V.a.ill.testBit q then 1 else 0) else if w = 5 then some (nI (hrsN V.a q)) else none) := by
      unfold riO
      rw [if_pos c, ix_nI (by omega)]
    have fin : ∀ v, riO V (nI q) w = some v → wp (some (v, wI σ 37 11 0)) (QMx σ V (riO V (nI q) w)) := fun v hv => by
      rw [hv, wp_some]
      exact qy_some h
    have o0 := so_37 x.s
    have ib : ∀ {t : Nat}, (hk (wI σ 37 11 0) t).2 = 8 → inb (nI q) (hk (wI σ 37 11 0) t).2 := fun ht => by rw [ht, inb_nI (by omega)]; omega
    rw [if_pos c, w_in3, b2_ite]
    by_cases cw : 0 ≤ w ∧ w ≤ 5
    · rw [if_pos cw]
      obtain ⟨k, hk', rfl⟩ := lo_pos cw.1
      have k5 := nI_b1 (m := 5) hk' (by decide) cw.2
      by_cases c0 : nI k = 0
      · rw [if_pos c0] at hri ⊢
        rw [wp_gR, sp_37_4 x.s]
        refine ⟨o0, ?_⟩
        rw [wp_lI, ix_nI (by omega), x.mo q hq]
        exact ⟨⟨so_39 x.s, ib (sl_39 x.s)⟩, fin _ hri⟩
      rw [if_neg c0] at hri ⊢
      by_cases c1 : nI k = 1
      · rw [if_pos c1] at hri ⊢
        rw [wp_gR, sp_37_5 x.s]
        refine ⟨o0, ?_⟩
        rw [wp_lI, ix_nI (by omega), x.wi q hq]
        exact ⟨⟨so_40 x.s, ib (sl_40 x.s)⟩, fin _ hri⟩
      rw [if_neg c1] at hri ⊢
      by_cases c2 : nI k = 2
      · rw [if_pos c2] at hri ⊢
        rw [wp_gR, sp_37_6 x.s]
        refine ⟨o0, ?_⟩
        rw [wp_lI, ix_nI (by omega), x.ca q hq]
        exact ⟨⟨so_41 x.s, ib (sl_41 x.s)⟩, fin _ hri⟩
      rw [if_neg c2] at hri ⊢
      have ib2 : ∀ j, j < 27 → inb (nI j) (hk (wI σ 37 11 0) 38).2 := fun j hj => by rw [sl_38 x.s, inb_nI (by omega)]; exact hj
      by_cases c3 : nI k = 3
      · rw [if_pos c3] at hri ⊢
        rw [wp_gR, sp_37_0 x.s]
        refine ⟨o0, ?_⟩
        rw [n_8, nI_add, wp_lI, ix_nI (by omega), x.ti q (by omega)]
        exact ⟨⟨so_38 x.s, ib2 _ (by omega)⟩, fin _ hri⟩
      rw [if_neg c3] at hri ⊢
      by_cases c4 : nI k = 4
      · rw [if_pos c4] at hri ⊢
        rw [wp_gR, sp_37_0 x.s]
        refine ⟨o0, ?_⟩
        rw [n_16, nI_add, wp_lI, ix_nI (by omega), x.il q (by omega)]
        exact ⟨⟨so_38 x.s, ib2 _ (by omega)⟩, fin _ hri⟩
      rw [if_neg c4] at hri ⊢
      have c5 : nI k = 5 := by
        rw [l_eq0 (by omega)] at c0
        rw [l_eq1 (by omega)] at c1
        rw [n_2, nI_eq_l (by omega) (by decide)] at c2
        rw [n_3, nI_eq_l (by omega) (by decide)] at c3
        rw [n_4, nI_eq_l (by omega) (by decide)] at c4
        rw [n_5, nI_eq_l (by omega) (by decide)]
        omega
      rw [if_pos c5] at hri
      rw [wp_gR, sp_37_0 x.s]
      refine ⟨o0, ?_⟩
      rw [wp_ob]
      refine ⟨o0, ?_⟩
      rw [m_hoursOf (so_38 x.s) (by rw [sl_38 x.s]; decide), e_bnd, hrs_nI (a := V.a) (fun i hi' => x.ro i hi')]
      exact fin _ hri
    · rw [if_neg cw]
      have hne : ∀ k : Int32, 0 ≤ k ∧ k ≤ 5 → ¬ w = k := fun k hk' z => cw (by rw [z]; exact hk')
      refine no ?_
      rw [hri, if_neg (hne 0 (by decide)), if_neg (hne 1 (by decide)), if_neg (hne 2 (by decide)), if_neg (hne 3 (by decide)), if_neg (hne 4 (by decide)), if_neg (hne 5 (by decide))]
  · rw [if_neg c]
    exact no (by unfold riO; rw [if_neg c])
theorem m_rowX (h : MW σ V) {i : Int32} : wp (f_X3_row (some 37) i σ) (QMx σ V (roO V i)) := by
  have h1 := h.thr (v := 0)
  have x := h1.1
  have r := h1.2.2.2.2.2.1
  have l16 := r.2.1
  unfold f_X3_row roO
  rw [wp_pI]
  refine ⟨so_37 h.1.s, rfl, ?_⟩
  rw [wp_gI, r.1]
  refine ⟨so_37 x.s, ?_⟩
  rw [w_in3, b2_ite]
  by_cases c : isR (nI V.w.length) i
  · obtain ⟨q, hq, rfl⟩ := (isR_iff (by omega)).mp c
    rw [if_pos c, if_pos (show 0 ≤ nI q ∧ nI q ≤ nI V.w.length - 1 from c), wp_gR, sp_37_9 x.s]
    refine ⟨so_37 x.s, ?_⟩
    rw [wp_lL, ix_nI (by omega), sl_43 x.s, inb_nI (by omega), r.2.2 q hq]
    refine ⟨⟨so_43 x.s, by omega⟩, ?_⟩
    rw [wp_some]
    exact qy_some h
  · rw [if_neg c, if_neg (show ¬ (0 ≤ i ∧ i ≤ nI V.w.length - 1) from c), wp_ob]
    refine ⟨so_37 x.s, ?_⟩
    rw [m_lost x.s, e_bnd, wp_some]
    exact qy_none h
end rider
