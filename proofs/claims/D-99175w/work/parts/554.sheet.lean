/-! PURE 97: the sheet: how tired they are -/
def shE (k v : Int32) : Int32 := if k = 0 then i2b v else if k = 1 then i2s v else v
def shV (f step : Int32) : Nat → Int32
  | 0 => f
  | r + 1 => shV f step r + step
def shN (k n f step : Int32) (r : Nat) : Int32 := if k = 3 then 0 else if nI r < n then imax 0 (imin 99 (shE k (shV f step r))) else 0
def shH (P : Pk) (a : HS) (k n f step : Int32) : HS := (a.1, (fun r => if r < P.n then shN k n f step r else a.tired r), a.2.2)
def shR (V : VS) (k n f step : Int32) : Int32 × VS := if (0 ≤ k ∧ k ≤ 3) ∧ n ≤ 8 then (if k = 3 then (-3, sA V (shH V.P V.a k n f step) V.U) else if 0 ≤ n then (sumI (shH V.P V.a k n f step).tired V.P.n, sA V (shH V.P V.a k n f step) V.U) else (-2, V)) else (-1, V)
theorem sh_ok {V : VS} (h : VOK V) {k n f step : Int32} : VOK (shR V k n f step).2 := by
  unfold shR
  split
  · split
    · exact h
    · split
      · exact h
      · exact h
  · exact h
section sheet
variable {V : VS} {σ τ υ : Hp} {k n f step : Int32} {D F G : List Nat} {a : HS} {s t : Nat} {r : Nat → Int32}
theorem CH.tireds (h : CH σ s a) (f : Fr D F G σ τ) (h0 : s ≠ 0) (hs : s < 35 ∨ 37 < s) (d0 : D.contains s = false) (d1 : D.contains (s + 1) = false) (hr' : ∀ j, j < 8 → hi τ (s + 2) j = r j) : CH τ s (a.1, r, a.2.2) := by
  obtain ⟨⟨q1, q2, q3, q4, q5, q6, q7⟩, q8, q9, q10, q11, q12, q13⟩ := h
  have e0 : ∀ i, dn D F G s i = true := fun i => dn_out d0 h0 (by omega)
  have e1 : ∀ i, dn D F G (s + 1) i = true := fun i => dn_out d1 (by omega) (by omega)
  exact ⟨⟨f.ok q1, (f.r (dn_nil (e0 0))).trans q2, (f.r (dn_nil (e0 1))).trans q3, f.ok q4, by rw [f.k]; exact q5, f.ok q6, by rw [f.k]; exact q7⟩, fun j hj => (f.i (e1 j)).trans (q8 j hj), hr', (f.i (e0 2)).trans q10, (f.i (e0 3)).trans q11, (f.i (e0 4)).trans q12, (f.i (e0 5)).trans q13⟩
theorem MH.tireds (h : MH σ t 0 a) (h1 : ∀ j, j < 8 → hi τ t (8 + j) = r j) (h2 : ∀ j, (j < 8 ∨ 16 ≤ j) → hi τ t j = hi σ t j) : MH τ t 0 (a.1, r, a.2.2) := by
  obtain ⟨q1, q2, q3, q4, q5, q6⟩ := h
  refine ⟨fun j hj => by rw [h2 _ (by omega)]; exact q1 j hj, fun j hj => by rw [Nat.zero_add]; exact h1 j hj, fun j hj => by rw [h2 _ (by omega)]; exact q3 j hj, by rw [h2 _ (by omega)]; exact q4, by rw [h2 _ (by omega)]; exact q5, by rw [h2 _ (by omega)]; exact q6⟩
theorem wp_shE {β : Type} {P : β → Hp → Prop} {v : Int32} {K : Int32 → Option (β × Hp)} (h : wp (K (shE k v)) P) : wp (if k = 0 then K (i2b v) else if k = 1 then K (i2s v) else K v) P := by
  unfold shE at h
  by_cases h0 : k = 0
  · rw [if_pos h0] at h ⊢; exact h
  · rw [if_neg h0] at h ⊢
    by_cases h1 : k = 1
    · rw [if_pos h1] at h ⊢; exact h
    · rw [if_neg h1] at h ⊢; exact h
theorem wp_shN {β : Type} {P : β → Hp → Prop} {i : Nat} {K : Int32 → Option (β × Hp)} (h : wp (K (shN k n f step i)) P) : wp (if k = 3 then K 0 else if nI i < n then K (imax 0 (imin 99 (shE k (shV f step i)))) else K 0) P := by
  unfold shN at h
  by_cases h0 : k = 3
  · rw [if_pos h0] at h ⊢; exact h
  · rw [if_neg h0] at h ⊢
    by_cases h1 : nI i < n
    · rw [if_pos h1] at h ⊢; exact h
    · rw [if_neg h1] at h ⊢; exact h
theorem c_sheet (h : CV σ V) : wp (f_X1_sheet (some 0) k n f step σ) (GoC σ 0 (shR V k n f step).1 (shR V k n f step).2) := by
  have x := h.1
  have n8 := x.n8
  unfold f_X1_sheet shR
  rw [w_in_0_3, b2_ite]
  by_cases c1 : 0 ≤ k ∧ k ≤ 3
  · rw [if_pos c1]
    by_cases c2 : n ≤ 8
    · rw [if_pos c2, if_pos ⟨c1, c2⟩, y_jn]
      generalize hQ : GoC σ 0 (if k = 3 then (-3, sA V (shH V.P V.a k n f step) V.U) else if 0 ≤ n then (sumI (shH V.P V.a k n f step).tired V.P.n, sA V (shH V.P V.a k n f step) V.U) else (-2, V)).1 (if k = 3 then (-3, sA V (shH V.P V.a k n f step) V.U) else if 0 ≤ n then (sumI (shH V.P V.a k n f step).tired V.P.n, sA V (shH V.P V.a k n f step) V.U) else (-2, V)).2 = Q
      have go : (k = 3 ∨ 0 ≤ n) → wp (lp 2000 (f_X1_sheet_b38 (some 0) k n step (fun (a11 : Unit) σ => if k = 3 then some ((-3), σ) else gR 0 0 σ (some 0) fun y12 => gR 1 1 σ y12 fun y13 => ob 0 σ (some 0) fun _ => bnd (f_X1_sumOf (some 0) y13 σ) fun x14 σ => some (x14, σ))) (f, 0) σ) Q := by
        intro hc
        refine wp_up V.P.n (fun i y τ => y = (shV f step i, nI i) ∧ Fr [3] [] [] σ τ ∧ ∀ j, j < 8 → hi τ 3 j = if j < i then shN k n f step j else V.a.tired j) (fun ag i y τ hi' hJ hag => ?_) (fun ag y τ hJ => ?_) (by omega) ⟨rfl, Fr.refl, fun j hj => by rw [if_neg (Nat.not_lt_zero _)]; exact x.ti j hj⟩
        · obtain ⟨rfl, g, k1⟩ := hJ
          have hτ := g.sh x.s rfl
          have e5 : hi τ 0 5 = nI V.P.n := (g.i rfl).trans x.n
          unfold f_X1_sheet_b38
          rw [wp_gI, e5, if_neg (nI_ge hi' (by omega))]
          refine ⟨so_0 hτ, ?_⟩
          rw [y_jn]
          refine wp_shE (K := fun a5 => gR 0 0 τ (some 0) fun y7 => gR 1 1 τ y7 fun y8 => jn (fun (a9 : Int32) σ => sI σ y8 (nI i) a9 fun σ => ag ((shV f step i + step), (nI i + 1)) σ) fun j10 => if k = 3 then j10 0 τ else if nI i < n then j10 (imax 0 (imin 99 a5)) τ else j10 0 τ) ?_
          dsimp only
          rw [wp_gR, sp_0_0 hτ]
          refine ⟨so_0 hτ, ?_⟩
          rw [wp_gR, sp_1_1 hτ]
          refine ⟨so_1 hτ, ?_⟩
          rw [y_jn]
          refine wp_shN (K := fun a9 => sI τ (some 3) (nI i) a9 fun σ => ag ((shV f step i + step), (nI i + 1)) σ) ?_
          rw [wp_sI, ix_nI (by omega), sl_3 hτ, inb_nI (by omega), nI_1]
          refine ⟨⟨so_3 hτ, by omega⟩, hag _ _ ⟨rfl, g.putI rfl, fun j hj => ?_⟩⟩
          by_cases e : j = i
          · rw [e, hi_eq, if_pos (Nat.lt_succ_self i)]
          · rw [hi_ni e, k1 j hj]
            by_cases e2 : j < i
            · rw [if_pos e2, if_pos (by omega)]
            · rw [if_neg e2, if_neg (by omega)]
        · obtain ⟨rfl, g, k1⟩ := hJ
          have hτ := g.sh x.s rfl
          have e5 : hi τ 0 5 = nI V.P.n := (g.i rfl).trans x.n
          have hch : CH τ 1 (shH V.P V.a k n f step) := CH.tireds (s := 1) x.2.2.2.1 g (by decide) (by decide) rfl rfl k1
          have h4 : CV τ (sA V (shH V.P V.a k n f step) V.U) := h.horse g rfl hch ⟨x.ok.1, x.ok.2⟩
          unfold f_X1_sheet_b38
          rw [wp_gI, e5, if_pos (nI_le (Nat.le_refl _) (by omega))]
          refine ⟨so_0 hτ, ?_⟩
          dsimp only
          by_cases c3 : k = 3
          · rw [if_pos c3, wp_some, ← hQ, if_pos c3]
            exact ⟨rfl, h4, [3], [], g.frs x.s rfl, rfl⟩
          · have c4 : 0 ≤ n := by rcases hc with z | z; exact absurd z c3; exact z
            rw [if_neg c3, wp_gR, sp_0_0 hτ]
            refine ⟨so_0 hτ, ?_⟩
            rw [wp_gR, sp_1_1 hτ]
            refine ⟨so_1 hτ, ?_⟩
            rw [wp_ob]
            refine ⟨so_0 hτ, ?_⟩
            rw [c_tsum (s := 1) hτ e5 n8 hch, e_bnd, wp_some, ← hQ, if_neg c3, if_pos c4]
            exact ⟨rfl, h4, [3], [], g.frs x.s rfl, rfl⟩
      by_cases c3 : k = 3
      · rw [if_pos c3]; exact go (Or.inl c3)
      · rw [if_neg c3]
        by_cases c4 : 0 ≤ n
        · rw [if_pos c4]; exact go (Or.inr c4)
        · rw [if_neg c4, wp_some, ← hQ, if_neg c3, if_neg c4]
          exact GoC.same h
    · rw [if_neg c2, if_neg (fun z => c2 z.2), wp_some]
      exact GoC.same h
  · rw [if_neg c1, if_neg (fun z => c1 z.1), wp_some]
    exact GoC.same h
theorem m_sheet (h : MW σ V) : wp (f_X3_sheet (some 37) k n f step σ) (GoM σ (shR V k n f step).1 (shR V k n f step).2) := by
  have h1 := h.thr (v := 0)
  have x := h1.1
  have n8 := x.n8
  unfold f_X3_sheet shR
  rw [wp_pI]
  refine ⟨so_37 h.1.s, rfl, ?_⟩
  rw [w_in3, b2_ite]
  by_cases c1 : 0 ≤ k ∧ k ≤ 3
  · rw [if_pos c1]
    by_cases c2 : n ≤ 8
    · rw [if_pos c2, if_pos ⟨c1, c2⟩, y_jn]
      generalize hQ : GoM σ (if k = 3 then (-3, sA V (shH V.P V.a k n f step) V.U) else if 0 ≤ n then (sumI (shH V.P V.a k n f step).tired V.P.n, sA V (shH V.P V.a k n f step) V.U) else (-2, V)).1 (if k = 3 then (-3, sA V (shH V.P V.a k n f step) V.U) else if 0 ≤ n then (sumI (shH V.P V.a k n f step).tired V.P.n, sA V (shH V.P V.a k n f step) V.U) else (-2, V)).2 = Q
      have go : (k = 3 ∨ 0 ≤ n) → wp (lp 2000 (f_X3_sheet_b43 (some 37) k n step (fun (a12 : Int32) σ => if k = 3 then some ((-3), σ) else some (a12, σ))) (0, f, 0) (wI σ 37 11 0)) Q := by
        intro hc
        refine wp_up V.P.n (fun i y τ => y = (sumI (shN k n f step) i, shV f step i, nI i) ∧ Fr [38] [] [] (wI σ 37 11 0) τ ∧ (∀ j, j < 8 → hi τ 38 (8 + j) = if j < i then shN k n f step j else V.a.tired j) ∧ ∀ j, (j < 8 ∨ 16 ≤ j) → hi τ 38 j = hi (wI σ 37 11 0) 38 j) (fun ag i y τ hi' hJ hag => ?_) (fun ag y τ hJ => ?_) (by omega) ⟨rfl, Fr.refl, fun j hj => by rw [if_neg (Nat.not_lt_zero _)]; exact x.ti j hj, fun _ _ => rfl⟩
        · obtain ⟨rfl, g, k1, k2⟩ := hJ
          have hτ := g.sh x.s rfl
          have e3 : hi τ 37 3 = nI V.P.n := (g.i rfl).trans x.n
          unfold f_X3_sheet_b43
          rw [wp_gI, e3, if_neg (nI_ge hi' (by omega))]
          refine ⟨so_37 hτ, ?_⟩
          rw [y_jn]
          refine wp_shE (K := fun a5 => gR 2 0 τ (some 37) fun y7 => jn (fun (a8 : Int32) σ => sI σ y7 (8 + nI i) a8 fun σ => gR 2 0 σ (some 37) fun y10 => lI 100 σ y10 (8 + nI i) fun x11 => ag ((sumI (shN k n f step) i + x11), (shV f step i + step), (nI i + 1)) σ) fun j9 => if k = 3 then j9 0 τ else if nI i < n then j9 (imax 0 (imin 99 a5)) τ else j9 0 τ) ?_
          dsimp only
          rw [wp_gR, sp_37_0 hτ]
          refine ⟨so_37 hτ, ?_⟩
          rw [y_jn]
          refine wp_shN (K := fun a8 => sI τ (some 38) (8 + nI i) a8 fun σ => gR 2 0 σ (some 37) fun y10 => lI 100 σ y10 (8 + nI i) fun x11 => ag ((sumI (shN k n f step) i + x11), (shV f step i + step), (nI i + 1)) σ) ?_
          rw [n_8, nI_add, wp_sI, ix_nI (by omega), sl_38 hτ, inb_nI (by omega)]
          refine ⟨⟨so_38 hτ, by omega⟩, ?_⟩
          have s2 : Sh (wI τ 38 (8 + i) (shN k n f step i)) := sw_I hτ
          rw [wp_gR, sp_37_0 s2]
          refine ⟨so_37 s2, ?_⟩
          rw [wp_lI, ix_nI (by omega), sl_38 s2, inb_nI (by omega), hi_eq, nI_1]
          refine ⟨⟨so_38 s2, by omega⟩, hag _ _ ⟨rfl, g.putI rfl, fun j hj => ?_, fun j hj => by rw [hi_ni (by omega)]; exact k2 j hj⟩⟩
          by_cases e : j = i
          · rw [e, hi_eq, if_pos (Nat.lt_succ_self i)]
          · rw [hi_ni (by omega), k1 j hj]
            by_cases e2 : j < i
            · rw [if_pos e2, if_pos (by omega)]
            · rw [if_neg e2, if_neg (by omega)]
        · obtain ⟨rfl, g, k1, k2⟩ := hJ
          have hτ := g.sh x.s rfl
          have e3 : hi τ 37 3 = nI V.P.n := (g.i rfl).trans x.n
          have hch : MH τ 38 0 (shH V.P V.a k n f step) := MH.tireds x.2.2.2.1 k1 k2
          have h4 : MW τ (sA V (shH V.P V.a k n f step) V.U) := h1.horse g rfl hch ⟨x.ok.1, x.ok.2⟩
          have es : sumI (shN k n f step) V.P.n = sumI (shH V.P V.a k n f step).tired V.P.n := sumI_congr V.P.n (fun i hi' => by
            show _ = if i < V.P.n then shN k n f step i else _
            rw [if_pos hi'])
          unfold f_X3_sheet_b43
          rw [wp_gI, e3, if_pos (nI_le (Nat.le_refl _) (by omega))]
          refine ⟨so_37 hτ, ?_⟩
          dsimp only
          by_cases c3 : k = 3
          · rw [if_pos c3, wp_some, ← hQ, if_pos c3]
            exact MVo h1 h h4 g rfl rfl
          · have c4 : 0 ≤ n := by rcases hc with z | z; exact absurd z c3; exact z
            rw [if_neg c3, wp_some, ← hQ, if_neg c3, if_pos c4]
            have := MVo h1 h (r := sumI (shH V.P V.a k n f step).tired V.P.n) h4 g rfl rfl
            exact ⟨es, this.2⟩
      have c34 : (3 ≤ k) = (k = 3) := by
        obtain ⟨q, hq, rfl⟩ := lo_pos c1.1
        have := nI_b1 (m := 3) hq (by decide) c1.2
        rw [n_3, nI_le_l (by decide) hq, nI_eq_l hq (by decide)]
        exact propext (by omega)
      simp only [c34]
      by_cases c3 : k = 3
      · rw [if_pos c3]; exact go (Or.inl c3)
      · rw [if_neg c3]
        by_cases c4 : 0 ≤ n
        · rw [if_pos c4]; exact go (Or.inr c4)
        · rw [if_neg c4, wp_some, ← hQ, if_neg c3, if_neg c4]
          exact GoM.thr h
    · rw [if_neg c2, if_neg (fun z => c2 z.2), wp_some]
      exact GoM.thr h
  · rw [if_neg c1, if_neg (fun z => c1 z.1), wp_some]
    exact GoM.thr h
end sheet
