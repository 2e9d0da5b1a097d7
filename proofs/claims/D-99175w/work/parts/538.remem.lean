/-! PURE 88: horses put by (the reference); undone, kept, taken again -/
section remem
variable {σ τ υ : Hp} {V : VS} {U : US} {K : KS} {a b : HS} {s t k k' : Nat} {P : Pk}
theorem MH.shift (h : ∀ i, i < 27 → hi τ t (k + i) = hi σ s (k' + i)) (ha : MH σ s k' b) : MH τ t k b := by
  obtain ⟨h1, h2, h3, h4, h5, h6⟩ := ha
  refine ⟨fun i hi' => ?_, fun i hi' => ?_, fun i hi' => ?_, (h 24 (by decide)).trans h4, (h 25 (by decide)).trans h5, (h 26 (by decide)).trans h6⟩
  · rw [h i (by omega)]; exact h1 i hi'
  · have := h2 i hi'; rw [show k + 8 + i = k + (8 + i) by omega, h (8 + i) (by omega), show k' + (8 + i) = k' + 8 + i by omega]; exact this
  · have := h3 i hi'; rw [show k + 16 + i = k + (16 + i) by omega, h (16 + i) (by omega), show k' + (16 + i) = k' + 16 + i by omega]; exact this
theorem m_remAt (hs : Sh σ) {m : Nat} (hm : m ≤ 11) (e24 : hi σ 37 24 = nI m) (u2 : ∀ k, k < m → MH σ 48 (27 * k) (U.2 k)) (ha : MH σ t 0 a) (ht : t = 38 ∨ t = 49) : wp (gR 2 23 σ (some 37) fun y4 => gI 2 24 σ (some 37) fun x5 => bnd (f_X3_lay (some t) y4 (27 * x5) σ) fun _ σ => gI 2 24 σ (some 37) fun x6 => pI 0 2 24 σ (some 37) (x6 + 1) fun σ => some ((), σ)) (fun _ τ => Fr [48] [] [24] σ τ ∧ hi τ 37 24 = nI (m + 1) ∧ ∀ k, k < m + 1 → MH τ 48 (27 * k) (up1 U.2 m a k)) := by
  rw [wp_gR, sp_37_23 hs]
  refine ⟨so_37 hs, ?_⟩
  rw [wp_gI, e24]
  refine ⟨so_37 hs, ?_⟩
  rw [n_27, nI_mul, wp_bnd]
  have l48 := sl_48 hs
  have ot : Ok σ t 100 ∧ (hk σ t).2 = 27 := by
    rcases ht with rfl | rfl
    · exact ⟨so_38 hs, sl_38 hs⟩
    · exact ⟨so_49 hs, sl_49 hs⟩
  refine wp_mono (m_lay (k := 27 * m) ot.1 ot.2 (so_48 hs) (by rw [l48]; omega) (by omega) (by omega)) (fun _ τ h => ?_)
  obtain ⟨h1, h2, h3⟩ := h
  have f1 : Fr [48] [] [] σ τ := h1.fr rfl
  have hτ := f1.sh hs rfl
  have e24' : hi τ 37 24 = nI m := (f1.i rfl).trans e24
  rw [wp_gI, e24']
  refine ⟨so_37 hτ, ?_⟩
  rw [wp_pI]
  refine ⟨so_37 hτ, rfl, ?_⟩
  rw [wp_some, nI_1]
  refine ⟨(f1.mono rfl).putI rfl, hi_eq, fun k hk' => ?_⟩
  have e48 : ∀ i, hi (wI τ 37 24 (nI (m + 1))) 48 i = hi τ 48 i := fun i => by rw [hi_ne (by decide)]
  by_cases e : k = m
  · subst e
    rw [up1_eq]
    exact MH.shift (k' := 0) (σ := σ) (s := t) (fun i hi' => by rw [e48, h3 i hi', Nat.zero_add]) ha
  · rw [up1_ne e]
    exact MH.shift (σ := σ) (s := 48) (fun i hi' => by rw [e48, h2 _ (by omega)]) (u2 k (by omega))
theorem m_remember (hs : Sh σ) (u12 : U.1 ≤ 12) (e24 : hi σ 37 24 = nI U.1) (u2 : ∀ k, k < U.1 → MH σ 48 (27 * k) (U.2 k)) (ha : MH σ t 0 a) (ht : t = 38 ∨ t = 49) : wp (f_X3_remember (some 37) (some t) σ) (fun _ τ => Fr [48] [] [24] σ τ ∧ hi τ 37 24 = nI (psh U a).1 ∧ ∀ k, k < (psh U a).1 → MH τ 48 (27 * k) ((psh U a).2 k)) := by
  unfold f_X3_remember
  rw [wp_gI, e24]
  refine ⟨so_37 hs, ?_⟩
  rw [y_jn]
  by_cases c : U.1 = 12
  · rw [if_pos (by rw [c]; rfl)]
    unfold psh
    rw [if_pos c]
    refine wp_up 297 (fun i y τ => y = nI i ∧ Fr [48] [] [] σ τ ∧ ∀ j, j < 324 → hi τ 48 j = if j < i then hi σ 48 (j + 27) else hi σ 48 j) (fun ag i y τ hi' hJ hag => ?_) (fun ag y τ hJ => ?_) (by decide) ⟨rfl, Fr.refl, fun j _ => by rw [if_neg (Nat.not_lt_zero _)]⟩
    · obtain ⟨rfl, f, h1⟩ := hJ
      have hτ := f.sh hs rfl
      unfold f_X3_remember_b11
      rw [show (297 : Int32) = nI 297 from rfl, if_neg (nI_ge hi' (by decide)), wp_gR, sp_37_23 hτ]
      refine ⟨so_37 hτ, ?_⟩
      rw [wp_gR, sp_37_23 hτ]
      refine ⟨so_37 hτ, ?_⟩
      rw [n_27, nI_add, wp_lI, ix_nI (by omega), sl_48 hτ, inb_nI (by omega), h1 _ (by omega), if_neg (by omega)]
      refine ⟨⟨so_48 hτ, by omega⟩, ?_⟩
      rw [wp_sI, ix_nI (by omega), sl_48 hτ, inb_nI (by omega), nI_1]
      refine ⟨⟨so_48 hτ, by omega⟩, hag _ _ ⟨rfl, f.putI rfl, fun j hj => ?_⟩⟩
      by_cases e : j = i
      · rw [e, hi_eq, if_pos (Nat.lt_succ_self i)]
      · rw [hi_ni e, h1 j hj]
        by_cases e2 : j < i
        · rw [if_pos e2, if_pos (by omega)]
        · rw [if_neg e2, if_neg (by omega)]
    · obtain ⟨rfl, f, h1⟩ := hJ
      have hτ := f.sh hs rfl
      have e24' : hi τ 37 24 = nI 12 := by rw [f.i rfl, e24, c]
      unfold f_X3_remember_b11
      rw [show (297 : Int32) = nI 297 from rfl, if_pos (nI_le (Nat.le_refl _) (by decide)), wp_gI, e24']
      refine ⟨so_37 hτ, ?_⟩
      rw [l_sub1 (by decide), wp_pI]
      refine ⟨so_37 hτ, rfl, ?_⟩
      have f2 : Fr [48] [] [24] σ (wI τ 37 24 (nI (12 - 1))) := (f.mono rfl).putI rfl
      have h2 : Sh (wI τ 37 24 (nI (12 - 1))) := sw_I hτ
      have e48 : ∀ j, hi (wI τ 37 24 (nI (12 - 1))) 48 j = hi τ 48 j := fun j => by rw [hi_ne (by decide)]
      refine wp_mono (m_remAt (m := 11) (U := (0, fun k => U.2 (k + 1))) (a := a) h2 (by decide) hi_eq (fun k hk' => ?_) (ha.fr f2 (by omega) (by omega) (by rcases ht with rfl | rfl <;> rfl)) ht) (fun _ τ' h => ?_)
      · exact MH.shift (σ := σ) (s := 48) (k' := 27 * (k + 1)) (fun i hi' => by rw [e48, h1 _ (by omega), if_pos (by omega), show 27 * k + i + 27 = 27 * (k + 1) + i by omega]) (u2 (k + 1) (by omega))
      · exact ⟨f2.then h.1 rfl, h.2.1, h.2.2⟩
  · rw [if_neg (by rw [n_12, nI_eq_l (by omega) (by decide)]; exact c)]
    unfold psh
    rw [if_neg c]
    exact m_remAt (U := U) hs (by omega) e24 u2 ha ht
/-- undone; kept; again -/
def sA (V : VS) (a : HS) (U : US) : VS := (V.P, a, V.T, U, V.K, V.F, V.w, V.ch)
def sK (V : VS) (K : KS) : VS := (V.P, V.a, V.T, V.U, K, V.F, V.w, V.ch)
def unR (V : VS) : Int32 × VS := if V.U.1 = 0 then (-1, V) else (nI (V.U.1 - 1), sA V (V.U.2 (V.U.1 - 1)) (V.U.1 - 1, V.U.2))
def keR (V : VS) (v : Int32) : Int32 × VS := if 0 ≤ v ∧ v ≤ 1 then (1, sK V (up1 V.K (ix v) (some (V.a, V.ch)))) else (0, V)
def agR (V : VS) (v : Int32) : Int32 × VS := if 0 ≤ v ∧ v ≤ 1 then (match V.K (ix v) with
  | none => (0, V)
  | some b => if b.2 = V.ch then (1, sA V b.1 (0, V.U.2)) else (0, V)) else (0, V)
theorem un_ok (h : VOK V) : VOK (unR V).2 := by
  unfold unR
  split
  · exact h
  · exact ⟨h.1, ⟨by show V.U.1 - 1 ≤ 12; have := h.2.1.1; omega, fun k hk' => h.2.1.2 k (by have : k < V.U.1 - 1 := hk'; omega)⟩, h.2.2⟩
theorem ke_ok (h : VOK V) (ha : HOK V.P.n V.a) {v : Int32} : VOK (keR V v).2 := by
  unfold keR
  split
  · refine ⟨h.1, h.2.1, fun i b hi' hb => ?_, h.2.2.2⟩
    have hb' : up1 V.K (ix v) (some (V.a, V.ch)) i = some b := hb
    unfold up1 at hb'
    split at hb'
    · cases hb'; exact ha
    · exact h.2.2.1 i b hi' hb'
  · exact h
theorem ag_ok (h : VOK V) {v : Int32} : VOK (agR V v).2 := by
  unfold agR
  split
  · split
    · exact h
    · split
      · exact ⟨h.1, ⟨Nat.zero_le _, fun k hk' => absurd hk' (Nat.not_lt_zero _)⟩, h.2.2⟩
      · exact h
  · exact h
/-- the class's horse becomes another -/
theorem c_become1 (h : CV σ V) (hs : HO σ s) (h69 : 69 ≤ s) (hc : CH σ s b) (hb : HOK V.P.n b) : wp (f_X2_becomes (some 1) (some s) σ) (fun _ τ => Bec σ τ 1 ∧ FrS [1, 2, 3] [] [] 0 σ τ ∧ FrD σ τ ∧ CX τ V.P b) := by
  obtain ⟨x, -⟩ := h
  refine wp_mono (c_becomes (ho_1 x.s) hc (Or.inr (by omega))) (fun _ τ h => ?_)
  obtain ⟨hb', hch⟩ := h
  have f : Fr [1, 2, 3] [] [] σ τ := by
    obtain ⟨h1, h2, h3, h4, h5, h6⟩ := hb'
    refine ⟨h1, h2, h3, fun c i => ⟨fun q => ?_, fun _ => by rw [h4]⟩⟩
    rw [h5]
    refine ⟨?_, rfl⟩
    by_cases e1 : c = 1
    · subst e1; cases (show false = true from q)
    · by_cases e2 : c = 2
      · subst e2; cases (show false = true from q)
      · by_cases e3 : c = 3
        · subst e3; cases (show false = true from q)
        · rw [h6 c e1 e2 e3]
  have fs := f.frs x.s rfl
  exact ⟨hb', fs, f.frd rfl, fs.sh x.s rfl, x.2.1.frs fs rfl, x.pk, hch, hb⟩
theorem c_undo (h : CV σ V) (hk : VOK V) : wp (f_X1_undo (some 0) σ) (GoC σ 0 (unR V).1 (unR V).2) := by
  have h0 := h
  obtain ⟨x, s, t, u, f, r, ch⟩ := h
  obtain ⟨⟨u1, u12⟩, u2, u3, u4⟩ := u
  unfold f_X1_undo unR
  rw [wp_gI, u1]
  refine ⟨so_0 x.s, ?_⟩
  rw [ite_eq0 (by omega)]
  by_cases c : V.U.1 = 0
  · rw [if_pos c, if_pos c, wp_some]
    exact GoC.same h0
  · rw [if_neg c, if_neg c, wp_gI, u1]
    refine ⟨so_0 x.s, ?_⟩
    rw [l_sub1 (by omega), wp_pI]
    refine ⟨so_0 x.s, rfl, ?_⟩
    obtain ⟨q, q1, q2⟩ := u3 (V.U.1 - 1) (by omega)
    have g1 : Fr [] [25] [] σ (wI σ 0 25 (nI (V.U.1 - 1))) := Fr.refl.putI rfl
    have fs1 := g1.frs x.s rfl
    have x1 := x.frs fs1 rfl
    have sl1 : slt σ (V.U.1 - 1) = some q := by unfold slt; rw [if_pos (by omega)]; exact q1
    obtain ⟨q69, qo⟩ := u2.1 (V.U.1 - 1) (by omega) q sl1
    have u' : UC (wI σ 0 25 (nI (V.U.1 - 1))) (V.U.1 - 1, V.U.2) V.K := ⟨⟨hi_eq, by show V.U.1 - 1 ≤ 12; omega⟩, ⟨fun i hi' z hz => by
        obtain ⟨a1, a2⟩ := u2.1 i hi' z hz
        exact ⟨a1, a2⟩, u2.2⟩, fun k hk' => by
        obtain ⟨z, a1, a2⟩ := u3 k (by have : k < V.U.1 - 1 := hk'; omega)
        have z69 := (u2.1 k (by have : k < V.U.1 - 1 := hk'; omega) z (by unfold slt; rw [if_pos (by have : k < V.U.1 - 1 := hk'; omega)]; exact a1)).1
        exact ⟨z, a1, a2.ne (by omega) (by omega) (by omega)⟩, fun i hi' => by
        have := u4 i hi'
        unfold KC at this ⊢
        cases hK : V.K i with
        | none => rw [hK] at this; exact this
        | some b =>
          rw [hK] at this
          obtain ⟨⟨z, a1, a2⟩, a3⟩ := this
          have z69 := (u2.1 (i + 12) (by omega) z (by unfold slt; rw [if_neg (by omega), Nat.add_sub_cancel]; exact a1)).1
          exact ⟨⟨z, a1, a2.ne (by omega) (by omega) (by omega)⟩, by rw [hi_ne (by decide)]; exact a3⟩⟩
    have h1 : CV (wI σ 0 25 (nI (V.U.1 - 1))) (V.P, V.a, V.T, (V.U.1 - 1, V.U.2), V.K, V.F, V.w, V.ch) := ⟨x1, s.frs fs1 rfl, t.frs fs1 rfl, u', f.frs fs1 rfl, r.frs fs1 rfl, (fs1.i (by decide) rfl).trans ch⟩
    rw [wp_gR, sp_0_0 x1.s]
    refine ⟨so_0 x1.s, ?_⟩
    rw [wp_gR, sp_0_23 x1.s]
    refine ⟨so_0 x1.s, ?_⟩
    rw [wp_gI, hi_eq]
    refine ⟨so_0 x1.s, ?_⟩
    rw [wp_lR, ix_nI (by omega), sl_14 x1.s, inb_nI (by omega), show hr (wI σ 0 25 (nI (V.U.1 - 1))) 14 (V.U.1 - 1) = some q from q1]
    refine ⟨⟨so_14 x1.s, by omega⟩, ?_⟩
    rw [wp_ob]
    refine ⟨so_1 x1.s, ?_⟩
    rw [wp_bnd]
    refine wp_mono (c_become1 (V := (V.P, V.a, V.T, (V.U.1 - 1, V.U.2), V.K, V.F, V.w, V.ch)) h1 qo q69 (q2.ne (by omega) (by omega) (by omega)) (hk.2.1.2 (V.U.1 - 1) (by omega))) (fun _ τ h => ?_)
    obtain ⟨hb, fs2, fd2, x2⟩ := h
    have e25 : hi τ 0 25 = nI (V.U.1 - 1) := (fs2.i (by decide) rfl).trans hi_eq
    rw [wp_gI, e25]
    refine ⟨so_0 x2.s, ?_⟩
    rw [wp_some]
    obtain ⟨y1, y2, y3, y4, y5, y6, y7⟩ := h1
    exact ⟨rfl, ⟨x2, y2.frs fs2 rfl, y3.frs fs2 rfl, y4.frs fs2 fd2 rfl, y5.frs fs2 rfl, y6.frs fs2 rfl, (fs2.i (by decide) rfl).trans y7⟩, [1, 2, 3], [25], ((fs1.mono rfl (Nat.le_refl _)).trans (fs2.mono rfl (Nat.le_refl _))), rfl⟩
theorem m_undo (h : MW σ V) (hk : VOK V) : wp (f_X3_undo (some 37) σ) (GoM σ (unR V).1 (unR V).2) := by
  have h0 := h
  have h1 := h.thr (v := 0)
  obtain ⟨x, s, t, u, f, r, ch⟩ := h1
  obtain ⟨u1, u2, u3⟩ := u
  have u12 := hk.2.1.1
  unfold f_X3_undo unR
  rw [wp_pI]
  refine ⟨so_37 h0.1.s, rfl, ?_⟩
  rw [wp_gI, u1]
  refine ⟨so_37 x.s, ?_⟩
  rw [ite_eq0 (by omega)]
  by_cases c : V.U.1 = 0
  · rw [if_pos c, if_pos c, wp_some]
    exact GoM.thr h0
  · rw [if_neg c, if_neg c, wp_gI, u1]
    refine ⟨so_37 x.s, ?_⟩
    rw [l_sub1 (by omega), wp_pI]
    refine ⟨so_37 x.s, rfl, ?_⟩
    generalize hQ : GoM σ (nI (V.U.1 - 1), sA V (V.U.2 (V.U.1 - 1)) (V.U.1 - 1, V.U.2)).1 (nI (V.U.1 - 1), sA V (V.U.2 (V.U.1 - 1)) (V.U.1 - 1, V.U.2)).2 = Q
    refine wp_up 27 (fun i y τ => y = nI i ∧ Fr [38] [] [24] (wI σ 37 11 0) τ ∧ hi τ 37 24 = nI (V.U.1 - 1) ∧ ∀ j, j < i → hi τ 38 j = hi (wI σ 37 11 0) 48 (27 * (V.U.1 - 1) + j)) (fun ag i y τ hi' hJ hag => ?_) (fun ag y τ hJ => ?_) (by decide) ⟨rfl, Fr.refl.putI rfl, hi_eq, fun j hj => absurd hj (Nat.not_lt_zero _)⟩
    · obtain ⟨rfl, g, e24, k1⟩ := hJ
      have hτ := g.sh x.s rfl
      unfold f_X3_undo_b26
      rw [n_27, if_neg (nI_ge hi' (by decide)), wp_gR, sp_37_0 hτ]
      refine ⟨so_37 hτ, ?_⟩
      rw [wp_gR, sp_37_23 hτ]
      refine ⟨so_37 hτ, ?_⟩
      rw [wp_gI, e24]
      refine ⟨so_37 hτ, ?_⟩
      rw [nI_mul, nI_add, wp_lI, ix_nI (by omega), sl_48 hτ, inb_nI (by omega), g.i (σ := wI σ 37 11 0) (a := 48) rfl]
      refine ⟨⟨so_48 hτ, by omega⟩, ?_⟩
      rw [wp_sI, ix_nI (by omega), sl_38 hτ, inb_nI (by omega), nI_1]
      refine ⟨⟨so_38 hτ, by omega⟩, hag _ _ ⟨rfl, g.putI rfl, by rw [hi_ne (by decide)]; exact e24, fun j hj => ?_⟩⟩
      by_cases e : j = i
      · rw [e, hi_eq]
      · rw [hi_ni e]; exact k1 j (by omega)
    · obtain ⟨rfl, g, e24, k1⟩ := hJ
      have fs := g.frs x.s rfl
      have hτ := g.sh x.s rfl
      unfold f_X3_undo_b26
      rw [n_27, if_pos (nI_le (Nat.le_refl _) (by decide)), wp_gI, e24]
      refine ⟨so_37 hτ, ?_⟩
      rw [wp_some, ← hQ]
      have mh : MH τ 38 0 (V.U.2 (V.U.1 - 1)) := MH.shift (σ := wI σ 37 11 0) (s := 48) (k' := 27 * (V.U.1 - 1)) (fun i hi' => by rw [Nat.zero_add]; exact k1 i hi') (u2 (V.U.1 - 1) (by omega))
      have g0 : Fr [38] [] [11, 24] σ τ := (Fr.refl.putI (G := [11, 24]) (a := 37) (i := 11) (v := 0) rfl).trans (g.mono rfl)
      refine ⟨rfl, ⟨⟨hτ, x.2.1.frs fs rfl, x.pk, mh, hk.2.1.2 (V.U.1 - 1) (by omega)⟩, s.frs fs rfl, t.frs fs rfl, ⟨e24, fun k hk' => (u2 k (by have : k < V.U.1 - 1 := hk'; omega)).frs fs (by decide) (by decide) (by decide) rfl, fun i hi' => ?_⟩, f.frs fs rfl, r.frs fs rfl, (fs.i (by decide) rfl).trans ch⟩, _, _, g0, rfl⟩
      have := u3 i hi'
      show KM τ i (V.K i)
      unfold KM at this ⊢
      cases hK : V.K i with
      | none => rw [hK] at this; dsimp only at this ⊢; rw [fs.i (by decide) rfl]; exact this
      | some b =>
        rw [hK] at this
        dsimp only at this ⊢
        rw [fs.i (a := 66) (by decide) rfl, fs.i (a := 67) (by decide) rfl]
        exact ⟨this.1, this.2.1.frs fs (by decide) (by decide) (by decide) rfl, this.2.2⟩
end remem
