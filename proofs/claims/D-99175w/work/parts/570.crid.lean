/-! PURE 107: riders come (the class): whole -/
section crid
variable {D F G : List Nat} {m : Nat} {V : VS} {σ τ : Hp} {U : US} {K : KS}
theorem UC.zero (h : UC σ U K) (f : FrS D F G m σ τ) (g : FrD σ τ) (q : D.contains 35 = false) (e : hi τ 0 25 = 0) : UC τ (0, U.2) K := by
  obtain ⟨-, ⟨h2, h3⟩, -, h5⟩ := h
  have r14 : ∀ i, hr τ 14 i = hr σ 14 i := fun i => by rw [g.1.1]
  have r34 : ∀ i, hr τ 34 i = hr σ 34 i := fun i => by rw [g.1.2]
  have i35 : ∀ i, hi τ 35 i = hi σ 35 i := fun i => f.i (by decide) (dn_out q (by decide) (by decide))
  have sl : ∀ i, slt τ i = slt σ i := fun i => by unfold slt; rw [r14, r34]
  refine ⟨⟨e, Nat.zero_le _⟩, ⟨fun i hi' s hs => ?_, fun i j s hi' hj e1 e2 => ?_⟩, fun k hk' => absurd hk' (Nat.not_lt_zero _), fun i hi' => ?_⟩
  · rw [sl] at hs
    obtain ⟨a1, a2⟩ := h2 i hi' s hs
    exact ⟨a1, a2.frd g f.1.1 a1⟩
  · rw [sl] at e1 e2; exact h3 i j s hi' hj e1 e2
  · have := h5 i hi'
    unfold KC at this ⊢
    cases hK : K i with
    | none => rw [hK] at this; dsimp only at this ⊢; rw [r34]; exact this
    | some b =>
      rw [hK] at this
      dsimp only at this ⊢
      obtain ⟨⟨s, a1, a2⟩, a3⟩ := this
      refine ⟨⟨s, by rw [r34]; exact a1, a2.frd g f.1.1 (h2 (i + 12) (by omega) s (by unfold slt; rw [if_neg (by omega), Nat.add_sub_cancel]; exact a1)).1⟩, by rw [i35]; exact a3⟩
theorem c_riders (h : CV σ V) (hk : VOK V) : wp (f_X1_riders (some 0) σ) (GoC σ 0 (rdR V).1 (rdR V).2) := by
  obtain ⟨x, s, t, u, f, r, ch⟩ := h
  have n8 := x.n8
  have t80 := hk.1.1
  obtain ⟨τ1, b1, f1, b2', b3, cs⟩ := c_begun x.s t hk.1 (m := 76) (by decide)
  have tt : ∀ {ω : Hp}, hi ω 0 10 = 0 → TC ω (0, V.T.2) := fun h => ⟨h, fun p hp => absurd hp (Nat.not_lt_zero _)⟩
  have mk : ∀ {ω : Hp}, Fr [11, 12, 13] [11, 17] [] τ1 ω → CV ω (sT V (0, V.T.2)) ∧ Fr [11, 12, 13] [10, 11, 12, 13, 17] [] σ ω := fun {ω} g => by
    have ff : Fr [11, 12, 13] [10, 11, 12, 13, 17] [] σ ω := (f1.mono rfl).trans (g.mono rfl)
    have fs := ff.frs x.s rfl
    exact ⟨⟨x.frs fs rfl, s.frs fs rfl, tt ((g.i rfl).trans b2'), u.frs fs (ff.frd rfl) rfl, f.frs fs rfl, r.frs fs rfl, (fs.i (by decide) rfl).trans ch⟩, ff⟩
  unfold f_X1_riders
  rw [wp_ob]
  refine ⟨so_0 x.s, ?_⟩
  rw [show (76 : Int32) = nI 76 from rfl, b1, e_bnd, ite_eq0 (by omega)]
  generalize hQ : GoC σ 0 (rdR V).1 (rdR V).2 = Q
  by_cases h0 : V.T.1 = 0
  · rw [if_pos h0, wp_some, ← hQ]
    unfold rdR
    rw [if_pos h0]
    obtain ⟨h1, ff⟩ := mk Fr.refl
    exact ⟨rfl, h1, _, _, ff.frs x.s rfl, rfl⟩
  · have e5 : hi τ1 0 5 = nI V.P.n := (f1.i rfl).trans x.n
    rw [if_neg h0, wp_gI, e5]
    refine ⟨so_0 cs.1, ?_⟩
    rw [wp_pI]
    refine ⟨so_0 cs.1, rfl, ?_⟩
    have g2 : Fr [] [17] [] τ1 (wI τ1 0 17 (nI V.P.n)) := Fr.refl.putI rfl
    have cs2 : CS (wI τ1 0 17 (nI V.P.n)) (rdC V.T) (min V.T.1 76) 0 := ⟨sw_I cs.1, cs.2.1, cs.2.2.1, cs.2.2.2.1, (g2.i rfl).trans cs.2.2.2.2.1, (g2.i rfl).trans cs.2.2.2.2.2.1, fun q hq => ⟨(g2.i rfl).trans (cs.2.2.2.2.2.2 q hq).1, (cs.2.2.2.2.2.2 q hq).2⟩⟩
    have hv : ∀ p, rdC V.T p = -1 ∨ ∃ k, k < 256 ∧ rdC V.T p = nI k := fun p => by
      by_cases e : p < min V.T.1 76
      · exact Or.inr (cs2.2.2.2.2.2.2 p e).2
      · exact Or.inl (cs2.2.1 p (by omega))
    have good := lnsP_good (n0 := V.P.n) cs2.2.1 hv 9 0 0 (fun _ => (0, 0, 0)) (Nat.zero_le _) n8 (fun _ => ⟨by decide, by decide, by decide⟩)
    refine c_lns (n0 := V.P.n) 9 2000 0 0 (fun _ => (0, 0, 0)) _ 1 (by omega) (by decide) n8 cs2 hi_eq (fun j hj => absurd hj (Nat.not_lt_zero _)) (fun τ g f3 cs3 k1 k2 => ?_)
    rw [show lnsP (rdC V.T) V.P.n 9 0 0 (fun _ => (0, 0, 0)) = rdL V from rfl] at cs3 k1 k2 good
    have f13 : Fr [11, 12, 13] [11, 17] [] τ1 τ := (g2.mono rfl).trans (f3.mono rfl)
    obtain ⟨h3, ff⟩ := mk f13
    rw [wp_ob]
    refine ⟨so_0 cs3.1, ?_⟩
    rw [c_faultOf cs3.1 cs3.2.2.2.2.1 cs3.2.2.2.2.2.1 cs3.2.2.2.1 (by omega) t80, e_bnd]
    obtain ⟨q1, q2, q3⟩ := good
    by_cases hg : (rdL V).1 = true ∧ (rdL V).2.1 = V.T.1
    · have hg' : g ≠ 0 ∧ (rdL V).2.1 = V.T.1 := ⟨k2.mpr hg.1, hg.2⟩
      obtain ⟨e17, hL⟩ := k1 hg.1
      rw [if_pos hg', if_pos (by decide), wp_gI, e17]
      refine ⟨so_0 cs3.1, ?_⟩
      rw [wp_gI, show hi τ 0 5 = nI V.P.n from h3.1.n]
      refine ⟨so_0 cs3.1, ?_⟩
      refine c_rdLoop (P := V.P) (a := V.a) h3.1 q2 q3 hL e17 (fun ω g4 x4 => ?_)
      rw [wp_pI]
      refine ⟨so_0 x4.s, rfl, ?_⟩
      have e8 : hi (wI ω 0 25 0) 0 8 = V.ch := by rw [hi_ni (by decide)]; exact (g4.i rfl).trans h3.2.2.2.2.2.2
      have s5 : Sh (wI ω 0 25 0) := sw_I x4.s
      rw [wp_gI, e8]
      refine ⟨so_0 s5, ?_⟩
      rw [wp_pI]
      refine ⟨so_0 s5, rfl, ?_⟩
      have g6 : Fr [] [8, 25] [] ω (wI (wI ω 0 25 0) 0 8 (V.ch + 1)) := (Fr.refl.putI rfl).putI rfl
      have fall : Fr [1, 3, 7, 8, 9, 11, 12, 13] [5, 8, 10, 11, 12, 13, 17, 25] [] σ (wI (wI ω 0 25 0) 0 8 (V.ch + 1)) := ((ff.mono rfl).trans (g4.mono rfl)).trans (g6.mono rfl)
      have fs := fall.frs x.s rfl
      rw [wp_some, ← hQ]
      unfold rdR
      rw [if_neg h0, if_pos hg]
      refine ⟨by rw [nI_sub (by omega), Nat.add_sub_cancel_left], ⟨x4.fr g6 rfl, s.frs fs rfl, tt ?_, u.zero fs (fall.frd rfl) rfl (by rw [hi_ni (by decide), hi_eq]), f.frs fs rfl, r.frs fs rfl, hi_eq⟩, _, _, fs, rfl⟩
      rw [hi_ni (by decide), hi_ni (by decide)]
      exact (g4.i rfl).trans ((f13.i rfl).trans b2')
    · have hg' : ¬ (g ≠ 0 ∧ (rdL V).2.1 = V.T.1) := fun z => hg ⟨k2.mp z.1, z.2⟩
      have h81 : ∀ k, k < 81 → ¬ (0 ≤ -1 - nI k) := by decide +kernel
      rw [if_neg hg', if_neg (h81 _ (by omega)), wp_some, ← hQ]
      unfold rdR
      rw [if_neg h0, if_neg hg]
      exact ⟨rfl, h3, _, _, ff.frs x.s rfl, rfl⟩
end crid
