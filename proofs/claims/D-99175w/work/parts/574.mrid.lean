/-! PURE 109: riders come (the reference): whole -/
section mrid
variable {D F G : List Nat} {m : Nat} {V : VS} {σ τ : Hp} {U : US} {K : KS}
theorem UM.zero (h : UM σ U K) (f : FrS D F G m σ τ) (q : (!D.contains 65 && !D.contains 66 && !D.contains 67) = true) (e : hi τ 37 24 = 0) : UM τ (0, U.2) K := by
  simp only [Bool.and_eq_true, Bool.not_eq_true'] at q
  obtain ⟨⟨q3, q4⟩, q5⟩ := q
  refine ⟨e, fun k hk' => absurd hk' (Nat.not_lt_zero _), fun i hi' => ?_⟩
  have := h.2.2 i hi'
  unfold KM at this ⊢
  cases hK : K i with
  | none => rw [hK] at this; dsimp only at this ⊢; rw [f.i (by decide) (dn_out q4 (by decide) (by decide))]; exact this
  | some b =>
    rw [hK] at this
    dsimp only at this ⊢
    rw [f.i (by decide) (dn_out q4 (by decide) (by decide)), f.i (by decide) (dn_out q5 (by decide) (by decide))]
    exact ⟨this.1, this.2.1.frs f (by decide) (by decide) (by decide) q3, this.2.2⟩
theorem m_riders (h : MW σ V) (hk : VOK V) : wp (f_X3_riders (some 37) σ) (GoM σ (rdR V).1 (rdR V).2) := by
  have h0 := h
  have h1 := h.thr (v := 0)
  obtain ⟨x, s, t, u, f, r, ch⟩ := h1
  have n8 := x.n8
  have t80 := hk.1.1
  obtain ⟨τ1, b1, f1, b2', b3, ms⟩ := m_begun x.s t hk.1 (m := 76) (by decide)
  have tt : ∀ {ω : Hp}, hi ω 37 8 = 0 → hr ω 37 18 = some 45 → hr ω 37 19 = some 46 → TM ω (0, V.T.2) := fun h a1 a2 => ⟨h, fun p hp => absurd hp (Nat.not_lt_zero _), a1, a2⟩
  have mk : ∀ {ω : Hp}, Fr [44] [] [15, 16] τ1 ω → MW ω (sT V (0, V.T.2)) ∧ Fr [44] [] [8, 12, 13, 14, 15, 16] (wI σ 37 11 0) ω := fun {ω} g => by
    have ff : Fr [44] [] [8, 12, 13, 14, 15, 16] (wI σ 37 11 0) ω := (f1.mono rfl).trans (g.mono rfl)
    have fs := ff.frs x.s rfl
    exact ⟨⟨x.frs fs rfl, s.frs fs rfl, tt ((g.i rfl).trans b2') ((ff.r rfl).trans t.2.2.1) ((ff.r rfl).trans t.2.2.2), u.frs fs rfl, f.frs fs rfl, r.frs fs rfl, (fs.i (by decide) rfl).trans ch⟩, ff⟩
  unfold f_X3_riders
  rw [wp_pI]
  refine ⟨so_37 h0.1.s, rfl, ?_⟩
  rw [wp_ob]
  refine ⟨so_37 x.s, ?_⟩
  rw [show (76 : Int32) = nI 76 from rfl, b1, e_bnd, wp_gI, b3, ite_eq0 (by omega)]
  refine ⟨so_37 ms.1, ?_⟩
  generalize hQ : GoM σ (rdR V).1 (rdR V).2 = Q
  have done : ∀ (ω : Hp) (v : Int32) (W : VS), Fr [44] [] [8, 12, 13, 14, 15, 16] (wI σ 37 11 0) ω → MW ω W → rdR V = (v, W) → Q v ω := fun ω v W ff h2 e => by
    rw [← hQ, e]
    exact MVo (h.thr (v := 0)) h h2 ff rfl rfl
  by_cases h0' : V.T.1 = 0
  · rw [if_pos h0', wp_some]
    obtain ⟨h2, ff⟩ := mk Fr.refl
    exact done _ _ _ ff h2 (by unfold rdR; rw [if_pos h0'])
  · rw [if_neg h0']
    have e3 : hi τ1 37 3 = nI V.P.n := (f1.i rfl).trans x.n
    have ends : Ends (rdC V.T) (min V.T.1 76) := ends_cut V.T 76
    have hv : ∀ p, rdC V.T p = -1 ∨ ∃ k, k < 256 ∧ rdC V.T p = nI k := fun p => by
      by_cases e : p < min V.T.1 76
      · obtain ⟨k, k1, k2⟩ := hk.1.2 p (by omega)
        exact Or.inr ⟨k, k1, by rw [← k2]; exact if_pos e⟩
      · exact Or.inl (ends p (by omega))
    have good := lnsP_good (n0 := V.P.n) ends hv 9 0 0 (fun _ => (0, 0, 0)) (Nat.zero_le _) n8 (fun _ => ⟨by decide, by decide, by decide⟩)
    refine m_lns (n0 := V.P.n) hv 9 2000 0 0 (fun _ => (0, 0, 0)) _ (by omega) (by decide) n8 ms e3 (fun j hj => absurd hj (Nat.not_lt_zero _)) (fun τ n' f3 k1 k2 => ?_)
    rw [show lnsP (rdC V.T) V.P.n 9 0 0 (fun _ => (0, 0, 0)) = rdL V from rfl] at good k1 k2
    obtain ⟨h3, ff⟩ := mk f3
    obtain ⟨q1, q2, q3⟩ := good
    have e13 : hi τ 37 13 = nI V.T.1 := (f3.i rfl).trans b3
    rw [wp_ob]
    refine ⟨so_37 h3.1.s, ?_⟩
    -- a fault is told
    have told : ∀ (ω : Hp) (q : Nat), Fr [44] [] [15, 16] τ1 ω → hi ω 37 16 = nI q → ¬ ((rdL V).1 = true ∧ (rdL V).2.1 = V.T.1) → q = (rdL V).2.1 → wp (gI 2 16 ω (some 37) fun x29 => some (((-1) - x29), ω)) Q := fun ω q g e16 hq e => by
      obtain ⟨h2, ff⟩ := mk g
      rw [wp_gI, e16]
      refine ⟨so_37 h2.1.s, ?_⟩
      rw [wp_some]
      exact done _ _ _ ff h2 (by unfold rdR; rw [if_neg h0', if_neg hq, e])
    have bad : ∀ q, hi τ 37 16 = nI q → hi τ 37 15 = nI q → q ≤ 76 → q ≤ V.T.1 → ¬ ((rdL V).1 = true ∧ (rdL V).2.1 = V.T.1) → q = (rdL V).2.1 → f_X3_wasRight (some 37) τ = some (0, τ) ∧ wp (gI 2 16 τ (some 37) fun x29 => some (((-1) - x29), τ)) Q := fun q e16 e15 q76 qt hq e => ⟨(m_wasRight h3.1.s e15 e13 qt t80).2 (by rw [e16]; exact m1_ne (by omega)), told τ q f3 e16 hq e⟩
    by_cases hl : (rdL V).1 = true
    · obtain ⟨rfl, hL, hms⟩ := k1 hl
      rcases hms with ms3 | ⟨-, e16, e15, hb⟩
      · have wr := (m_wasRight h3.1.s ms3.2.2.1 e13 (by omega) t80).1 ms3.2.2.2.1
        by_cases c1 : (rdL V).2.1 = V.T.1
        · rw [if_pos c1, b2, if_pos c1] at wr
          rw [wr, e_bnd, if_neg (by decide)]
          refine m_rdLoop (P := V.P) (a := V.a) h3.1 q2 q3 hL (fun ω g4 x4 => ?_)
          rw [wp_pI]
          refine ⟨so_37 x4.s, rfl, ?_⟩
          have e47 : hi (wI ω 37 24 0) 37 47 = V.ch := by rw [hi_ni (by decide)]; exact (g4.i rfl).trans h3.2.2.2.2.2.2
          have s5 : Sh (wI ω 37 24 0) := sw_I x4.s
          rw [wp_gI, e47]
          refine ⟨so_37 s5, ?_⟩
          rw [wp_pI]
          refine ⟨so_37 s5, rfl, ?_⟩
          have g6 : Fr [] [] [24, 47] ω (wI (wI ω 37 24 0) 37 47 (V.ch + 1)) := (Fr.refl.putI rfl).putI rfl
          have fall : Fr [38, 39, 40, 41, 44] [] [3, 8, 12, 13, 14, 15, 16, 24, 47] (wI σ 37 11 0) (wI (wI ω 37 24 0) 37 47 (V.ch + 1)) := ((ff.mono rfl).trans (g4.mono rfl)).trans (g6.mono rfl)
          have fs := fall.frs x.s rfl
          rw [wp_some, ← hQ]
          have eR : rdR V = (nI (rdL V).2.2.1, (rdP V.P (rdL V).2.2.2 (rdL V).2.2.1, rdA V.P.n V.a (rdL V).2.2.1, (0, V.T.2), (0, V.U.2), V.K, V.F, V.w, V.ch + 1)) := by
            unfold rdR
            rw [if_neg h0', if_pos ⟨hl, c1⟩]
          rw [eR]
          refine MVo (h.thr (v := 0)) h ⟨x4.fr g6 rfl, s.frs fs rfl, tt ?_ ((fall.r rfl).trans t.2.2.1) ((fall.r rfl).trans t.2.2.2), u.zero fs rfl (by rw [hi_ni (by decide), hi_eq]), f.frs fs rfl, r.frs fs rfl, hi_eq⟩ fall rfl rfl
          exact (((g4.mono (D' := [38, 39, 40, 41]) (F' := []) (G' := [3, 24, 47]) rfl).trans (g6.mono rfl)).i rfl).trans h3.2.2.1.1
        · rw [if_neg c1, b2, if_neg c1] at wr
          rw [wr, e_bnd, if_pos rfl]
          exact told _ _ (f3.putI rfl) hi_eq (fun z => c1 z.2) rfl
      · have hlt : (rdL V).2.1 < min V.T.1 76 := by
          refine Nat.lt_of_not_le (fun z => ?_)
          rw [ends _ z] at hb
          exact absurd hb.1 (by decide)
        obtain ⟨w1, w2⟩ := bad _ e16 e15 (by omega) (by omega) (fun z => by omega) rfl
        rw [w1, e_bnd, if_pos rfl]
        exact w2
    · obtain ⟨e16, e15⟩ := k2 (by cases hz : (rdL V).1 with | true => exact absurd hz hl | false => rfl)
      obtain ⟨w1, w2⟩ := bad _ e16 e15 (by omega) (by omega) (fun z => hl z.1) rfl
      rw [w1, e_bnd, if_pos rfl]
      exact w2
end mrid
