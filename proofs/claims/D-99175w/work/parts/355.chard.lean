/-! PURE 7: the class's hardOf -/
section chard
variable {σ τ : Hp} {P : Pk} {a : HS} {s r h : Nat}
/-- the heap with a question laid -/
def asked (σ : Hp) (s r h : Nat) : Hp := wI (wI (wR σ 0 18 (some s)) 0 19 (nI r)) 0 20 (nI h)
theorem asked_fr : Fr [] [18, 19, 20] [] σ (asked σ s r h) := ((Fr.refl.putR rfl).putI rfl).putI rfl
theorem asked_sh (hs : Sh σ) : Sh (asked σ s r h) := asked_fr.sh hs rfl
theorem c_hardOf (hs : Sh σ) (hp : CP σ P) (pk : POK P) (ha : CH σ s a) (h0 : s ≠ 0) (hr' : r < P.n) (hh : h < 8) : f_X1_hardOf (some 0) (some s) (nI r) (nI h) σ = some (hardI P a r h, asked σ s r h) := by
  have hs' : Sh (asked σ s r h) := asked_sh hs
  have hr8 : r < 8 := Nat.lt_of_lt_of_le hr' pk.1
  obtain ⟨⟨q1, q2, q3, q4, q5, q6, q7⟩, q8, q9, q10, q11, q12, q13⟩ := ha
  obtain ⟨p1, p2, p3, p4, p5⟩ := hp
  obtain ⟨m1, m2, m3⟩ := p4 r hr'
  have o0 := so_0 hs
  unfold f_X1_hardOf
  rw [e_pR o0, e_pI (show Ok (wR σ 0 18 (some s)) 0 0 from o0), e_pI (show Ok (wI (wR σ 0 18 (some s)) 0 19 (nI r)) 0 0 from o0)]
  rw [show wI (wI (wR σ 0 18 (some s)) 0 19 (nI r)) 0 20 (nI h) = asked σ s r h from rfl]
  rw [e_gR (so_0 hs'), asked_fr.r (σ := σ) (a := 0) (i := 21) rfl]
  unfold hardI jn
  cases hR : P.rule with
  | none =>
    rw [hR] at p5
    rw [show hr σ 0 21 = none from p5]
    dsimp only [nul]
    have g1 : Ok (asked σ s r h) s 1 := asked_fr.ok q1
    rw [e_gR g1]
    have g2 : hr (asked σ s r h) s 1 = some (s + 2) := by
      unfold asked
      rw [hr_wI, hr_wI, hr_wR, if_neg (by omega)]; exact q3
    rw [g2, e_lI (asked_fr.ok q6) (by rw [asked_fr.k, q7, inb_nI (by omega)]; exact hr8), ix_nI (by omega), e_gR (so_0 hs'), sp_0_3 hs', e_lI (so_8 hs') (by rw [sl_8 hs', inb_nI (by omega)]; exact hr8), ix_nI (by omega)]
    have g3 : hi (asked σ s r h) (s + 2) r = a.tired r := by
      rw [asked_fr.i (σ := σ) (dn_out rfl (by omega) (by have := q6.2; intro e; rw [e] at this; rw [hs.2.1 37 (by decide)] at this; revert this; decide))]
      exact q9 r hr8
    have g4 : hi (asked σ s r h) 8 r = nI (P.width r) := by rw [asked_fr.i (σ := σ) rfl]; exact m2
    rw [g3, g4]
    by_cases h5 : h ≤ 5
    · rw [if_pos (by rw [n_5, nI_leI (by omega) (by decide)]; exact h5), if_pos h5]
    · rw [if_neg (by rw [n_5, nI_leI (by omega) (by decide)]; exact h5), if_neg h5]
  | some E =>
    rw [hR] at p5
    obtain ⟨b, hb, hT⟩ := p5
    rw [hb]
    dsimp only [nul]
    rw [e_gR (so_0 hs'), asked_fr.r (σ := σ) (a := 0) (i := 21) rfl, hb]
    have hA : Asks (asked σ s r h) (askV P a r h) := by
      have e37 : s ≠ 37 := by have := q1.2; intro e; rw [e] at this; rw [hs.2.1 37 (by decide)] at this; revert this; decide
      refine ⟨hs', rfl, s, s + 2, r, rfl, asked_fr.ok q1, ?_, asked_fr.ok q6, by rw [asked_fr.k]; exact q7, hr8, rfl, rfl, ?_, by rw [asked_fr.i (σ := σ) rfl]; exact m2, by rw [asked_fr.i (σ := σ) rfl]; exact m1, ?_, ?_⟩
      · unfold asked
        rw [hr_wI, hr_wI, hr_wR, if_neg (by omega)]; exact q3
      · rw [asked_fr.i (σ := σ) (dn_out rfl (by omega) (by have := q6.2; intro e; rw [e] at this; rw [hs.2.1 37 (by decide)] at this; revert this; decide))]
        exact q9 r hr8
      · rw [asked_fr.i (σ := σ) (dn_out rfl h0 e37), q11]; rfl
      · rw [asked_fr.i (σ := σ) rfl, m3, bc_nI (pk.2.2.2 r).2.2]; rfl
    rw [hT.2 (asked σ s r h) (askV P a r h) (asked_fr.nk hs rfl) hA 100 (by decide), e_bnd]
end chard
