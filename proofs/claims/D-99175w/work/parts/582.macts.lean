/-! PURE 113: acts of a year read (the reference) -/
section macts
variable {σ τ υ : Hp} {c : Nat → Int32} {e p k : Nat}
theorem m_rdAct (ms : MS σ c e p) (k60 : k ≤ 60) : wp (f_X3_readAct (some 37) (nI (3 * k)) σ) (fun _ τ => Fr [53] [] [15, 16] σ τ ∧ (∀ i, i < 3 * k → hi τ 53 i = hi σ 53 i) ∧ (match (actP c p).1 with
    | none => hi τ 37 16 = nI (actP c p).2 ∧ hi τ 37 15 = nI (actP c p).2
    | some l => MS τ c e (actP c p).2 ∧ AcM τ k l)) := by
  have e80 := ms.e80
  have hpe := ms.2.2.2.2
  have hs := ms.1
  have keep : ∀ {ω : Hp} {q i : Nat} {v : Int32}, MS ω c e q → MS (wI ω 53 i v) c e q := fun {ω q i v} h => by
    have g : Fr [53] [] [] ω (wI ω 53 i v) := Fr.refl.putI rfl
    exact ⟨sw_I h.1, h.2.1.fr g rfl, (g.i rfl).trans h.2.2.1, (g.i rfl).trans h.2.2.2.1, h.2.2.2.2⟩
  generalize hQ : (fun (_ : Unit) τ => Fr [53] [] [15, 16] σ τ ∧ (∀ i, i < 3 * k → hi τ 53 i = hi σ 53 i) ∧ (match (actP c p).1 with
    | none => hi τ 37 16 = nI (actP c p).2 ∧ hi τ 37 15 = nI (actP c p).2
    | some l => MS τ c e (actP c p).2 ∧ AcM τ k l)) = Q
  have good : ∀ (ω : Hp) (l : AC) (q : Nat), MS ω c e q → Fr [53] [] [15, 16] σ ω → (∀ i, i < 3 * k → hi ω 53 i = hi σ 53 i) → actP c p = (some l, q) → AcM ω k l → Q () ω := fun ω l q h1 h2 h3 h4 h5 => by
    rw [← hQ, h4]
    exact ⟨h2, h3, h1, h5⟩
  have none_ : ∀ (ω : Hp) (q : Nat), Fr [53] [] [15, 16] σ ω → (∀ i, i < 3 * k → hi ω 53 i = hi σ 53 i) → hi ω 37 16 = nI q → hi ω 37 15 = nI q → actP c p = (none, q) → Q () ω := fun ω q h2 h3 h5 h6 h4 => by
    rw [← hQ, h4]
    exact ⟨h2, h3, h5, h6⟩
  have e57 : (48 : Int32) + 10 - 1 = 57 := by decide
  unfold f_X3_readAct
  rw [wp_ob]
  refine ⟨so_37 hs, ?_⟩
  rw [m_here ms, e_bnd, y_jn]
  have step : isAct (c p) → wp (gI 2 15 σ (some 37) fun x4 => pI 0 2 15 σ (some 37) (x4 + 1) fun σ => gR 2 31 σ (some 37) fun y5 => sI σ y5 (nI (3 * k)) (c p) fun σ => gR 2 31 σ (some 37) fun y6 => ob 2 σ (some 37) fun _ => bnd (f_X3_oneOf (some 37) 48 10 σ) fun x7 σ => sI σ y6 (nI (3 * k) + 1) x7 fun σ => jn (fun (a8 : Unit) σ => if c p = 120 then gR 2 31 σ (some 37) fun y10 => ob 2 σ (some 37) fun _ => bnd (f_X3_oneOf (some 37) 48 10 σ) fun x11 σ => sI σ y10 (nI (3 * k) + 2) x11 fun σ => some ((), σ) else some ((), σ)) fun j9 => if c p = 103 then gR 2 31 σ (some 37) fun y12 => ob 2 σ (some 37) fun _ => bnd (f_X3_passes (some 37) 45 σ) fun x13 σ => jn (fun (a14 : Int32) σ => sI σ y12 (nI (3 * k) + 2) a14 fun σ => j9 () σ) fun j15 => if x13 = 0 then ob 2 σ (some 37) fun _ => bnd (f_X3_oneOf (some 37) 48 10 σ) fun x16 σ => j15 x16 σ else j15 (-1) σ else j9 () σ) Q := fun h1 => by
    have hlt := ms.ends.lt rfl (act_ne h1)
    have ms1 := ms.go (q := p + 1) hlt
    have a1 : nI (3 * k) + 1 = nI (3 * k + 1) := nI_1 _
    have a2 : nI (3 * k) + 2 = nI (3 * k + 2) := nI_add (3 * k) 2
    rw [a1, a2, wp_gI, ms.2.2.1]
    refine ⟨so_37 hs, ?_⟩
    rw [wp_pI]
    refine ⟨so_37 hs, rfl, ?_⟩
    rw [nI_1, show wI σ 37 15 (nI (p + 1)) = atM σ (p + 1) from rfl, wp_gR, sp_37_31 ms1.1]
    refine ⟨so_37 ms1.1, ?_⟩
    rw [wp_sI, ix_nI (by omega), sl_53 ms1.1, inb_nI (by omega)]
    refine ⟨⟨so_53 ms1.1, by omega⟩, ?_⟩
    have ms2 := keep (i := 3 * k) (v := c p) ms1
    have f2 : Fr [53] [] [15, 16] σ (wI (atM σ (p + 1)) 53 (3 * k) (c p)) := (atM_fr.mono rfl).putI rfl
    have k2 : ∀ i, i < 3 * k → hi (wI (atM σ (p + 1)) 53 (3 * k) (c p)) 53 i = hi σ 53 i := fun i hi' => by rw [hi_ni (by omega)]; exact atM_fr.i rfl
    have m2 : hi (wI (atM σ (p + 1)) 53 (3 * k) (c p)) 53 (3 * k) = c p := hi_eq
    generalize wI (atM σ (p + 1)) 53 (3 * k) (c p) = ω at *
    rw [wp_gR, sp_37_31 ms2.1]
    refine ⟨so_37 ms2.1, ?_⟩
    rw [wp_ob]
    refine ⟨so_37 ms2.1, ?_⟩
    rw [m_oneOf ms2 (by decide) (by decide), e57]
    by_cases h2 : 48 ≤ c (p + 1) ∧ c (p + 1) ≤ 57
    · have h2' : isDig (c (p + 1)) := h2
      obtain ⟨d, d9, ed⟩ := dig9 h2'
      have hlt2 := ms2.ends.lt rfl (dig_ne h2')
      have ms3 := ms2.go (q := p + 2) hlt2
      rw [if_pos h2, e_bnd, ed]
      show wp (sI (atM ω (p + 2)) (some 53) (nI (3 * k + 1)) (nI d) _) Q
      rw [wp_sI, ix_nI (by omega), sl_53 ms3.1, inb_nI (by omega)]
      refine ⟨⟨so_53 ms3.1, by omega⟩, ?_⟩
      have ms4 := keep (i := 3 * k + 1) (v := nI d) ms3
      have f4 : Fr [53] [] [15, 16] σ (wI (atM ω (p + 2)) 53 (3 * k + 1) (nI d)) := (f2.trans (atM_fr.mono rfl)).putI rfl
      have k4 : ∀ i, i < 3 * k → hi (wI (atM ω (p + 2)) 53 (3 * k + 1) (nI d)) 53 i = hi σ 53 i := fun i hi' => by rw [hi_ni (by omega)]; exact (atM_fr.i rfl).trans (k2 i hi')
      have m4 : hi (wI (atM ω (p + 2)) 53 (3 * k + 1) (nI d)) 53 (3 * k) = c p := by rw [hi_ni (by omega)]; exact (atM_fr.i rfl).trans m2
      have m5 : hi (wI (atM ω (p + 2)) 53 (3 * k + 1) (nI d)) 53 (3 * k + 1) = nI d := hi_eq
      generalize wI (atM ω (p + 2)) 53 (3 * k + 1) (nI d) = ψ at *
      rw [y_jn]
      -- a third number
      have third : ∀ (R : Unit → Hp → Option (Unit × Hp)), (∀ ζ, R () ζ = some ((), ζ)) → ¬ (c p = 110 ∨ c p = 105) → ¬ (c p = 103 ∧ c (p + 2) = 45) → wp (bnd (f_X3_oneOf (some 37) 48 10 ψ) fun x11 σ => sI σ (some 53) (nI (3 * k + 2)) x11 fun σ => R () σ) Q := fun R hR n3 n4 => by
        rw [m_oneOf ms4 (by decide) (by decide), e57]
        by_cases h5 : 48 ≤ c (p + 2) ∧ c (p + 2) ≤ 57
        · have h5' : isDig (c (p + 2)) := h5
          obtain ⟨d', d9', ed'⟩ := dig9 h5'
          have hlt3 := ms4.ends.lt rfl (dig_ne h5')
          have ms5 := ms4.go (q := p + 3) hlt3
          rw [if_pos h5, e_bnd, ed']
          show wp (sI (atM ψ (p + 3)) (some 53) (nI (3 * k + 2)) (nI d') _) Q
          rw [wp_sI, ix_nI (by omega), sl_53 ms5.1, inb_nI (by omega)]
          refine ⟨⟨so_53 ms5.1, by omega⟩, ?_⟩
          have ms6 := keep (i := 3 * k + 2) (v := nI d') ms5
          rw [hR, wp_some]
          refine good _ (c p, nI d, nI d') (p + 3) ms6 ((f4.trans (atM_fr.mono rfl)).putI rfl) (fun i hi' => by rw [hi_ni (by omega)]; exact (atM_fr.i rfl).trans (k4 i hi')) ?_ ⟨by rw [hi_ni (by omega)]; exact (atM_fr.i rfl).trans m4, by rw [hi_ni (by omega)]; exact (atM_fr.i rfl).trans m5, fun _ => hi_eq⟩
          unfold actP
          rw [if_pos h1, if_pos h2', if_neg n3, if_neg n4, if_pos h5', ed, ed']
        · have h5' : ¬ isDig (c (p + 2)) := h5
          have s5 : Sh (wI ψ 37 16 (nI (p + 2))) := sw_I ms4.1
          rw [if_neg h5, e_bnd]
          show wp (sI (wI ψ 37 16 (nI (p + 2))) (some 53) (nI (3 * k + 2)) 0 _) Q
          rw [wp_sI, ix_nI (by omega), sl_53 s5, inb_nI (by omega)]
          refine ⟨⟨so_53 s5, by omega⟩, ?_⟩
          rw [hR, wp_some]
          refine none_ _ (p + 2) ((f4.putI rfl).putI rfl) (fun i hi' => by rw [hi_ni (by omega), hi_ne (by decide)]; exact k4 i hi') (by rw [hi_ne (by decide), hi_eq]) (by rw [hi_ne (by decide), hi_ni (by decide)]; exact ms4.2.2.1) ?_
          unfold actP
          rw [if_pos h1, if_pos h2', if_neg n3, if_neg n4, if_neg h5']
      by_cases h103 : c p = 103
      · have n120 : ¬ c p = 120 := fun z => by rw [h103] at z; exact absurd z (by decide)
        have n3 : ¬ (c p = 110 ∨ c p = 105) := fun z => by rw [h103] at z; exact absurd z (by decide)
        rw [if_pos h103, wp_gR, sp_37_31 ms4.1]
        refine ⟨so_37 ms4.1, ?_⟩
        rw [wp_ob]
        refine ⟨so_37 ms4.1, ?_⟩
        rw [m_passes ms4 (by decide), e_bnd, y_jn]
        by_cases h45 : c (p + 2) = 45
        · have hlt3 := ms4.ends.lt h45 (by decide)
          have ms5 := ms4.go (q := p + 3) hlt3
          rw [b2, if_pos h45, if_pos h45, if_neg (by decide), show wI ψ 37 15 (nI (p + 2 + 1)) = atM ψ (p + 3) from rfl, wp_sI, ix_nI (by omega), sl_53 ms5.1, inb_nI (by omega)]
          refine ⟨⟨so_53 ms5.1, by omega⟩, ?_⟩
          have ms6 := keep (i := 3 * k + 2) (v := -1) ms5
          dsimp only
          rw [if_neg n120, wp_some]
          refine good _ (c p, nI d, -1) (p + 3) ms6 ((f4.trans (atM_fr.mono rfl)).putI rfl) (fun i hi' => by rw [hi_ni (by omega)]; exact (atM_fr.i rfl).trans (k4 i hi')) ?_ ⟨by rw [hi_ni (by omega)]; exact (atM_fr.i rfl).trans m4, by rw [hi_ni (by omega)]; exact (atM_fr.i rfl).trans m5, fun _ => hi_eq⟩
          unfold actP
          rw [if_pos h1, if_pos h2', if_neg n3, if_pos ⟨h103, h45⟩, ed]
        · rw [b2, if_neg h45, if_neg h45, if_pos rfl, wp_ob]
          refine ⟨so_37 ms4.1, ?_⟩
          exact third (fun _ σ => if c p = 120 then gR 2 31 σ (some 37) fun y10 => ob 2 σ (some 37) fun _ => bnd (f_X3_oneOf (some 37) 48 10 σ) fun x11 σ => sI σ y10 (nI (3 * k + 2)) x11 fun σ => some ((), σ) else some ((), σ)) (fun ζ => by show (if c p = 120 then _ else _) = _; rw [if_neg n120]) n3 (fun z => h45 z.2)
      · rw [if_neg h103]
        dsimp only
        by_cases h120 : c p = 120
        · have n3 : ¬ (c p = 110 ∨ c p = 105) := fun z => by rw [h120] at z; exact absurd z (by decide)
          rw [if_pos h120, wp_gR, sp_37_31 ms4.1]
          refine ⟨so_37 ms4.1, ?_⟩
          rw [wp_ob]
          refine ⟨so_37 ms4.1, ?_⟩
          exact third (fun _ σ => some ((), σ)) (fun ζ => rfl) n3 (fun z => h103 z.1)
        · rw [if_neg h120, wp_some]
          have h3 : c p = 110 ∨ c p = 105 := by
            rcases h1 with z | z | z | z
            · exact Or.inl z
            · exact Or.inr z
            · exact absurd z h103
            · exact absurd z h120
          refine good _ (c p, nI d, 0) (p + 2) ms4 f4 k4 ?_ ⟨m4, m5, fun z => ?_⟩
          · unfold actP
            rw [if_pos h1, if_pos h2', if_pos h3, ed]
          · rcases z with z | z
            · exact absurd z h103
            · exact absurd z h120
    · have h2' : ¬ isDig (c (p + 1)) := h2
      have eP : actP c p = (none, p + 1) := by
        unfold actP
        rw [if_pos h1, if_neg h2']
      have s3 : Sh (wI ω 37 16 (nI (p + 1))) := sw_I ms2.1
      rw [if_neg h2, e_bnd]
      show wp (sI (wI ω 37 16 (nI (p + 1))) (some 53) (nI (3 * k + 1)) 0 _) Q
      rw [wp_sI, ix_nI (by omega), sl_53 s3, inb_nI (by omega)]
      refine ⟨⟨so_53 s3, by omega⟩, ?_⟩
      have s4 : Sh (wI (wI ω 37 16 (nI (p + 1))) 53 (3 * k + 1) 0) := sw_I s3
      have f4 : Fr [53] [] [15, 16] σ (wI (wI ω 37 16 (nI (p + 1))) 53 (3 * k + 1) 0) := (f2.putI rfl).putI rfl
      have k4 : ∀ i, i < 3 * k → hi (wI (wI ω 37 16 (nI (p + 1))) 53 (3 * k + 1) 0) 53 i = hi σ 53 i := fun i hi' => by rw [hi_ni (by omega), hi_ne (by decide)]; exact k2 i hi'
      have w4 : hi (wI (wI ω 37 16 (nI (p + 1))) 53 (3 * k + 1) 0) 37 16 = nI (p + 1) := by rw [hi_ne (by decide), hi_eq]
      have p4 : hi (wI (wI ω 37 16 (nI (p + 1))) 53 (3 * k + 1) 0) 37 15 = nI (p + 1) := by rw [hi_ne (by decide), hi_ni (by decide)]; exact ms2.2.2.1
      generalize wI (wI ω 37 16 (nI (p + 1))) 53 (3 * k + 1) 0 = ψ at *
      have w4' : ¬ hi ψ 37 16 = -1 := by rw [w4]; exact m1_ne (by omega)
      have dead : wp (sI ψ (some 53) (nI (3 * k + 2)) 0 fun σ => some ((), σ)) Q := by
        rw [wp_sI, ix_nI (by omega), sl_53 s4, inb_nI (by omega)]
        refine ⟨⟨so_53 s4, by omega⟩, ?_⟩
        rw [wp_some]
        exact none_ _ (p + 1) (f4.putI rfl) (fun i hi' => by rw [hi_ni (by omega)]; exact k4 i hi') (by rw [hi_ne (by decide)]; exact w4) (by rw [hi_ne (by decide)]; exact p4) eP
      rw [y_jn]
      by_cases h103 : c p = 103
      · have n120 : ¬ c p = 120 := fun z => by rw [h103] at z; exact absurd z (by decide)
        rw [if_pos h103, wp_gR, sp_37_31 s4]
        refine ⟨so_37 s4, ?_⟩
        rw [wp_ob]
        refine ⟨so_37 s4, ?_⟩
        rw [m_passes' s4 w4', e_bnd, y_jn, if_pos rfl, wp_ob]
        refine ⟨so_37 s4, ?_⟩
        rw [m_oneOf' s4 w4', e_bnd]
        simp only [if_neg n120]
        exact dead
      · rw [if_neg h103]
        dsimp only
        by_cases h120 : c p = 120
        · rw [if_pos h120, wp_gR, sp_37_31 s4]
          refine ⟨so_37 s4, ?_⟩
          rw [wp_ob]
          refine ⟨so_37 s4, ?_⟩
          rw [m_oneOf' s4 w4', e_bnd]
          exact dead
        · rw [if_neg h120, wp_some]
          exact none_ _ (p + 1) f4 k4 w4 p4 eP
  by_cases h110 : c p = 110
  · rw [if_pos h110]; exact step (Or.inl h110)
  · rw [if_neg h110]
    by_cases h105 : c p = 105
    · rw [if_pos h105]; exact step (Or.inr (Or.inl h105))
    · rw [if_neg h105]
      by_cases h103 : c p = 103
      · rw [if_pos h103]; exact step (Or.inr (Or.inr (Or.inl h103)))
      · rw [if_neg h103]
        dsimp only
        by_cases h120 : c p = 120
        · rw [if_pos h120]; exact step (Or.inr (Or.inr (Or.inr h120)))
        · have h1 : ¬ isAct (c p) := fun z => by
            rcases z with z | z | z | z
            · exact h110 z
            · exact h105 z
            · exact h103 z
            · exact h120 z
          rw [if_neg h120, wp_gI, ms.2.2.1]
          refine ⟨so_37 hs, ?_⟩
          rw [wp_ob]
          refine ⟨so_37 hs, ?_⟩
          rw [m_fault hs ms.2.2.2.1, e_bnd, wp_some]
          exact none_ _ p (Fr.refl.putI rfl) (fun i _ => by rw [hi_ne (by decide)]) hi_eq (by rw [hi_ni (by decide)]; exact ms.2.2.1) (by unfold actP; rw [if_neg h1])
end macts
