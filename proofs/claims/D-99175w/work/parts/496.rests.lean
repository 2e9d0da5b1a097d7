/-! PURE 67: rests -/
def fgI (x y v : Nat) : Int32 := if x < y then 0 else nI v - nI y
def ogI (x y w : Nat) : Int32 := if y ≤ x then 0 else nI w - nI x
def rsB (x y v w : Nat) : Prop := ∀ z, z < 10 → ¬ fgI x y v < fgI z y v ∧ ogI x z w ≤ ogI x y w
noncomputable def rsI (x y v w : Nat) : Int32 := @b2 (rsB x y v w) (Classical.propDecidable _)
theorem rsI_pos {x y v w : Nat} (h : rsB x y v w) : rsI x y v w = 1 := by unfold rsI b2; rw [if_pos h]
theorem rsI_neg {x y v w : Nat} (h : ¬ rsB x y v w) : rsI x y v w = 0 := by unfold rsI b2; rw [if_neg h]
section rests
variable {σ τ : Hp} {P : Pk} {a : HS}
theorem c_isRest {x y v w : Nat} (hx : x < 10) (hy : y < 10) (hv : v < 10) (hw : w < 10) : f_X1_isRest (nI x) (nI y) (nI v) (nI w) σ = some (rsI x y v w, σ) := by
  refine wp_eq ?_
  have key : wp (lp 2000 (f_X1_isRest_b31 (nI x) (nI y) (nI v) (nI w) (fgI x y v) (ogI x y w) (fun (a9 : Unit) σ => rz1 1 σ) (fun (a10 : Unit) σ => rz1 0 σ)) 0 σ) (fun r τ => r = rsI x y v w ∧ τ = σ) := by
    refine wp_up 10 (fun i z τ => z = nI i ∧ τ = σ ∧ ∀ q, q < i → ¬ fgI x y v < fgI q y v ∧ ogI x q w ≤ ogI x y w) (fun ag i z τ hi' hJ hag => ?_) (fun ag z τ hJ => ?_) (by decide) ⟨rfl, rfl, fun q hq => absurd hq (Nat.not_lt_zero _)⟩
    · obtain ⟨rfl, rfl, h1⟩ := hJ
      have no : ¬ (¬ fgI x y v < fgI i y v ∧ ogI x i w ≤ ogI x y w) → wp (rz1 0 τ) (fun r υ => r = rsI x y v w ∧ υ = τ) := fun hno => by
        rw [wp_r0, rsI_neg (fun z => hno (z i hi'))]
        exact ⟨rfl, rfl⟩
      have main : wp (if fgI x y v < fgI i y v then rz1 0 τ else if ogI x i w ≤ ogI x y w then ag (nI i + 1) τ else rz1 0 τ) (fun r υ => r = rsI x y v w ∧ υ = τ) := by
        by_cases e1 : fgI x y v < fgI i y v
        · rw [if_pos e1]; exact no (fun z => z.1 e1)
        · rw [if_neg e1]
          by_cases e2 : ogI x i w ≤ ogI x y w
          · rw [if_pos e2, nI_1]
            exact hag _ _ ⟨rfl, rfl, fun q hq => by
              by_cases e : q = i
              · rw [e]; exact ⟨e1, e2⟩
              · exact h1 q (by omega)⟩
          · rw [if_neg e2]; exact no (fun z => e2 z.2)
      unfold f_X1_isRest_b31 jn
      rw [if_neg (show ¬ (9 : Int32) < nI i by rw [n_9, nI_lt_l (by decide) (by omega)]; omega)]
      have e3 : ogI x i w = if nI x < nI i then nI w - nI x else 0 := by
        unfold ogI
        simp (disch := omega) only [nI_lt_l]
        by_cases e : i ≤ x
        · rw [if_pos e, if_neg (by omega)]
        · rw [if_neg e, if_pos (by omega)]
      have e4 : fgI i y v = if nI i < nI y then 0 else nI v - nI y := by
        unfold fgI
        simp (disch := omega) only [nI_lt_l]
      rw [e3, e4] at main
      dsimp only
      by_cases t1 : nI i < nI y
      · rw [if_pos t1] at main ⊢
        by_cases t2 : nI x < nI i
        · rw [if_pos t2] at main ⊢; exact main
        · rw [if_neg t2] at main ⊢; exact main
      · rw [if_neg t1] at main ⊢
        by_cases t2 : nI x < nI i
        · rw [if_pos t2] at main ⊢; exact main
        · rw [if_neg t2] at main ⊢; exact main
    · obtain ⟨rfl, rfl, h1⟩ := hJ
      unfold f_X1_isRest_b31
      rw [if_pos (by decide), wp_r1, rsI_pos h1]
      exact ⟨rfl, rfl⟩
  unfold f_X1_isRest jn
  unfold fgI ogI at key
  simp (disch := omega) only [nI_lt_l]
  by_cases t1 : x < y
  · rw [if_pos t1, if_neg (show ¬ y ≤ x by omega)] at key
    rw [if_pos t1, if_pos t1]; exact key
  · rw [if_neg t1, if_pos (show y ≤ x by omega)] at key
    rw [if_neg t1, if_neg t1]; exact key
theorem m_isRest {x y v w : Nat} (hx : x < 10) (hy : y < 10) (hv : v < 10) (hw : w < 10) : f_X3_isRest (nI x) (nI y) (nI v) (nI w) σ = some (rsI x y v w, σ) := by
  have fg : ∀ p q : Nat, p < 10 → q < 10 → f_X3_firstGets (nI p) (nI q) (nI v) σ = some (fgI p q v, σ) := fun p q hp hq => by
    unfold f_X3_firstGets fgI
    simp (disch := omega) only [nI_lt_l]
    split <;> rfl
  have og : ∀ p q : Nat, p < 10 → q < 10 → f_X3_otherGets (nI p) (nI q) (nI w) σ = some (ogI p q w, σ) := fun p q hp hq => by
    unfold f_X3_otherGets ogI
    simp (disch := omega) only [nI_le_l]
    split <;> rfl
  refine wp_eq ?_
  unfold f_X3_isRest
  refine wp_up 10 (fun i z τ => z = nI i ∧ τ = σ ∧ ∀ q, q < i → ¬ fgI x y v < fgI q y v ∧ ogI x q w ≤ ogI x y w) (fun ag i z τ hi' hJ hag => ?_) (fun ag z τ hJ => ?_) (by decide) ⟨rfl, rfl, fun q hq => absurd hq (Nat.not_lt_zero _)⟩
  · obtain ⟨rfl, rfl, h1⟩ := hJ
    have no : ¬ (¬ fgI x y v < fgI i y v ∧ ogI x i w ≤ ogI x y w) → wp (rz1 0 τ) (fun r υ => r = rsI x y v w ∧ υ = τ) := fun hno => by
      rw [wp_r0, rsI_neg (fun z => hno (z i hi'))]
      exact ⟨rfl, rfl⟩
    unfold f_X3_isRest_b3
    rw [if_neg (show ¬ (9 : Int32) < nI i by rw [n_9, nI_lt_l (by decide) (by omega)]; omega), fg i y hi' hy, e_bnd, fg x y hx hy, e_bnd]
    by_cases e1 : fgI x y v < fgI i y v
    · rw [if_pos e1]; exact no (fun z => z.1 e1)
    · rw [if_neg e1, og x i hx hi', e_bnd, og x y hx hy, e_bnd]
      by_cases e2 : ogI x i w ≤ ogI x y w
      · rw [if_pos e2, nI_1]
        exact hag _ _ ⟨rfl, rfl, fun q hq => by
          by_cases e : q = i
          · rw [e]; exact ⟨e1, e2⟩
          · exact h1 q (by omega)⟩
      · rw [if_neg e2]; exact no (fun z => e2 z.2)
  · obtain ⟨rfl, rfl, h1⟩ := hJ
    unfold f_X3_isRest_b3
    rw [if_pos (by decide), wp_r1, rsI_pos h1]
    exact ⟨rfl, rfl⟩
end rests
