/-! PURE 106: riders come (the class): the loop -/
section crdl
variable {σ τ : Hp} {P : Pk} {a : HS} {k : Nat} {f : Nat → LN}
theorem ill_new {n j : Nat} {a : HS} (h : HOK n a) (hj : n ≤ j) (h8 : j < 8) : nI a.ill &&& (shl 1 (nI j) ^^^ (-1)) = nI a.ill := by
  rw [shl_1 (by omega), nI_sd]
  congr 1
  apply Nat.eq_of_testBit_eq
  intro i
  rw [sd_bit, bit_pow]
  by_cases e : j = i
  · subst e
    rw [decide_eq_true rfl, Nat.testBit_lt_two_pow (Nat.lt_of_lt_of_le h.1 (Nat.pow_le_pow_right (by decide) hj))]
    rfl
  · rw [decide_eq_false e]
    simp
theorem c_rdLoop (x : CX σ P a) (h8 : P.n + k ≤ 8) (hf : ∀ j, lnOK (f j)) (hL : ∀ j, j < k → LC σ P.n j (f j)) (e17 : hi σ 0 17 = nI (P.n + k)) {k0 : Unit → Hp → Option (Int32 × Hp)} {Q : Int32 → Hp → Prop} (hk0 : ∀ τ, Fr [1, 3, 7, 8, 9] [5] [] σ τ → CX τ (rdP P f k) (rdA P.n a k) → wp (k0 () τ) Q) : wp (lp 2000 (f_X1_riders_b83 (some 0) k0) () σ) Q := by
  refine wp_up k (fun i (_ : Unit) τ => Fr [1, 3, 7, 8, 9] [5] [] σ τ ∧ CX τ (rdP P f i) (rdA P.n a i)) (fun ag i y τ hi' hJ hag => ?_) (fun ag y τ hJ => ?_) (by omega) ⟨Fr.refl, by rw [rdP_0, rdA_0]; exact x⟩
  · obtain ⟨g, xi⟩ := hJ
    have s := xi.s
    have o0 := so_0 s
    have e5 : hi τ 0 5 = nI (P.n + i) := xi.n
    have e17' : hi τ 0 17 = nI (P.n + k) := (g.i rfl).trans e17
    obtain ⟨l1, l2, l3⟩ := hL i hi'
    have m1 : hi τ 11 (P.n + i) = nI (f i).1 := (g.i rfl).trans l1
    have m2 : hi τ 12 (P.n + i) = nI (f i).2.1 := (g.i rfl).trans l2
    have m3 : hi τ 13 (P.n + i) = nI (f i).2.2 := (g.i rfl).trans l3
    have eil : hi τ 1 2 = nI a.ill := xi.il
    have st := c_rdStep xi (by omega) hf ⟨m1, m2, m3⟩ x.pk x.ok (c := nI a.ill) rfl
    unfold f_X1_riders_b83
    rw [wp_gI, e5]
    refine ⟨o0, ?_⟩
    rw [wp_gI, e17', if_neg (nI_ge (by omega) (by omega))]
    refine ⟨o0, ?_⟩
    have h3 : ∀ c i' j v, c ≠ 0 → hi (wI τ c i' v) 0 j = hi τ 0 j := fun c i' j v h => by rw [hi_ne (Ne.symm h)]
    simp (disch := first | omega | decide) only [wp_gI, wp_gR, wp_lI, wp_sI, wp_pI, okv0, Ok_wI, hk_wI, hr_wI, so_0 s, so_1 s, so_3 s, so_7 s, so_8 s, so_9 s, so_11 s, so_12 s, so_13 s, sl_3 s, sl_7 s, sl_8 s, sl_9 s, sl_11 s, sl_12 s, sl_13 s, sp_0_0 s, sp_0_2 s, sp_0_3 s, sp_0_4 s, sp_0_14 s, sp_0_15 s, sp_0_16 s, sp_1_1 s, e5, e17', true_and, inb_nI, ix_nI, hi_ne, m1, m2, m3, eil, nI_1]
    rw [ill_new x.ok (by omega) (by omega)]
    have lt : P.n + i < 8 := by omega
    exact ⟨lt, lt, lt, lt, lt, lt, lt, hag _ _ ⟨(((((g.putI rfl).putI rfl).putI rfl).putI rfl).putI rfl).putI rfl, st⟩⟩
  · obtain ⟨g, xk⟩ := hJ
    have e5 : hi τ 0 5 = nI (P.n + k) := xk.n
    have e17' : hi τ 0 17 = nI (P.n + k) := (g.i rfl).trans e17
    unfold f_X1_riders_b83
    rw [wp_gI, e5]
    refine ⟨so_0 xk.s, ?_⟩
    rw [wp_gI, e17', if_pos (nI_le (Nat.le_refl _) (by omega))]
    exact ⟨so_0 xk.s, hk0 τ g xk⟩
end crdl
