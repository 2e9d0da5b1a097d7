/-! PURE 108: riders come (the reference): one turn of the loop -/
section mrd
variable {σ τ υ : Hp} {V : VS} {P : Pk} {a : HS} {n0 k : Nat} {f : Nat → LN}
abbrev rdW (τ : Hp) (n : Nat) (l : LN) (m : Nat) : Hp := wI (wI (wI (wI (wI (wI τ 39 n (nI l.1)) 40 n (nI l.2.1)) 41 n (nI l.2.2)) 38 (8 + n) 0) 38 (16 + n) 0) 37 3 (nI m)
theorem rdW_fr {n m : Nat} {l : LN} : Fr [38, 39, 40, 41] [] [3] τ (rdW τ n l m) := (((((Fr.refl.putI rfl).putI rfl).putI rfl).putI rfl).putI rfl).putI rfl
theorem rdW_38 {n m j : Nat} {l : LN} : hi (rdW τ n l m) 38 j = if j = 8 + n ∨ j = 16 + n then 0 else hi τ 38 j := by
  unfold rdW
  rw [hi_ne (by decide)]
  by_cases e : j = 16 + n
  · rw [e, hi_eq, if_pos (Or.inr rfl)]
  · rw [hi_ni e]
    by_cases e2 : j = 8 + n
    · rw [e2, hi_eq, if_pos (Or.inl rfl)]
    · rw [hi_ni e2, hi_ne (by decide), hi_ne (by decide), hi_ne (by decide), if_neg (fun z => by omega)]
theorem ill_bit {n j : Nat} {a : HS} (h : HOK n a) (hj : n ≤ j) : a.ill.testBit j = false := Nat.testBit_lt_two_pow (Nat.lt_of_lt_of_le h.1 (Nat.pow_le_pow_right (by decide) hj))
theorem m_rdStep (x : MX τ (rdP P f k) (rdA P.n a k)) (h8 : P.n + (k + 1) ≤ 8) (hf : ∀ j, lnOK (f j)) (hp : POK P) (hok : HOK P.n a) : MX (rdW τ (P.n + k) (f k) (P.n + (k + 1))) (rdP P f (k + 1)) (rdA P.n a (k + 1)) := by
  have g : Fr [38, 39, 40, 41] [] [3] τ (rdW τ (P.n + k) (f k) (P.n + (k + 1))) := rdW_fr
  have s := g.sh x.s rfl
  obtain ⟨p1, p2, p3, p4, p5⟩ := x.2.1
  obtain ⟨q1, q2, q3, q4, q5, q6⟩ := x.2.2.2.1
  refine ⟨s, ⟨hi_eq, (g.i rfl).trans p2, (g.i rfl).trans p3, fun r hr' => ?_, p5.frs (g.frs x.s rfl) rfl⟩, rdP_ok hp h8 hf, ⟨fun j hj => ?_, fun r hr' => ?_, fun r hr' => ?_, ?_, ?_, ?_⟩, rdA_ok hok⟩
  · have hr2 : r < P.n + (k + 1) := hr'
    unfold rdW
    rw [hi_ne (show 39 ≠ 37 by decide), hi_ne (show 39 ≠ 38 by decide), hi_ne (show 39 ≠ 38 by decide), hi_ne (show 39 ≠ 41 by decide), hi_ne (show 39 ≠ 40 by decide), hi_ne (show 40 ≠ 37 by decide), hi_ne (show 40 ≠ 38 by decide), hi_ne (show 40 ≠ 38 by decide), hi_ne (show 40 ≠ 41 by decide), hi_ne (show 41 ≠ 37 by decide), hi_ne (show 41 ≠ 38 by decide), hi_ne (show 41 ≠ 38 by decide)]
    show _ = nI (ext P.most P.n (k + 1) (fun j => (f j).1) r) ∧ _ = nI (ext P.width P.n (k + 1) (fun j => (f j).2.1) r) ∧ _ = nI (ext P.can P.n (k + 1) (fun j => (f j).2.2) r)
    by_cases e : r = P.n + k
    · subst e
      rw [ext_at, ext_at, ext_at, hi_eq, hi_eq, hi_eq]
      exact ⟨rfl, rfl, rfl⟩
    · rw [ext_lt (by omega), ext_lt (by omega), ext_lt (by omega), hi_ni e, hi_ni e, hi_ni e, hi_ne (show 40 ≠ 39 by decide), hi_ne (show 41 ≠ 40 by decide), hi_ne (show 41 ≠ 39 by decide)]
      exact p4 r (show r < P.n + k by omega)
  · rw [rdW_38, if_neg (by omega)]; exact q1 j hj
  · rw [Nat.zero_add, rdW_38]
    show (if 8 + r = 8 + (P.n + k) ∨ 8 + r = 16 + (P.n + k) then 0 else hi τ 38 (8 + r)) = if P.n ≤ r ∧ r < P.n + (k + 1) then 0 else a.tired r
    have q2' : hi τ 38 (0 + 8 + r) = if P.n ≤ r ∧ r < P.n + k then 0 else a.tired r := q2 r hr'
    rw [Nat.zero_add] at q2'
    by_cases e : r = P.n + k
    · rw [if_pos (by omega), if_pos (by omega)]
    · rw [if_neg (by omega), q2']
      by_cases e2 : P.n ≤ r ∧ r < P.n + k
      · rw [if_pos e2, if_pos (by omega)]
      · rw [if_neg e2, if_neg (by omega)]
  · rw [Nat.zero_add, rdW_38]
    show (if 16 + r = 8 + (P.n + k) ∨ 16 + r = 16 + (P.n + k) then 0 else hi τ 38 (16 + r)) = if a.ill.testBit r then 1 else 0
    have q3' : hi τ 38 (0 + 16 + r) = if a.ill.testBit r then 1 else 0 := q3 r hr'
    rw [Nat.zero_add] at q3'
    by_cases e : r = P.n + k
    · rw [if_pos (by omega), ill_bit hok (by omega)]; rfl
    · rw [if_neg (by omega), q3']
  · rw [Nat.zero_add, rdW_38, if_neg (by omega)]; exact q4
  · rw [Nat.zero_add, rdW_38, if_neg (by omega)]; exact q5
  · rw [Nat.zero_add, rdW_38, if_neg (by omega)]; exact q6
theorem m_rdLoop (x : MX σ P a) (h8 : P.n + k ≤ 8) (hf : ∀ j, lnOK (f j)) (hL : ∀ j, j < k → LM σ j (f j)) {k0 : Unit → Hp → Option (Int32 × Hp)} {Q : Int32 → Hp → Prop} (hk0 : ∀ τ, Fr [38, 39, 40, 41] [] [3] σ τ → MX τ (rdP P f k) (rdA P.n a k) → wp (k0 () τ) Q) : wp (lp 2000 (f_X3_riders_b93 (some 37) (nI k) k0) 0 σ) Q := by
  refine wp_up k (fun i y τ => y = nI i ∧ Fr [38, 39, 40, 41] [] [3] σ τ ∧ MX τ (rdP P f i) (rdA P.n a i)) (fun ag i y τ hi' hJ hag => ?_) (fun ag y τ hJ => ?_) (by omega) ⟨rfl, Fr.refl, by rw [rdP_0, rdA_0]; exact x⟩
  · obtain ⟨rfl, g, xi⟩ := hJ
    have s := xi.s
    have e3 : hi τ 37 3 = nI (P.n + i) := xi.n
    obtain ⟨l1, l2, l3⟩ := hL i hi'
    have m1 : hi τ 44 (3 * i) = nI (f i).1 := (g.i rfl).trans l1
    have m2 : hi τ 44 (3 * i + 1) = nI (f i).2.1 := (g.i rfl).trans l2
    have m3 : hi τ 44 (3 * i + 2) = nI (f i).2.2 := (g.i rfl).trans l3
    have st := m_rdStep xi (by omega) hf x.pk x.ok
    unfold f_X3_riders_b93
    rw [if_neg (nI_ge hi' (by omega))]
    simp (disch := first | omega | decide) only [wp_gI, wp_gR, wp_lI, wp_sI, wp_pI, okv0, Ok_wI, hk_wI, hr_wI, so_37 s, so_38 s, so_39 s, so_40 s, so_41 s, so_44 s, sl_38 s, sl_39 s, sl_40 s, sl_41 s, sl_44 s, sp_37_0 s, sp_37_4 s, sp_37_5 s, sp_37_6 s, sp_37_17 s, e3, true_and, inb_nI, ix_nI, hi_ne, n_3, n_8, n_16, n_2, nI_mul, nI_add, nI_1, m1, m2, m3]
    have lt : P.n + i < 8 := by omega
    exact ⟨by omega, lt, by omega, lt, by omega, lt, by omega, by omega, hag _ _ ⟨rfl, g.trans rdW_fr, st⟩⟩
  · obtain ⟨rfl, g, xk⟩ := hJ
    unfold f_X3_riders_b93
    rw [if_pos (nI_le (Nat.le_refl _) (by omega))]
    exact hk0 τ g xk
end mrd
