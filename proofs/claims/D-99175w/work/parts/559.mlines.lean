/-! PURE 101: lines of riders read (the reference) -/
def BadM (σ : Hp) (c : Nat → Int32) (q : Nat) : Prop := Sh σ ∧ hi σ 37 16 = nI q ∧ hi σ 37 15 = nI q ∧ (97 ≤ c q ∧ c q ≤ 104)
section mlines
variable {σ τ υ : Hp} {c : Nat → Int32} {e p : Nat}
theorem m_oneOf' (h : Sh σ) (hw : ¬ hi σ 37 16 = -1) {x y : Int32} : f_X3_oneOf (some 37) x y σ = some (0, σ) := by
  unfold f_X3_oneOf
  rw [e_ob (so_37 h), m_fine h, e_bnd, b2_ite, if_neg hw]
theorem m_lets {j : Nat} (hj : j < 8) (hv : ∀ p, c p = -1 ∨ ∃ k, k < 256 ∧ c p = nI k) {k0 : Unit → Hp → Option (Unit × Hp)} {Q : Unit → Hp → Prop} : ∀ m b p σ last, e - p < m → MS σ c e p → b < 256 → ((last = -1 ∧ b = 0) ∨ ∃ t, t < 8 ∧ last = nI t ∧ 2 ^ t ≤ b ∧ b < 2 ^ (t + 1)) → hi σ 44 (3 * j + 2) = nI b → (∀ τ, Fr [44] [] [15, 16] σ τ → (∀ i, i ≠ 3 * j + 2 → hi τ 44 i = hi σ 44 i) → hi τ 44 (3 * j + 2) = nI (ltsP c m b p).1 → (MS τ c e (ltsP c m b p).2 ∨ BadM τ c (ltsP c m b p).2) → wp (k0 () τ) Q) → wp (lp m (f_X3_readMan_b44 (some 37) (nI (3 * j)) k0) last σ) Q := by
  intro m
  induction m with
  | zero => intro b p σ last h; omega
  | succ m ih =>
    intro b p σ last hm ms hb hlast e44 hk0
    have e80 := ms.e80
    have hpe := ms.2.2.2.2
    show wp (f_X3_readMan_b44 (some 37) (nI (3 * j)) k0 (lp m (f_X3_readMan_b44 (some 37) (nI (3 * j)) k0)) last σ) Q
    generalize hag : lp m (f_X3_readMan_b44 (some 37) (nI (3 * j)) k0) = ag
    unfold ltsP at hk0
    unfold f_X3_readMan_b44
    rw [wp_ob]
    refine ⟨so_37 ms.1, ?_⟩
    rw [m_fine ms.1, e_bnd, b2_ite, if_pos ms.2.2.2.1, wp_ob]
    refine ⟨so_37 ms.1, ?_⟩
    rw [m_here ms, e_bnd, w_in3, b2_ite]
    by_cases h1 : 97 ≤ c p ∧ c p ≤ 104
    · obtain ⟨q, q8, e1, e2⟩ := lets_k (hv p) h1
      have hlt := ms.ends.lt e1 (m1_ne (by omega))
      rw [if_pos h1, wp_ob]
      refine ⟨so_37 ms.1, ?_⟩
      rw [m_here ms, e_bnd, e2]
      rw [e2, ix_nI (by omega)] at hk0
      have hcmp : last < nI q ↔ b < 2 ^ q := by
        rcases hlast with ⟨rfl, rfl⟩ | ⟨t, t8, rfl, t1, t2⟩
        · exact ⟨fun _ => Nat.two_pow_pos q, fun _ => m1_lt (by omega)⟩
        · rw [nI_ltI (by omega) (by omega)]
          constructor
          · intro z
            exact Nat.lt_of_lt_of_le t2 (Nat.pow_le_pow_right (by decide) z)
          · intro z
            refine Nat.lt_of_not_le (fun w => ?_)
            have := Nat.pow_le_pow_right (show 0 < 2 by decide) w
            omega
      by_cases h2 : b < 2 ^ q
      · have ms1 := ms.go (q := p + 1) hlt
        rw [if_pos ⟨h1, h2⟩] at hk0
        rw [if_pos (hcmp.mpr h2), wp_gI, ms.2.2.1]
        refine ⟨so_37 ms.1, ?_⟩
        rw [wp_pI]
        refine ⟨so_37 ms.1, rfl, ?_⟩
        rw [nI_1, show wI σ 37 15 (nI (p + 1)) = atM σ (p + 1) from rfl, wp_gR, sp_37_17 ms1.1]
        refine ⟨so_37 ms1.1, ?_⟩
        rw [n_2, nI_add, wp_lI, ix_nI (by omega), sl_44 ms1.1, inb_nI (by omega), atM_fr.i (σ := σ) (a := 44) rfl, e44]
        refine ⟨⟨so_44 ms1.1, by omega⟩, ?_⟩
        rw [wp_sI, ix_nI (by omega), sl_44 ms1.1, inb_nI (by omega), shl_1 (by omega), nI_or]
        refine ⟨⟨so_44 ms1.1, by omega⟩, ?_⟩
        have g2 : Fr [44] [] [] (atM σ (p + 1)) (wI (atM σ (p + 1)) 44 (3 * j + 2) (nI (b ||| 2 ^ q))) := Fr.refl.putI rfl
        have ms2 : MS (wI (atM σ (p + 1)) 44 (3 * j + 2) (nI (b ||| 2 ^ q))) c e (p + 1) := ⟨sw_I ms1.1, ms1.2.1.fr g2 rfl, (g2.i rfl).trans ms1.2.2.1, (g2.i rfl).trans ms1.2.2.2.1, ms1.2.2.2.2⟩
        rw [← hag]
        refine ih (b ||| 2 ^ q) (p + 1) _ (nI q) (by omega) ms2 (or_lt hb (pow_lt8 q8)) (Or.inr ⟨q, q8, rfl, ?_, ?_⟩) hi_eq (fun τ f k1 k2 k3 => hk0 τ ((atM_fr.mono rfl).trans ((g2.mono rfl).trans f)) (fun i hi' => ?_) k2 k3)
        · exact Nat.right_le_or
        · exact Nat.or_lt_two_pow (Nat.lt_trans h2 (Nat.pow_lt_pow_right (by decide) (Nat.lt_succ_self q))) (Nat.pow_lt_pow_right (by decide) (Nat.lt_succ_self q))
        · rw [k1 i hi', hi_ni hi']; exact atM_fr.i rfl
      · rw [if_neg (fun z => h2 z.2)] at hk0
        rw [if_neg (fun z => h2 (hcmp.mp z)), wp_gI, ms.2.2.1]
        refine ⟨so_37 ms.1, ?_⟩
        rw [wp_ob]
        refine ⟨so_37 ms.1, ?_⟩
        rw [m_fault ms.1 ms.2.2.2.1, e_bnd, ← hag]
        obtain ⟨m', rfl⟩ : ∃ n, m = n + 1 := ⟨m - 1, by omega⟩
        show wp (f_X3_readMan_b44 (some 37) (nI (3 * j)) k0 _ last (wI σ 37 16 (nI p))) Q
        have s3 : Sh (wI σ 37 16 (nI p)) := sw_I ms.1
        unfold f_X3_readMan_b44
        rw [wp_ob]
        refine ⟨so_37 s3, ?_⟩
        rw [m_fine s3, hi_eq, e_bnd, b2_ite, if_neg (m1_ne (by omega))]
        refine hk0 _ (Fr.refl.putI rfl) (fun i _ => by rw [hi_ne (by decide)]) (by rw [hi_ne (by decide)]; exact e44) (Or.inr ⟨s3, hi_eq, by rw [hi_ni (by decide)]; exact ms.2.2.1, h1⟩)
    · rw [if_neg (fun z => h1 z.1)] at hk0
      rw [if_neg h1]
      exact hk0 σ Fr.refl (fun _ _ => rfl) e44 (Or.inl ms)
/-- the reference's line -/
theorem m_line {j : Nat} (hj : j < 8) (hv : ∀ p, c p = -1 ∨ ∃ k, k < 256 ∧ c p = nI k) (ms : MS σ c e p) : wp (f_X3_readMan (some 37) (nI (3 * j)) σ) (fun _ τ => Fr [44] [] [15, 16] σ τ ∧ (∀ i, i < 3 * j → hi τ 44 i = hi σ 44 i) ∧ (match (lineP c p).1 with
    | none => hi τ 37 16 = nI (lineP c p).2 ∧ hi τ 37 15 = nI (lineP c p).2
    | some l => (hi τ 44 (3 * j) = nI l.1 ∧ hi τ 44 (3 * j + 1) = nI l.2.1 ∧ hi τ 44 (3 * j + 2) = nI l.2.2) ∧ (MS τ c e (lineP c p).2 ∨ BadM τ c (lineP c p).2))) := by
  have e80 := ms.e80
  have hpe := ms.2.2.2.2
  have hs := ms.1
  have keep : ∀ {ω : Hp} {q i : Nat} {v : Int32}, MS ω c e q → MS (wI ω 44 i v) c e q := fun {ω q i v} h => by
    have g : Fr [44] [] [] ω (wI ω 44 i v) := Fr.refl.putI rfl
    exact ⟨sw_I h.1, h.2.1.fr g rfl, (g.i rfl).trans h.2.2.1, (g.i rfl).trans h.2.2.2.1, h.2.2.2.2⟩
  generalize hQ : (fun (_ : Unit) τ => Fr [44] [] [15, 16] σ τ ∧ (∀ i, i < 3 * j → hi τ 44 i = hi σ 44 i) ∧ (match (lineP c p).1 with
    | none => hi τ 37 16 = nI (lineP c p).2 ∧ hi τ 37 15 = nI (lineP c p).2
    | some l => (hi τ 44 (3 * j) = nI l.1 ∧ hi τ 44 (3 * j + 1) = nI l.2.1 ∧ hi τ 44 (3 * j + 2) = nI l.2.2) ∧ (MS τ c e (lineP c p).2 ∨ BadM τ c (lineP c p).2))) = Q
  -- behind a fault nothing is read
  have dead : ∀ (ω : Hp) (l : Int32), Sh ω → ¬ hi ω 37 16 = -1 → Q () ω → wp (lp 2000 (f_X3_readMan_b44 (some 37) (nI (3 * j)) (fun (a14 : Unit) σ => some ((), σ))) l ω) Q := fun ω l h hw hq => by
    show wp (f_X3_readMan_b44 (some 37) (nI (3 * j)) (fun (a14 : Unit) σ => some ((), σ)) _ l ω) Q
    unfold f_X3_readMan_b44
    rw [wp_ob]
    refine ⟨so_37 h, ?_⟩
    rw [m_fine h, e_bnd, b2_ite, if_neg hw, wp_some]
    exact hq
  unfold f_X3_readMan
  rw [wp_gR, sp_37_17 hs]
  refine ⟨so_37 hs, ?_⟩
  rw [wp_ob]
  refine ⟨so_37 hs, ?_⟩
  rw [m_oneOf ms (by decide) (by decide), show (49 : Int32) + 4 - 1 = 52 by decide]
  by_cases h1 : 49 ≤ c p ∧ c p ≤ 52
  · obtain ⟨q1, a1, a2, a3, a4⟩ := dig_k (m := 52) (by decide) (hv p) h1
    have hlt := ms.ends.lt a3 (m1_ne (by omega))
    have ms1 := ms.go (q := p + 1) hlt
    have ev : c p - 49 = nI (q1 - 49) := by rw [a3, show (49 : Int32) = nI 49 from rfl, nI_sub a1]
    rw [if_pos h1, e_bnd, ev, nI_1]
    show wp (sI (atM σ (p + 1)) (some 44) (nI (3 * j)) (nI (q1 - 49 + 1)) _) Q
    rw [wp_sI, ix_nI (by omega), sl_44 ms1.1, inb_nI (by omega)]
    refine ⟨⟨so_44 ms1.1, by omega⟩, ?_⟩
    have ms2 := keep (i := 3 * j) (v := nI (q1 - 49 + 1)) ms1
    have f2 : Fr [44] [] [15, 16] σ (wI (atM σ (p + 1)) 44 (3 * j) (nI (q1 - 49 + 1))) := (atM_fr.mono rfl).putI rfl
    have k2 : ∀ i, i ≠ 3 * j → hi (wI (atM σ (p + 1)) 44 (3 * j) (nI (q1 - 49 + 1))) 44 i = hi σ 44 i := fun i hi' => by rw [hi_ni hi']; exact atM_fr.i rfl
    have m2 : hi (wI (atM σ (p + 1)) 44 (3 * j) (nI (q1 - 49 + 1))) 44 (3 * j) = nI (q1 - 48) := by rw [hi_eq, show q1 - 49 + 1 = q1 - 48 by omega]
    generalize wI (atM σ (p + 1)) 44 (3 * j) (nI (q1 - 49 + 1)) = ω at *
    rw [wp_gR, sp_37_17 ms2.1]
    refine ⟨so_37 ms2.1, ?_⟩
    rw [wp_ob]
    refine ⟨so_37 ms2.1, ?_⟩
    rw [m_oneOf ms2 (by decide) (by decide), show (49 : Int32) + 9 - 1 = 57 by decide]
    by_cases h2 : 49 ≤ c (p + 1) ∧ c (p + 1) ≤ 57
    · obtain ⟨q2, b1, b2', b3, b4⟩ := dig_k (m := 57) (by decide) (hv (p + 1)) h2
      have hlt2 := ms.ends.lt b3 (m1_ne (by omega))
      have ms3 := ms2.go (q := p + 2) (by omega)
      have ew : c (p + 1) - 49 = nI (q2 - 49) := by rw [b3, show (49 : Int32) = nI 49 from rfl, nI_sub b1]
      rw [if_pos h2, e_bnd, ew, nI_1, nI_1]
      show wp (sI (atM ω (p + 2)) (some 44) (nI (3 * j + 1)) (nI (q2 - 49 + 1)) _) Q
      rw [wp_sI, ix_nI (by omega), sl_44 ms3.1, inb_nI (by omega)]
      refine ⟨⟨so_44 ms3.1, by omega⟩, ?_⟩
      have ms4 := keep (i := 3 * j + 1) (v := nI (q2 - 49 + 1)) ms3
      have f4 : Fr [44] [] [15, 16] σ (wI (atM ω (p + 2)) 44 (3 * j + 1) (nI (q2 - 49 + 1))) := (f2.trans (atM_fr.mono rfl)).putI rfl
      have k4 : ∀ i, i < 3 * j → hi (wI (atM ω (p + 2)) 44 (3 * j + 1) (nI (q2 - 49 + 1))) 44 i = hi σ 44 i := fun i hi' => by rw [hi_ni (by omega)]; exact (atM_fr.i rfl).trans (k2 i (by omega))
      have m4 : hi (wI (atM ω (p + 2)) 44 (3 * j + 1) (nI (q2 - 49 + 1))) 44 (3 * j) = nI (q1 - 48) := by rw [hi_ni (by omega)]; exact (atM_fr.i rfl).trans m2
      have m5 : hi (wI (atM ω (p + 2)) 44 (3 * j + 1) (nI (q2 - 49 + 1))) 44 (3 * j + 1) = nI (q2 - 48) := by rw [hi_eq, show q2 - 49 + 1 = q2 - 48 by omega]
      generalize wI (atM ω (p + 2)) 44 (3 * j + 1) (nI (q2 - 49 + 1)) = ψ at *
      rw [wp_gR, sp_37_17 ms4.1]
      refine ⟨so_37 ms4.1, ?_⟩
      rw [n_2, nI_add, wp_sI, ix_nI (by omega), sl_44 ms4.1, inb_nI (by omega)]
      refine ⟨⟨so_44 ms4.1, by omega⟩, ?_⟩
      have ms5 := keep (i := 3 * j + 2) (v := 0) ms4
      refine m_lets hj hv 2000 0 (p + 2) _ (-1) (by omega) ms5 (by decide) (Or.inl ⟨rfl, rfl⟩) hi_eq (fun τ f5 k5 k6 k7 => ?_)
      rw [wp_some, ← hQ]
      have eL : lineP c p = (some (q1 - 48, q2 - 48, (ltsP c 2000 0 (p + 2)).1), (ltsP c 2000 0 (p + 2)).2) := by
        unfold lineP
        rw [if_pos h1, if_pos h2, a4, b4]
      rw [eL]
      refine ⟨(f4.putI rfl).trans f5, fun i hi' => ?_, ⟨?_, ?_, k6⟩, k7⟩
      · rw [k5 i (by omega), hi_ni (by omega)]; exact k4 i hi'
      · rw [k5 _ (by omega), hi_ni (by omega)]; exact m4
      · rw [k5 _ (by omega), hi_ni (by omega)]; exact m5
    · have eL : lineP c p = (none, p + 1) := by
        unfold lineP
        rw [if_pos h1, if_neg h2]
      rw [if_neg h2, e_bnd, nI_1]
      have s3 : Sh (wI ω 37 16 (nI (p + 1))) := sw_I ms2.1
      show wp (sI (wI ω 37 16 (nI (p + 1))) (some 44) (nI (3 * j + 1)) (0 + 1) _) Q
      rw [wp_sI, ix_nI (by omega), sl_44 s3, inb_nI (by omega)]
      refine ⟨⟨so_44 s3, by omega⟩, ?_⟩
      have s4 : Sh (wI (wI ω 37 16 (nI (p + 1))) 44 (3 * j + 1) (0 + 1)) := sw_I s3
      rw [wp_gR, sp_37_17 s4]
      refine ⟨so_37 s4, ?_⟩
      rw [n_2, nI_add, wp_sI, ix_nI (by omega), sl_44 s4, inb_nI (by omega)]
      refine ⟨⟨so_44 s4, by omega⟩, ?_⟩
      refine dead _ _ (sw_I s4) (by rw [hi_ne (by decide), hi_ne (by decide), hi_eq]; exact m1_ne (by omega)) ?_
      rw [← hQ, eL]
      refine ⟨((f2.putI rfl).putI rfl).putI rfl, fun i hi' => ?_, ?_, ?_⟩
      · rw [hi_ni (by omega), hi_ni (by omega), hi_ne (by decide)]; exact k2 i (by omega)
      · rw [hi_ne (by decide), hi_ne (by decide), hi_eq]
      · rw [hi_ne (by decide), hi_ne (by decide), hi_ni (by decide)]; exact ms2.2.2.1
  · have eL : lineP c p = (none, p) := by
      unfold lineP
      rw [if_neg h1]
    rw [if_neg h1, e_bnd]
    have s1 : Sh (wI σ 37 16 (nI p)) := sw_I hs
    have w1 : ¬ hi (wI σ 37 16 (nI p)) 37 16 = -1 := by rw [hi_eq]; exact m1_ne (by omega)
    show wp (sI (wI σ 37 16 (nI p)) (some 44) (nI (3 * j)) (0 + 1) _) Q
    rw [wp_sI, ix_nI (by omega), sl_44 s1, inb_nI (by omega)]
    refine ⟨⟨so_44 s1, by omega⟩, ?_⟩
    have s2 : Sh (wI (wI σ 37 16 (nI p)) 44 (3 * j) (0 + 1)) := sw_I s1
    have w2 : ¬ hi (wI (wI σ 37 16 (nI p)) 44 (3 * j) (0 + 1)) 37 16 = -1 := by rw [hi_ne (by decide)]; exact w1
    rw [wp_gR, sp_37_17 s2]
    refine ⟨so_37 s2, ?_⟩
    rw [wp_ob]
    refine ⟨so_37 s2, ?_⟩
    rw [m_oneOf' s2 w2, e_bnd, nI_1, wp_sI, ix_nI (by omega), sl_44 s2, inb_nI (by omega)]
    refine ⟨⟨so_44 s2, by omega⟩, ?_⟩
    have s3 : Sh (wI (wI (wI σ 37 16 (nI p)) 44 (3 * j) (0 + 1)) 44 (3 * j + 1) (0 + 1)) := sw_I s2
    rw [wp_gR, sp_37_17 s3]
    refine ⟨so_37 s3, ?_⟩
    rw [n_2, nI_add, wp_sI, ix_nI (by omega), sl_44 s3, inb_nI (by omega)]
    refine ⟨⟨so_44 s3, by omega⟩, ?_⟩
    refine dead _ _ (sw_I s3) (by rw [hi_ne (by decide), hi_ne (by decide)]; exact w2) ?_
    rw [← hQ, eL]
    refine ⟨(((Fr.refl.putI rfl).putI rfl).putI rfl).putI rfl, fun i hi' => ?_, ?_, ?_⟩
    · rw [hi_ni (by omega), hi_ni (by omega), hi_ni (by omega), hi_ne (by decide)]
    · rw [hi_ne (by decide), hi_ne (by decide), hi_ne (by decide), hi_eq]
    · rw [hi_ne (by decide), hi_ne (by decide), hi_ne (by decide), hi_ni (by decide)]; exact ms.2.2.1
end mlines
