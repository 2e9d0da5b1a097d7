/-! PURE 100: lines of riders read -/
def ltsP (c : Nat → Int32) : Nat → Nat → Nat → Nat × Nat
  | 0, b, p => (b, p)
  | k + 1, b, p => if (97 ≤ c p ∧ c p ≤ 104) ∧ b < 2 ^ ix (c p - 97) then ltsP c k (b ||| 2 ^ ix (c p - 97)) (p + 1) else (b, p)
abbrev LN : Type := Nat × Nat × Nat
def lineP (c : Nat → Int32) (p : Nat) : Option LN × Nat := if 49 ≤ c p ∧ c p ≤ 52 then (if 49 ≤ c (p + 1) ∧ c (p + 1) ≤ 57 then (some (ix (c p - 48), ix (c (p + 1) - 48), (ltsP c 2000 0 (p + 2)).1), (ltsP c 2000 0 (p + 2)).2) else (none, p + 1)) else (none, p)
def lnsP (c : Nat → Int32) (n0 : Nat) : Nat → Nat → Nat → (Nat → LN) → Bool × Nat × Nat × (Nat → LN)
  | 0, p, k, f => (false, p, k, f)
  | m + 1, p, k, f => if n0 + k = 8 then (false, p, k, f) else match lineP c p with
    | (none, q) => (false, q, k, f)
    | (some l, q) => if c q = 59 then lnsP c n0 m (q + 1) (k + 1) (up1 f k l) else (true, q, k + 1, up1 f k l)
def lnOK (l : LN) : Prop := l.1 ≤ 4 ∧ l.2.1 ≤ 9 ∧ l.2.2 < 256
section lines
variable {σ τ υ : Hp} {c : Nat → Int32} {e p : Nat}
theorem one_nI {a : Nat} : (1 : Int32) + nI a = nI (1 + a) := nI_add 1 a
theorem lt_pow_shr {b h : Nat} : b >>> h = 0 ↔ b < 2 ^ h := by
  rw [Nat.shiftRight_eq_div_pow]
  constructor
  · intro z
    exact (Nat.div_eq_zero_iff.mp z).resolve_left (by have := Nat.two_pow_pos h; omega)
  · intro z; exact Nat.div_eq_of_lt z
theorem lets_k {v : Int32} (hv : v = -1 ∨ ∃ k, k < 256 ∧ v = nI k) (h : 97 ≤ v ∧ v ≤ 104) : ∃ q, q < 8 ∧ v = nI (97 + q) ∧ v - 97 = nI q := by
  rcases hv with rfl | ⟨k, hk', rfl⟩
  · exact absurd h.1 (by decide)
  · have h1 := h.1
    have h2 := h.2
    rw [show (97 : Int32) = nI 97 from rfl, nI_le_l (by decide) (by omega)] at h1
    rw [show (104 : Int32) = nI 104 from rfl, nI_le_l (by omega) (by decide)] at h2
    exact ⟨k - 97, by omega, by rw [show 97 + (k - 97) = k by omega], by rw [show (97 : Int32) = nI 97 from rfl, nI_sub h1]⟩
theorem ltsP_good (he : Ends c e) (hv : ∀ p, c p = -1 ∨ ∃ k, k < 256 ∧ c p = nI k) : ∀ m b p, p ≤ e → b < 256 → p ≤ (ltsP c m b p).2 ∧ (ltsP c m b p).2 ≤ e ∧ (ltsP c m b p).1 < 256 := by
  intro m
  induction m with
  | zero => intro b p hp hb; exact ⟨Nat.le_refl _, hp, hb⟩
  | succ m ih =>
    intro b p hp hb
    unfold ltsP
    by_cases h : (97 ≤ c p ∧ c p ≤ 104) ∧ b < 2 ^ ix (c p - 97)
    · rw [if_pos h]
      obtain ⟨q, q8, e1, e2⟩ := lets_k (hv p) h.1
      have hlt := he.lt e1 (m1_ne (by omega))
      rw [e2, ix_nI (by omega)]
      have := ih (b ||| 2 ^ q) (p + 1) hlt (or_lt hb (pow_lt8 q8))
      exact ⟨by omega, this.2.1, this.2.2⟩
    · rw [if_neg h]; exact ⟨Nat.le_refl _, hp, hb⟩
theorem dig_k {v : Int32} {m : Nat} (hm : m ≤ 57) (hv : v = -1 ∨ ∃ k, k < 256 ∧ v = nI k) (h : 49 ≤ v ∧ v ≤ nI m) : ∃ q, 49 ≤ q ∧ q ≤ m ∧ v = nI q ∧ ix (v - 48) = q - 48 := by
  rcases hv with rfl | ⟨k, hk', rfl⟩
  · exact absurd h.1 (by decide)
  · have h1 := h.1
    have h2 := h.2
    rw [show (49 : Int32) = nI 49 from rfl, nI_le_l (by decide) (by omega)] at h1
    rw [nI_le_l (by omega) (by omega)] at h2
    exact ⟨k, h1, h2, rfl, by rw [show (48 : Int32) = nI 48 from rfl, nI_sub (by omega), ix_nI (by omega)]⟩
theorem lineP_good (he : Ends c e) (hv : ∀ p, c p = -1 ∨ ∃ k, k < 256 ∧ c p = nI k) (hp : p ≤ e) : p ≤ (lineP c p).2 ∧ (lineP c p).2 ≤ e ∧ ∀ l, (lineP c p).1 = some l → lnOK l ∧ p < (lineP c p).2 := by
  unfold lineP
  by_cases h1 : 49 ≤ c p ∧ c p ≤ 52
  · rw [if_pos h1]
    obtain ⟨q1, a1, a2, a3, a4⟩ := dig_k (m := 52) (by decide) (hv p) h1
    have hlt := he.lt a3 (m1_ne (by omega))
    by_cases h2 : 49 ≤ c (p + 1) ∧ c (p + 1) ≤ 57
    · rw [if_pos h2]
      obtain ⟨q2, b1, b2', b3, b4⟩ := dig_k (m := 57) (by decide) (hv (p + 1)) h2
      have hlt2 := he.lt b3 (m1_ne (by omega))
      obtain ⟨g1, g2, g3⟩ := ltsP_good he hv 2000 0 (p + 2) (by omega) (by decide)
      refine ⟨by dsimp only; omega, by dsimp only; omega, fun l hl => ?_⟩
      cases hl
      exact ⟨⟨by dsimp only; omega, by dsimp only; omega, g3⟩, by dsimp only; omega⟩
    · rw [if_neg h2]
      exact ⟨by dsimp only; omega, by dsimp only; omega, fun l hl => by cases hl⟩
  · rw [if_neg h1]
    exact ⟨Nat.le_refl _, hp, fun l hl => by cases hl⟩
/-- the class's letters -/
theorem c_lets {k0 : Int32 → Hp → Option (Int32 × Hp)} {Q : Int32 → Hp → Prop} : ∀ m b p σ, e - p < m → CS σ c e p → b < 256 → (∀ τ, Fr [] [11] [] σ τ → CS τ c e (ltsP c m b p).2 → wp (k0 (nI (ltsP c m b p).1) τ) Q) → wp (lp m (f_X1_readsRider_b65 (some 0) k0) (nI b) σ) Q := by
  intro m
  induction m with
  | zero => intro b p σ h; omega
  | succ m ih =>
    intro b p σ hm cs hb hk0
    have hp := cs.2.2.2.1
    show wp (f_X1_readsRider_b65 (some 0) k0 (lp m (f_X1_readsRider_b65 (some 0) k0)) (nI b) σ) Q
    generalize hag : lp m (f_X1_readsRider_b65 (some 0) k0) = ag
    have pl := (pl_nums cs.val).2.2
    unfold ltsP at hk0
    unfold f_X1_readsRider_b65
    rw [wp_ob]
    refine ⟨so_0 cs.1, ?_⟩
    rw [c_among' cs (by decide), e_bnd]
    by_cases h1 : 97 ≤ c p ∧ c p ≤ 104
    · obtain ⟨q, q8, e1, e2⟩ := lets_k cs.val h1
      have hlt := cs.2.1.lt e1 (m1_ne (by omega))
      rw [if_pos h1, e2] at pl
      rw [pl, if_neg (nI_pos (by omega)), wp_ob]
      refine ⟨so_0 cs.1, ?_⟩
      rw [c_among' cs (by decide), e_bnd, pl, shr_nI (by omega) (by omega), ite_eq0 (Nat.lt_of_le_of_lt (Nat.shiftRight_le b q) (by omega))]
      rw [e2, ix_nI (by omega)] at hk0
      by_cases h2 : b < 2 ^ q
      · rw [if_pos ⟨h1, h2⟩] at hk0
        rw [if_pos (lt_pow_shr.mpr h2), wp_ob]
        refine ⟨so_0 cs.1, ?_⟩
        rw [c_takesOf cs (by decide), e_bnd, pl, if_neg (nI_pos (by omega)), shl_1 (by omega), nI_or, ← hag]
        exact ih (b ||| 2 ^ q) (p + 1) _ (by omega) (cs.go hlt) (or_lt hb (pow_lt8 q8)) (fun τ f g => hk0 τ (atC_fr.trans f) g)
      · rw [if_neg (fun z => h2 z.2)] at hk0
        rw [if_neg (fun z => h2 (lt_pow_shr.mp z))]
        exact hk0 σ Fr.refl cs
    · rw [if_neg h1] at pl
      rw [if_neg (fun z => h1 z.1)] at hk0
      rw [pl, if_pos (by decide)]
      exact hk0 σ Fr.refl cs
/-- the class's line -/
theorem c_line {r : Nat} (cs : CS σ c e p) (e17 : hi σ 0 17 = nI r) (hr' : r < 8) : wp (f_X1_readsRider (some 0) σ) (fun x τ => Fr [11, 12, 13] [11, 17] [] σ τ ∧ CS τ c e (lineP c p).2 ∧ (∀ j, j ≠ r → hi τ 11 j = hi σ 11 j ∧ hi τ 12 j = hi σ 12 j ∧ hi τ 13 j = hi σ 13 j) ∧ (match (lineP c p).1 with
    | none => x = 0
    | some l => x = 1 ∧ hi τ 0 17 = nI (r + 1) ∧ hi τ 11 r = nI l.1 ∧ hi τ 12 r = nI l.2.1 ∧ hi τ 13 r = nI l.2.2)) := by
  have hs := cs.1
  have p1 := (pl_nums cs.val).1
  have keep : ∀ {ω : Hp} {q a i : Nat} {v : Int32}, CS ω c e q → (a = 11 ∨ a = 12 ∨ a = 13) → CS (wI ω a i v) c e q := fun {ω q a i v} h ha => by
    refine ⟨sw_I h.1, h.2.1, h.2.2.1, h.2.2.2.1, ?_, ?_, fun j hj => ?_⟩
    · rw [hi_ne (by omega)]; exact h.2.2.2.2.1
    · rw [hi_ne (by omega)]; exact h.2.2.2.2.2.1
    · rw [hi_ne (show 10 ≠ a by omega)]; exact h.2.2.2.2.2.2 j hj
  unfold f_X1_readsRider lineP
  rw [wp_gI, e17]
  refine ⟨so_0 hs, ?_⟩
  rw [show (8 : Int32) = nI 8 from rfl, ite_eq (by omega) (by decide), if_neg (by omega), wp_gR, sp_0_14 hs]
  refine ⟨so_0 hs, ?_⟩
  rw [wp_ob]
  refine ⟨so_0 hs, ?_⟩
  rw [c_takesOf cs (by decide), e_bnd]
  by_cases h1 : 49 ≤ c p ∧ c p ≤ 52
  · obtain ⟨q1, a1, a2, a3, a4⟩ := dig_k (m := 52) (by decide) cs.val h1
    have hlt := cs.2.1.lt a3 (m1_ne (by omega))
    have x1 : plI 0 (c p) = nI (q1 - 49) := by rw [p1, if_pos h1, a3, show (49 : Int32) = nI 49 from rfl, nI_sub a1]
    have cs1 := cs.go (q := p + 1) hlt
    rw [x1, if_neg (nI_pos (by omega)), if_pos h1, wp_sI, ix_nI (by omega), sl_11 cs1.1, inb_nI (by omega), one_nI, show 1 + (q1 - 49) = q1 - 48 by omega]
    refine ⟨⟨so_11 cs1.1, hr'⟩, ?_⟩
    have cs2 : CS (wI (atC σ (p + 1)) 11 r (nI (q1 - 48))) c e (p + 1) := keep cs1 (Or.inl rfl)
    have f2 : Fr [11, 12, 13] [11, 17] [] σ (wI (atC σ (p + 1)) 11 r (nI (q1 - 48))) := (atC_fr.mono rfl).putI rfl
    have k2 : ∀ j, j ≠ r → hi (wI (atC σ (p + 1)) 11 r (nI (q1 - 48))) 11 j = hi σ 11 j ∧ hi (wI (atC σ (p + 1)) 11 r (nI (q1 - 48))) 12 j = hi σ 12 j ∧ hi (wI (atC σ (p + 1)) 11 r (nI (q1 - 48))) 13 j = hi σ 13 j := fun j hj => ⟨by rw [hi_ni hj]; exact atC_fr.i rfl, by rw [hi_ne (by decide)]; exact atC_fr.i rfl, by rw [hi_ne (by decide)]; exact atC_fr.i rfl⟩
    have m2 : hi (wI (atC σ (p + 1)) 11 r (nI (q1 - 48))) 11 r = nI (q1 - 48) := hi_eq
    have n2 : hi (wI (atC σ (p + 1)) 11 r (nI (q1 - 48))) 0 17 = nI r := by rw [hi_ne (by decide)]; exact (atC_fr.i rfl).trans e17
    generalize wI (atC σ (p + 1)) 11 r (nI (q1 - 48)) = ω at *
    rw [wp_gR, sp_0_14 cs2.1]
    refine ⟨so_0 cs2.1, ?_⟩
    rw [wp_lI, ix_nI (by omega), sl_11 cs2.1, inb_nI (by omega), m2]
    refine ⟨⟨so_11 cs2.1, hr'⟩, ?_⟩
    rw [ite_eq0 (by omega), if_neg (by omega), wp_gR, sp_0_15 cs2.1]
    refine ⟨so_0 cs2.1, ?_⟩
    rw [wp_ob]
    refine ⟨so_0 cs2.1, ?_⟩
    rw [c_takesOf cs2 (by decide), e_bnd]
    have p2 := (pl_nums cs2.val).2.1
    by_cases h2 : 49 ≤ c (p + 1) ∧ c (p + 1) ≤ 57
    · obtain ⟨q2, b1, b2', b3, b4⟩ := dig_k (m := 57) (by decide) cs2.val h2
      have hlt2 := cs2.2.1.lt b3 (m1_ne (by omega))
      have x2 : plI 1 (c (p + 1)) = nI (q2 - 49) := by rw [p2, if_pos h2, b3, show (49 : Int32) = nI 49 from rfl, nI_sub b1]
      have cs3 := cs2.go (q := p + 2) (by omega)
      rw [x2, if_neg (nI_pos (by omega)), if_pos h2, wp_sI, ix_nI (by omega), sl_12 cs3.1, inb_nI (by omega), one_nI, show 1 + (q2 - 49) = q2 - 48 by omega]
      refine ⟨⟨so_12 cs3.1, hr'⟩, ?_⟩
      have cs4 : CS (wI (atC ω (p + 2)) 12 r (nI (q2 - 48))) c e (p + 2) := keep cs3 (Or.inr (Or.inl rfl))
      have f4 : Fr [11, 12, 13] [11, 17] [] σ (wI (atC ω (p + 2)) 12 r (nI (q2 - 48))) := (f2.trans (atC_fr.mono rfl)).putI rfl
      have k4 : ∀ j, j ≠ r → hi (wI (atC ω (p + 2)) 12 r (nI (q2 - 48))) 11 j = hi σ 11 j ∧ hi (wI (atC ω (p + 2)) 12 r (nI (q2 - 48))) 12 j = hi σ 12 j ∧ hi (wI (atC ω (p + 2)) 12 r (nI (q2 - 48))) 13 j = hi σ 13 j := fun j hj => ⟨by rw [hi_ne (by decide)]; exact (atC_fr.i rfl).trans (k2 j hj).1, by rw [hi_ni hj]; exact (atC_fr.i rfl).trans (k2 j hj).2.1, by rw [hi_ne (by decide)]; exact (atC_fr.i rfl).trans (k2 j hj).2.2⟩
      have m4 : hi (wI (atC ω (p + 2)) 12 r (nI (q2 - 48))) 12 r = nI (q2 - 48) := hi_eq
      have m4' : hi (wI (atC ω (p + 2)) 12 r (nI (q2 - 48))) 11 r = nI (q1 - 48) := by rw [hi_ne (by decide)]; exact (atC_fr.i rfl).trans m2
      have n4 : hi (wI (atC ω (p + 2)) 12 r (nI (q2 - 48))) 0 17 = nI r := by rw [hi_ne (by decide)]; exact (atC_fr.i rfl).trans n2
      generalize wI (atC ω (p + 2)) 12 r (nI (q2 - 48)) = ψ at *
      rw [wp_gR, sp_0_15 cs4.1]
      refine ⟨so_0 cs4.1, ?_⟩
      rw [wp_lI, ix_nI (by omega), sl_12 cs4.1, inb_nI (by omega), m4]
      refine ⟨⟨so_12 cs4.1, hr'⟩, ?_⟩
      rw [ite_eq0 (by omega), if_neg (by omega), show (0 : Int32) = nI 0 from rfl]
      refine c_lets (c := c) (e := e) 2000 0 (p + 2) ψ (by have := cs.2.2.1; omega) cs4 (by decide) (fun τ f5 cs5 => ?_)
      have n5 : hi τ 0 17 = nI r := (f5.i rfl).trans n4
      rw [wp_gR, sp_0_16 cs5.1]
      refine ⟨so_0 cs5.1, ?_⟩
      rw [wp_sI, ix_nI (by omega), sl_13 cs5.1, inb_nI (by omega)]
      refine ⟨⟨so_13 cs5.1, hr'⟩, ?_⟩
      have cs6 : CS (wI τ 13 r (nI (ltsP c 2000 0 (p + 2)).1)) c e (ltsP c 2000 0 (p + 2)).2 := keep cs5 (Or.inr (Or.inr rfl))
      rw [wp_gI, hi_ne (show 0 ≠ 13 by decide), n5]
      refine ⟨so_0 cs6.1, ?_⟩
      rw [nI_1, wp_pI]
      refine ⟨so_0 cs6.1, rfl, ?_⟩
      rw [wp_r1]
      dsimp only
      rw [a4, b4]
      refine ⟨(((f4.trans (f5.mono rfl)).putI rfl).putI rfl), ⟨sw_I cs6.1, cs6.2.1, cs6.2.2.1, cs6.2.2.2.1, ?_, ?_, fun j hj => ?_⟩, fun j hj => ⟨?_, ?_, ?_⟩, rfl, hi_eq, ?_, ?_, ?_⟩
      · rw [hi_ni (by decide)]; exact cs6.2.2.2.2.1
      · rw [hi_ni (by decide)]; exact cs6.2.2.2.2.2.1
      · rw [hi_ne (show 10 ≠ 0 by decide)]; exact cs6.2.2.2.2.2.2 j hj
      · rw [hi_ne (show 11 ≠ 0 by decide), hi_ne (show 11 ≠ 13 by decide)]; exact (f5.i rfl).trans (k4 j hj).1
      · rw [hi_ne (show 12 ≠ 0 by decide), hi_ne (show 12 ≠ 13 by decide)]; exact (f5.i rfl).trans (k4 j hj).2.1
      · rw [hi_ne (show 13 ≠ 0 by decide), hi_ni hj]; exact (f5.i rfl).trans (k4 j hj).2.2
      · rw [hi_ne (show 11 ≠ 0 by decide), hi_ne (show 11 ≠ 13 by decide)]; exact (f5.i rfl).trans m4'
      · rw [hi_ne (show 12 ≠ 0 by decide), hi_ne (show 12 ≠ 13 by decide)]; exact (f5.i rfl).trans m4
      · rw [hi_ne (show 13 ≠ 0 by decide), hi_eq]
    · have x2 : plI 1 (c (p + 1)) = -1 := by rw [p2, if_neg h2]
      rw [x2, if_pos (by decide), if_neg h2, wp_sI, ix_nI (by omega), sl_12 cs2.1, inb_nI (by omega), show (1 : Int32) + -1 = 0 by decide]
      refine ⟨⟨so_12 cs2.1, hr'⟩, ?_⟩
      have cs4 : CS (wI ω 12 r 0) c e (p + 1) := keep cs2 (Or.inr (Or.inl rfl))
      rw [wp_gR, sp_0_15 cs4.1]
      refine ⟨so_0 cs4.1, ?_⟩
      rw [wp_lI, ix_nI (by omega), sl_12 cs4.1, inb_nI (by omega), hi_eq]
      refine ⟨⟨so_12 cs4.1, hr'⟩, ?_⟩
      rw [if_pos rfl, wp_r0]
      exact ⟨f2.putI rfl, cs4, fun j hj => ⟨by rw [hi_ne (by decide)]; exact (k2 j hj).1, by rw [hi_ni hj]; exact (k2 j hj).2.1, by rw [hi_ne (by decide)]; exact (k2 j hj).2.2⟩, rfl⟩
  · have x1 : plI 0 (c p) = -1 := by rw [p1, if_neg h1]
    rw [x1, if_pos (by decide), if_neg h1, wp_sI, ix_nI (by omega), sl_11 hs, inb_nI (by omega), show (1 : Int32) + -1 = 0 by decide]
    refine ⟨⟨so_11 hs, hr'⟩, ?_⟩
    have cs2 : CS (wI σ 11 r 0) c e p := keep cs (Or.inl rfl)
    rw [wp_gR, sp_0_14 cs2.1]
    refine ⟨so_0 cs2.1, ?_⟩
    rw [wp_lI, ix_nI (by omega), sl_11 cs2.1, inb_nI (by omega), hi_eq]
    refine ⟨⟨so_11 cs2.1, hr'⟩, ?_⟩
    rw [if_pos rfl, wp_r0]
    exact ⟨Fr.refl.putI rfl, cs2, fun j hj => ⟨by rw [hi_ni hj], by rw [hi_ne (by decide)], by rw [hi_ne (by decide)]⟩, rfl⟩
end lines
