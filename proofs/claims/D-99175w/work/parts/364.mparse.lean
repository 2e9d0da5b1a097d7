/-! PURE 10: the reference goes through a rule -/
theorem wI_wI {σ : Hp} {a i : Nat} {x y : Int32} : wI (wI σ a i x) a i y = wI σ a i y := by
  unfold wI
  dsimp only
  congr 4
  funext b j
  unfold up2
  by_cases h : b = a ∧ j = i <;> simp [h]
theorem wI_id {σ : Hp} {a i : Nat} {x : Int32} (h : hi σ a i = x) : wI σ a i x = σ := by
  obtain ⟨s1, s2, s3, s4, s5, s6⟩ := σ
  unfold wI
  dsimp only
  congr 4
  funext b j
  unfold up2
  by_cases hb : b = a ∧ j = i
  · rw [if_pos hb, hb.1, hb.2]; exact h.symm
  · rw [if_neg hb]
def atM (σ : Hp) (q : Nat) : Hp := wI σ 37 15 (nI q)
def endM (σ : Hp) (R : PR) : Hp := match R.1 with
  | none => wI (atM σ R.2) 37 16 (nI R.2)
  | some _ => atM σ R.2
def vvM (σ : Hp) : Nat → Int32 := fun k => if hi σ 37 21 = 0 then 0 else hi σ 47 (if k < 6 then k else 6)
/-- what a reader of the reference's does -/
def MC (g : Hp → Option (Int32 × Hp)) (th : Nat → PR) (c : Nat → Int32) (e p0 : Nat) : Prop := ∀ σ p, MS σ c e p → p0 ≤ p → ∃ x, g σ = some (x, endM σ (th p)) ∧ ∀ E, (th p).1 = some E → x = E (vvM σ)
section mparse
variable {σ τ : Hp} {c : Nat → Int32} {e p p0 : Nat} {th : Nat → PR}
theorem atM_fr {q : Nat} : Fr [] [] [15] σ (atM σ q) := Fr.refl.putI rfl
theorem endM_fr {R : PR} : Fr [] [] [15, 16] σ (endM σ R) := by
  unfold endM
  split
  · exact (Fr.refl.putI rfl).putI rfl
  · exact Fr.refl.putI rfl
theorem atM_at {q q' : Nat} : atM (atM σ q) q' = atM σ q' := wI_wI
theorem endM_at {q : Nat} {R : PR} : endM (atM σ q) R = endM σ R := by
  unfold endM
  rw [atM_at]
theorem vvM_at {q : Nat} : vvM (atM σ q) = vvM σ := rfl
theorem MS.go (h : MS σ c e p) {q : Nat} (hq : q ≤ e) : MS (atM σ q) c e q := ⟨atM_fr.sh h.1 rfl, h.2.1.fr atM_fr rfl, rfl, h.2.2.2.1, hq⟩
theorem atM_id (h : MS σ c e p) : atM σ p = σ := wI_id h.2.2.1
theorem endM_not (h : Sh σ) {q : Nat} (hq : q ≤ 80) : ¬ hi (endM σ (none, q)) 37 16 = -1 := m1_ne (by show q < 2 ^ 31; omega)
theorem endM_sh (h : Sh σ) {R : PR} : Sh (endM σ R) := endM_fr.sh h rfl
theorem MS.e80 (h : MS σ c e p) : e ≤ 80 := by
  obtain ⟨_, ⟨_, b, len, top, _, _, _, _, _, _, _, _⟩, _, _, _⟩ := h
  omega
theorem m_number_go (v1 : Int32) {k : Nat} (hv : v1 = nI k) (hk' : k ≤ 10) : ∀ m j v σ p, k - j < m → 1 ≤ j → j ≤ k → MS σ c e p → lp m (f_X3_number_b11 (some 37) v1 (fun a σ => some (a, σ))) (v, nI j) σ = some ((pNum c (k - j) v p).1, atM σ (pNum c (k - j) v p).2) := by
  intro m
  induction m with
  | zero => intro j v σ p h; omega
  | succ m ih =>
    intro j v σ p hm h1 hj h
    show f_X3_number_b11 (some 37) v1 (fun a σ => some (a, σ)) (lp m (f_X3_number_b11 (some 37) v1 (fun a σ => some (a, σ)))) (v, nI j) σ = _
    generalize hag : lp m (f_X3_number_b11 (some 37) v1 (fun a σ => some (a, σ))) = ag
    unfold f_X3_number_b11
    dsimp only
    rw [hv]
    by_cases hjk : k ≤ j
    · rw [if_pos (nI_le hjk (by omega)), show k - j = 0 by omega]
      show some (v, σ) = some (v, atM σ p)
      rw [atM_id h]
    · rw [if_neg (nI_ge (by omega) (by omega)), e_ob (so_37 h.1), m_fine h.1, e_bnd, b2_ite, if_pos h.2.2.2.1, e_ob (so_37 h.1), m_here h, e_bnd, m_in, e_bnd, b2_ite]
      obtain ⟨d, hd⟩ : ∃ d, k - j = d + 1 := ⟨k - j - 1, by omega⟩
      by_cases hdg : isDig (c p)
      · have hlt := h.ends.lt rfl (dig_ne hdg)
        rw [if_pos hdg, e_ob (so_37 h.1), m_oneOf h (by decide) (by decide), if_pos (show (48 : Int32) ≤ c p ∧ c p ≤ 48 + 10 - 1 from hdg), e_bnd, nI_1]
        rw [← hag]
        show lp m (f_X3_number_b11 (some 37) v1 (fun a σ => some (a, σ))) (10 * v + (c p - 48), nI (j + 1)) (atM σ (p + 1)) = _
        rw [ih (j + 1) _ _ (p + 1) (by omega) (by omega) (by omega) (h.go hlt), atM_at, hd, show k - (j + 1) = d by omega, show pNum c (d + 1) v p = pNum c d (10 * v + (c p - 48)) (p + 1) from if_pos hdg]
      · rw [if_neg hdg, hd, show pNum c (d + 1) v p = (v, p) from if_neg hdg]
        show some (v, σ) = some (v, atM σ p)
        rw [atM_id h]
theorem i32_z (x : Int32) : 10 * 0 + (x - 48) = x - 48 := by
  rw [show (10 : Int32) * 0 = 0 by decide, Int32.zero_add]
theorem m_number (h : MS σ c e p) (hd : isDig (c p)) : f_X3_number (some 37) 3 σ = some ((pNum c 3 0 p).1, atM σ (pNum c 3 0 p).2) := by
  have hlt := h.ends.lt rfl (dig_ne hd)
  unfold f_X3_number
  rw [e_ob (so_37 h.1), m_oneOf h (by decide) (by decide), if_pos (show (48 : Int32) ≤ c p ∧ c p ≤ 48 + 10 - 1 from hd), e_bnd]
  have := m_number_go (c := c) (e := e) 3 (k := 3) rfl (by decide) 2000 1 (c p - 48) (atM σ (p + 1)) (p + 1) (by decide) (by decide) (by decide) (h.go hlt)
  rw [show pNum c 3 0 p = pNum c 2 (c p - 48) (p + 1) from by
    show (if isDig (c p) then pNum c 2 (10 * 0 + (c p - 48)) (p + 1) else _) = _
    rw [if_pos hd, i32_z]]
  rw [atM_at] at this
  exact this
theorem end_none {q : Nat} : endM σ (none, q) = wI (atM σ q) 37 16 (nI q) := rfl
theorem end_some {q : Nat} {E : RE} : endM σ (some E, q) = atM σ q := rfl
theorem m_prodL (v1 : Int32) {rc0 rc1 rc2 rc3 : (Option Nat) → Int32 → Hp → Option (Int32 × Hp)} (hg : Gd th e p0) (hm : MC (rc3 (some 37) v1) th c e p0) : ∀ k m f x σ p, k < m → e < k + p → MS σ c e p → p0 ≤ p → x = f (vvM σ) → ∃ y, lp m (f_X3_product_b6 rc0 rc1 rc2 rc3 (some 37) v1 (fun a σ => some (a, σ))) x σ = some (y, endM σ (chn c 42 47 th k f p)) ∧ ∀ E, (chn c 42 47 th k f p).1 = some E → y = E (vvM σ) := by
  intro k
  induction k with
  | zero => intro m f x σ p _ h1 h; have := h.2.2.2.2; omega
  | succ k ih =>
    intro m f x σ p hkm hek h h0 hx
    obtain ⟨m, rfl⟩ : ∃ m', m = m' + 1 := ⟨m - 1, by omega⟩
    show ∃ y, f_X3_product_b6 rc0 rc1 rc2 rc3 (some 37) v1 (fun a σ => some (a, σ)) (lp m (f_X3_product_b6 rc0 rc1 rc2 rc3 (some 37) v1 (fun a σ => some (a, σ)))) x σ = _ ∧ _
    have hb : ∀ ag, f_X3_product_b6 rc0 rc1 rc2 rc3 (some 37) v1 (fun a σ => some (a, σ)) ag x σ = if c p = 42 ∨ c p = 47 then bnd (rc3 (some 37) v1 (atM σ (p + 1))) (fun x10 σ => ag (act (c p) x x10) σ) else some (x, σ) := by
      intro ag
      unfold f_X3_product_b6 jn
      dsimp only
      rw [e_ob (so_37 h.1), m_fine h.1, e_bnd, b2_ite, if_pos h.2.2.2.1, e_ob (so_37 h.1), m_here h, e_bnd]
      by_cases h1 : c p = 42
      · rw [if_pos h1, if_pos (Or.inl h1), e_ob (so_37 h.1), m_here h, e_bnd, if_pos h1, e_gI (so_37 h.1), e_pI (so_37 h.1), h.2.2.1, nI_1, e_ob (so_37 (σ := wI σ 37 15 (nI (p + 1))) h.1)]
        rw [h1]; rfl
      · rw [if_neg h1, e_ob (so_37 h.1), m_here h, e_bnd]
        by_cases h2 : c p = 47
        · rw [if_pos h2, if_pos (Or.inr h2), e_ob (so_37 h.1), m_here h, e_bnd, if_neg h1, e_gI (so_37 h.1), e_pI (so_37 h.1), h.2.2.1, nI_1, e_ob (so_37 (σ := wI σ 37 15 (nI (p + 1))) h.1)]
          rw [h2]
          show bnd (rc3 (some 37) v1 (atM σ (p + 1))) _ = _
          congr 1
          funext x10 σ
          rw [if_pos rfl]
          by_cases hz : x10 = 0
          · rw [if_pos hz, hz]; rfl
          · rw [if_neg hz, idv, if_neg hz]
            show ag (x / x10) σ = ag (if x10 = 0 then 0 else x / x10) σ
            rw [if_neg hz]
        · rw [if_neg h2, if_neg (by rintro (z | z); exact h1 z; exact h2 z)]
    rw [hb]
    unfold chn
    by_cases hc : c p = 42 ∨ c p = 47
    · rw [if_pos hc, if_pos hc]
      have hlt : p < e := by
        rcases hc with hc | hc <;> exact h.ends.lt hc (by decide)
      have hMS := h.go (q := p + 1) hlt
      obtain ⟨y, hy, hE⟩ := hm (atM σ (p + 1)) (p + 1) hMS (by omega)
      rw [hy, e_bnd, endM_at]
      have g := hg (p + 1) (by omega) hlt
      rcases hth : th (p + 1) with ⟨o, q⟩
      rw [hth] at g hE
      cases o with
      | none =>
        dsimp only at g ⊢
        refine ⟨act (c p) x y, ?_, fun E z => by cases z⟩
        obtain ⟨m, rfl⟩ : ∃ m', m = m' + 1 := ⟨m - 1, by omega⟩
        show f_X3_product_b6 rc0 rc1 rc2 rc3 (some 37) v1 (fun a σ => some (a, σ)) (lp m _) _ _ = _
        have hs' : Sh (endM σ (none, q)) := endM_sh h.1
        unfold f_X3_product_b6
        rw [e_ob (so_37 hs'), m_fine hs', e_bnd, b2_ite, if_neg (endM_not h.1 (by have := h.e80; omega))]
      | some f' =>
        dsimp only at g ⊢
        obtain ⟨y', hy', hE'⟩ := ih m (opE (c p) f f') (act (c p) x y) (atM σ q) q (by omega) (by omega) (h.go g.2.1) (by omega) (by
          rw [hx, hE f' rfl]; rfl)
        refine ⟨y', ?_, hE'⟩
        rw [end_some, hy', endM_at]
    · rw [if_neg hc, if_neg hc]
      refine ⟨x, by rw [end_some, atM_id h], fun E z => ?_⟩
      cases z; exact hx
theorem m_sumL (v1 : Int32) {rc0 rc1 rc2 rc3 : (Option Nat) → Int32 → Hp → Option (Int32 × Hp)} (hg : Gd th e p0) (hm : MC (rc2 (some 37) v1) th c e p0) : ∀ k m f x σ p, k < m → e < k + p → MS σ c e p → p0 ≤ p → x = f (vvM σ) → ∃ y, lp m (f_X3_sum_b6 rc0 rc1 rc2 rc3 (some 37) v1 (fun a σ => some (a, σ))) x σ = some (y, endM σ (chn c 43 45 th k f p)) ∧ ∀ E, (chn c 43 45 th k f p).1 = some E → y = E (vvM σ) := by
  intro k
  induction k with
  | zero => intro m f x σ p _ h1 h; have := h.2.2.2.2; omega
  | succ k ih =>
    intro m f x σ p hkm hek h h0 hx
    obtain ⟨m, rfl⟩ : ∃ m', m = m' + 1 := ⟨m - 1, by omega⟩
    show ∃ y, f_X3_sum_b6 rc0 rc1 rc2 rc3 (some 37) v1 (fun a σ => some (a, σ)) (lp m (f_X3_sum_b6 rc0 rc1 rc2 rc3 (some 37) v1 (fun a σ => some (a, σ)))) x σ = _ ∧ _
    have hb : ∀ ag, f_X3_sum_b6 rc0 rc1 rc2 rc3 (some 37) v1 (fun a σ => some (a, σ)) ag x σ = if c p = 43 ∨ c p = 45 then bnd (rc2 (some 37) v1 (atM σ (p + 1))) (fun x10 σ => ag (act (c p) x x10) σ) else some (x, σ) := by
      intro ag
      unfold f_X3_sum_b6 jn
      dsimp only
      rw [e_ob (so_37 h.1), m_fine h.1, e_bnd, b2_ite, if_pos h.2.2.2.1, e_ob (so_37 h.1), m_here h, e_bnd]
      by_cases h1 : c p = 43
      · rw [if_pos h1, if_pos (Or.inl h1), e_ob (so_37 h.1), m_here h, e_bnd, if_pos h1, e_gI (so_37 h.1), e_pI (so_37 h.1), h.2.2.1, nI_1, e_ob (so_37 (σ := wI σ 37 15 (nI (p + 1))) h.1)]
        rw [h1]; rfl
      · rw [if_neg h1, e_ob (so_37 h.1), m_here h, e_bnd]
        by_cases h2 : c p = 45
        · rw [if_pos h2, if_pos (Or.inr h2), e_ob (so_37 h.1), m_here h, e_bnd, if_neg h1, e_gI (so_37 h.1), e_pI (so_37 h.1), h.2.2.1, nI_1, e_ob (so_37 (σ := wI σ 37 15 (nI (p + 1))) h.1)]
          rw [h2]; rfl
        · rw [if_neg h2, if_neg (by rintro (z | z); exact h1 z; exact h2 z)]
    rw [hb]
    unfold chn
    by_cases hc : c p = 43 ∨ c p = 45
    · rw [if_pos hc, if_pos hc]
      have hlt : p < e := by
        rcases hc with hc | hc <;> exact h.ends.lt hc (by decide)
      have hMS := h.go (q := p + 1) hlt
      obtain ⟨y, hy, hE⟩ := hm (atM σ (p + 1)) (p + 1) hMS (by omega)
      rw [hy, e_bnd, endM_at]
      have g := hg (p + 1) (by omega) hlt
      rcases hth : th (p + 1) with ⟨o, q⟩
      rw [hth] at g hE
      cases o with
      | none =>
        dsimp only at g ⊢
        refine ⟨act (c p) x y, ?_, fun E z => by cases z⟩
        obtain ⟨m, rfl⟩ : ∃ m', m = m' + 1 := ⟨m - 1, by omega⟩
        show f_X3_sum_b6 rc0 rc1 rc2 rc3 (some 37) v1 (fun a σ => some (a, σ)) (lp m _) _ _ = _
        have hs' : Sh (endM σ (none, q)) := endM_sh h.1
        unfold f_X3_sum_b6
        rw [e_ob (so_37 hs'), m_fine hs', e_bnd, b2_ite, if_neg (endM_not h.1 (by have := h.e80; omega))]
      | some f' =>
        dsimp only at g ⊢
        obtain ⟨y', hy', hE'⟩ := ih m (opE (c p) f f') (act (c p) x y) (atM σ q) q (by omega) (by omega) (h.go g.2.1) (by omega) (by
          rw [hx, hE f' rfl]; rfl)
        refine ⟨y', ?_, hE'⟩
        rw [end_some, hy', endM_at]
    · rw [if_neg hc, if_neg hc]
      refine ⟨x, by rw [end_some, atM_id h], fun E z => ?_⟩
      cases z; exact hx
end mparse
