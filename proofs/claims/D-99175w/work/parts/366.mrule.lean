/-! PURE 11: the reference's rule, gone through -/
section mrule
variable {σ τ : Hp} {c : Nat → Int32} {e p p0 : Nat} {th : Nat → PR} {rc0 rc1 rc2 rc3 : (Option Nat) → Int32 → Hp → Option (Int32 × Hp)}
theorem m_product {v1 : Int32} (hg : Gd th e p0) (hm : MC (rc3 (some 37) v1) th c e p0) : MC (fb_X3_product rc0 rc1 rc2 rc3 (some 37) v1) (lev c 42 47 th) c e p0 := by
  intro σ p h h0
  obtain ⟨x, hx, hE⟩ := hm σ p h h0
  unfold fb_X3_product lev
  rw [e_ob (so_37 h.1), hx, e_bnd]
  have g := hg p h0 h.2.2.2.2
  have h80 := h.e80
  rcases hth : th p with ⟨o, q⟩
  rw [hth] at g hE
  cases o with
  | none =>
    dsimp only at g ⊢
    refine ⟨x, ?_, fun E z => by cases z⟩
    show f_X3_product_b6 rc0 rc1 rc2 rc3 (some 37) v1 (fun a σ => some (a, σ)) (lp 1999 _) _ _ = _
    have hs' : Sh (endM σ (none, q)) := endM_sh h.1
    unfold f_X3_product_b6
    rw [e_ob (so_37 hs'), m_fine hs', e_bnd, b2_ite, if_neg (endM_not h.1 (by omega))]
  | some f =>
    dsimp only at g ⊢
    obtain ⟨y, hy, hE'⟩ := m_prodL (rc0 := rc0) (rc1 := rc1) (rc2 := rc2) v1 hg hm 100 2000 f x (atM σ q) q (by decide) (by omega) (h.go g.2.1) (by omega) (hE f rfl)
    exact ⟨y, by rw [end_some, hy, endM_at], hE'⟩
theorem m_sum {v1 : Int32} (hg : Gd th e p0) (hm : MC (rc2 (some 37) v1) th c e p0) : MC (fb_X3_sum rc0 rc1 rc2 rc3 (some 37) v1) (lev c 43 45 th) c e p0 := by
  intro σ p h h0
  obtain ⟨x, hx, hE⟩ := hm σ p h h0
  unfold fb_X3_sum lev
  rw [e_ob (so_37 h.1), hx, e_bnd]
  have g := hg p h0 h.2.2.2.2
  have h80 := h.e80
  rcases hth : th p with ⟨o, q⟩
  rw [hth] at g hE
  cases o with
  | none =>
    dsimp only at g ⊢
    refine ⟨x, ?_, fun E z => by cases z⟩
    show f_X3_sum_b6 rc0 rc1 rc2 rc3 (some 37) v1 (fun a σ => some (a, σ)) (lp 1999 _) _ _ = _
    have hs' : Sh (endM σ (none, q)) := endM_sh h.1
    unfold f_X3_sum_b6
    rw [e_ob (so_37 hs'), m_fine hs', e_bnd, b2_ite, if_neg (endM_not h.1 (by omega))]
  | some f =>
    dsimp only at g ⊢
    obtain ⟨y, hy, hE'⟩ := m_sumL (rc0 := rc0) (rc1 := rc1) (rc3 := rc3) v1 hg hm 100 2000 f x (atM σ q) q (by decide) (by omega) (h.go g.2.1) (by omega) (hE f rfl)
    exact ⟨y, by rw [end_some, hy, endM_at], hE'⟩
theorem m_held {v1 : Int32} (he : Ends c e) (hg : Gd th e p0) (hm : MC (rc1 (some 37) v1) (lev c 43 45 (lev c 42 47 th)) c e p0) : MC (fb_X3_heldBy rc0 rc1 rc2 rc3 (some 37) v1) (held c th) c e p0 := by
  intro σ p h h0
  obtain ⟨x, hx, hE⟩ := hm σ p h h0
  have h80 := h.e80
  unfold fb_X3_heldBy held
  rw [e_ob (so_37 h.1), hx, e_bnd]
  have hgs := sum_good he hg
  have g := hgs p h0 h.2.2.2.2
  rcases hth : lev c 43 45 (lev c 42 47 th) p with ⟨o, q⟩
  rw [hth] at g hE
  cases o with
  | none =>
    dsimp only at g ⊢
    have hs' : Sh (endM σ (none, q)) := endM_sh h.1
    have hw := endM_not h.1 (q := q) (by omega)
    rw [e_ob (so_37 hs'), m_passes' hs' hw, e_bnd, if_pos rfl, e_ob (so_37 hs'), m_passes' hs' hw, e_bnd, if_pos rfl, e_ob (so_37 hs'), m_passes' hs' hw, e_bnd, if_pos rfl]
    exact ⟨x, rfl, fun E z => by cases z⟩
  | some f =>
    dsimp only at g ⊢
    rw [end_some]
    have hq := h.go g.2.1
    have hx' : x = f (vvM σ) := hE f rfl
    have next : ∀ s, c q = s → s ≠ -1 → ∃ y, rc1 (some 37) v1 (atM σ (q + 1)) = some (y, endM σ (lev c 43 45 (lev c 42 47 th) (q + 1))) ∧ ∀ E, (lev c 43 45 (lev c 42 47 th) (q + 1)).1 = some E → y = E (vvM σ) := by
      intro s hs hne
      have hlt := he.lt hs hne
      obtain ⟨y, hy, hE'⟩ := hm (atM σ (q + 1)) (q + 1) (h.go hlt) (by omega)
      exact ⟨y, by rw [hy, endM_at], hE'⟩
    rw [e_ob (so_37 hq.1), m_passes hq (by decide), e_bnd, b2_ite]
    by_cases h1 : c q = 60
    · rw [if_pos h1, if_pos h1, if_pos (Or.inl h1)]
      obtain ⟨y, hy, hE'⟩ := next 60 h1 (by decide)
      rw [show wI (atM σ q) 37 15 (nI (q + 1)) = atM σ (q + 1) from atM_at, e_ob (so_37 (h.go (he.lt h1 (by decide))).1), hy, e_bnd]
      rcases hth' : lev c 43 45 (lev c 42 47 th) (q + 1) with ⟨o', q'⟩
      rw [hth'] at hE'
      refine ⟨act 60 x y, by rw [show act 60 x y = if y ≤ x then 0 else 1 from rfl]; cases o' <;> (split <;> rfl), fun E z => ?_⟩
      cases o' with
      | none => cases z
      | some f' => cases z; rw [hx', hE' f' rfl, h1]; rfl
    · rw [if_neg h1, if_neg h1, e_ob (so_37 hq.1), m_passes hq (by decide), e_bnd, b2_ite]
      by_cases h2 : c q = 62
      · rw [if_pos h2, if_pos h2, if_pos (Or.inr (Or.inl h2))]
        obtain ⟨y, hy, hE'⟩ := next 62 h2 (by decide)
        rw [show wI (atM σ q) 37 15 (nI (q + 1)) = atM σ (q + 1) from atM_at, e_ob (so_37 (h.go (he.lt h2 (by decide))).1), hy, e_bnd]
        rcases hth' : lev c 43 45 (lev c 42 47 th) (q + 1) with ⟨o', q'⟩
        rw [hth'] at hE'
        refine ⟨act 62 x y, by rw [show act 62 x y = if x ≤ y then 0 else 1 from rfl]; cases o' <;> (split <;> rfl), fun E z => ?_⟩
        cases o' with
        | none => cases z
        | some f' => cases z; rw [hx', hE' f' rfl, h2]; rfl
      · rw [if_neg h2, if_neg h2, e_ob (so_37 hq.1), m_passes hq (by decide), e_bnd, b2_ite]
        by_cases h3 : c q = 61
        · rw [if_pos h3, if_pos h3, if_pos (Or.inr (Or.inr h3))]
          obtain ⟨y, hy, hE'⟩ := next 61 h3 (by decide)
          rw [show wI (atM σ q) 37 15 (nI (q + 1)) = atM σ (q + 1) from atM_at, e_ob (so_37 (h.go (he.lt h3 (by decide))).1), hy, e_bnd]
          rcases hth' : lev c 43 45 (lev c 42 47 th) (q + 1) with ⟨o', q'⟩
          rw [hth'] at hE'
          refine ⟨act 61 x y, by rw [show act 61 x y = if x = y then 1 else 0 from rfl]; cases o' <;> (split <;> rfl), fun E z => ?_⟩
          cases o' with
          | none => cases z
          | some f' => cases z; rw [hx', hE' f' rfl, h3]; rfl
        · rw [if_neg h3, if_neg h3, if_neg (by rintro (z | z | z); exact h1 z; exact h2 z; exact h3 z)]
          exact ⟨x, rfl, fun E z => by cases z; exact hx'⟩
theorem m_thing {n deep : Nat} (hd4 : deep ≤ 4) (hg : Gd (thing c n (deep + 1)) e (e + 1 - n)) (hm3 : MC (rc3 (some 37) (nI deep)) (thing c n deep) c e (e + 1 - n)) (hm0 : deep < 4 → MC (rc0 (some 37) (nI (deep + 1))) (held c (thing c n (deep + 1))) c e (e + 1 - n)) (hgd : Gd (thing c n deep) e (e + 1 - n)) : MC (fb_X3_thing rc0 rc1 rc2 rc3 (some 37) (nI deep)) (thing c (n + 1) deep) c e (e + 1 - (n + 1)) := by
  intro σ p h h0
  have h80 := h.e80
  have he := h.ends
  unfold fb_X3_thing thing
  rw [e_ob (so_37 h.1), m_passes h (by decide), e_bnd, b2_ite]
  by_cases h1 : c p = 45
  · rw [if_pos h1, if_pos h1, if_pos h1]
    have hlt := he.lt h1 (by decide)
    obtain ⟨x, hx, hE⟩ := hm3 (atM σ (p + 1)) (p + 1) (h.go hlt) (by omega)
    rw [show wI σ 37 15 (nI (p + 1)) = atM σ (p + 1) from rfl, e_ob (so_37 (h.go hlt).1), hx, e_bnd, endM_at]
    rcases hth : thing c n deep (p + 1) with ⟨o, q⟩
    rw [hth] at hE
    refine ⟨-x, by cases o <;> rfl, fun E z => ?_⟩
    cases o with
    | none => cases z
    | some f => cases z; rw [hE f rfl]; rfl
  · rw [if_neg h1, if_neg h1, if_neg h1, e_ob (so_37 h.1), m_fine h.1, e_bnd, b2_ite, if_pos h.2.2.2.1, e_ob (so_37 h.1), m_here h, e_bnd]
    unfold jn
    dsimp only
    have rest : ¬ (c p = 40 ∧ deep < 4) → ∃ x, (bnd (f_X3_in (c p) 48 57 σ) fun x6 σ =>
          if x6 = 0 then
            bnd (f_X3_letterOf (c p) σ) fun x7 σ =>
            if x7 = (-1) then
              gI 2 15 σ (some 37) fun x13 =>
              ob 2 σ (some 37) fun _ => bnd (f_X3_fault (some 37) x13 σ) fun _ σ =>
              some (0, σ)
            else
              gI 2 15 σ (some 37) fun x8 =>
              pI 0 2 15 σ (some 37) (x8 + 1) fun σ =>
              gI 2 21 σ (some 37) fun x9 =>
              if x9 = 0 then
                some (0, σ)
              else
                gR 2 22 σ (some 37) fun y10 =>
                bnd (f_X3_letterOf (c p) σ) fun x11 σ =>
                lI 100 σ y10 x11 fun x12 =>
                some (x12, σ)
          else
            ob 2 σ (some 37) fun _ => bnd (f_X3_number (some 37) 3 σ) fun x14 σ =>
            some (x14, σ)) = some (x, endM σ (if isDig (c p) then (some (fun _ => (pNum c 3 0 p).1), (pNum c 3 0 p).2) else match ltrI (c p) with
            | some k => (some (fun v => v k), p + 1)
            | none => (none, p))) ∧ ∀ E, (if isDig (c p) then (some (fun _ => (pNum c 3 0 p).1), (pNum c 3 0 p).2) else match ltrI (c p) with
            | some k => (some (fun v => v k), p + 1)
            | none => (none, p) : PR).1 = some E → x = E (vvM σ) := by
      intro hno
      rw [m_in, e_bnd, b2_ite]
      by_cases h2 : isDig (c p)
      · rw [if_pos h2, if_pos h2, e_ob (so_37 h.1), m_number h h2, e_bnd]
        exact ⟨_, rfl, fun E z => by cases z; rfl⟩
      · rw [if_neg h2, if_neg h2, m_letterOf, e_bnd]
        cases hl' : ltrI (c p) with
        | none =>
          dsimp only
          rw [if_pos rfl, e_gI (so_37 h.1), e_ob (so_37 h.1), m_fault h.1 h.2.2.2.1, e_bnd, h.2.2.1]
          refine ⟨0, ?_, fun E z => by cases z⟩
          rw [end_none, atM_id h]
        | some k =>
          have hk7 := let_lt hl'
          dsimp only
          rw [if_neg (m1_ne (by omega)), e_gI (so_37 h.1), e_pI (so_37 h.1), h.2.2.1, nI_1]
          have hs' : Sh (wI σ 37 15 (nI (p + 1))) := h.1
          rw [e_gI (so_37 hs')]
          by_cases hz : hi σ 37 21 = 0
          · rw [if_pos (show hi (wI σ 37 15 (nI (p + 1))) 37 21 = 0 from hz)]
            exact ⟨0, rfl, fun E z => by cases z; exact (if_pos hz).symm⟩
          · rw [if_neg (show ¬ hi (wI σ 37 15 (nI (p + 1))) 37 21 = 0 from hz), e_gR (so_37 hs'), sp_37_22 hs', m_letterOf, hl', e_bnd, e_lI (so_47 hs') (by rw [sl_47 hs', inb_nI (by omega)]; exact hk7), ix_nI (by omega)]
            refine ⟨_, rfl, fun E z => ?_⟩
            cases z
            show _ = vvM σ k
            unfold vvM
            rw [if_neg hz, show (if k < 6 then k else 6) = k by split <;> omega]; rfl
    by_cases h3 : c p = 40
    · rw [if_pos h3]
      by_cases h4 : deep < 4
      · rw [if_neg (by rw [n_4]; exact nI_ge h4 (by decide)), if_neg (by rw [h3]; decide), h3, show ltrI 40 = none by decide]
        dsimp only
        rw [if_pos ⟨rfl, h4⟩]
        have hlt := he.lt h3 (by decide)
        have hgo := h.go (q := p + 1) hlt
        obtain ⟨x, hx, hE⟩ := hm0 h4 (atM σ (p + 1)) (p + 1) hgo (by omega)
        have g := held_good he hg (p + 1) (by omega) hlt
        rw [e_gI (so_37 h.1), e_pI (so_37 h.1), h.2.2.1, nI_1, nI_1, show wI σ 37 15 (nI (p + 1)) = atM σ (p + 1) from rfl, e_ob (so_37 hgo.1), hx, e_bnd, endM_at]
        have hs' : Sh (endM σ (held c (thing c n (deep + 1)) (p + 1))) := endM_sh h.1
        rw [e_ob (so_37 hs')]
        rcases hth : held c (thing c n (deep + 1)) (p + 1) with ⟨o, q⟩
        rw [hth] at hE g hs'
        cases o with
        | none =>
          dsimp only at g ⊢
          rw [m_need' hs' (endM_not h.1 (by omega)), e_bnd]
          exact ⟨x, rfl, fun E z => by cases z⟩
        | some f =>
          dsimp only at g ⊢
          rw [end_some, m_need (h.go g.2.1) (by decide), e_bnd]
          refine ⟨x, ?_, ?_⟩
          · by_cases h5 : c q = 41
            · rw [if_pos h5, if_pos h5, end_some]
              show some (x, wI (atM σ q) 37 15 (nI (q + 1))) = _
              rw [show wI (atM σ q) 37 15 (nI (q + 1)) = atM σ (q + 1) from atM_at]
            · rw [if_neg h5, if_neg h5, end_none]
          · intro E z
            by_cases h5 : c q = 41
            · rw [if_pos h5] at z; cases z; exact hE f rfl
            · rw [if_neg h5] at z; cases z
      · rw [if_pos (by rw [n_4]; exact nI_le (by omega) (by omega))]
        have hno : ¬ (c p = 40 ∧ deep < 4) := fun z => h4 z.2
        rw [if_neg hno]
        exact rest hno
    · rw [if_neg h3]
      have hno : ¬ (c p = 40 ∧ deep < 4) := fun z => h3 z.1
      rw [if_neg hno]
      exact rest hno
end mrule
