/-! PURE 12: the reference's hardOf -/
/-- bytes of a text -/
def TxM (σ : Hp) (b len : Nat) (c : Nat → Int32) : Prop := Ends c len ∧ ∀ p, p < len → c p = hi σ b p &&& 255 ∧ (c p < 128 → hi σ b p = c p)
def RM (σ : Hp) (o : Option RE) : Prop := match o with
  | none => hi σ 37 20 = 0
  | some E => ∃ b len c, (b = 45 ∨ b = 46) ∧ hr σ 37 18 = some b ∧ hi σ 37 20 = nI len ∧ 0 < len ∧ len ≤ 40 ∧ TxM σ b len c ∧ ruleP c = (some E, len)
/-- the reference holds P -/
def MP (σ : Hp) (P : Pk) : Prop := hi σ 37 3 = nI P.n ∧ hi σ 37 1 = nI P.hrs ∧ hi σ 37 2 = nI P.beats ∧ (∀ r, r < P.n → hi σ 39 r = nI (P.most r) ∧ hi σ 40 r = nI (P.width r) ∧ hi σ 41 r = nI (P.can r)) ∧ RM σ P.rule
section mhard
variable {σ τ : Hp} {P : Pk} {a : HS} {c : Nat → Int32} {e p t r h : Nat} {D F G : List Nat}
theorem RM.fr {o : Option RE} (h : RM σ o) (f : Fr D F G σ τ) (h0 : (dn D F G 37 18 && dn D F G 37 20 && !D.contains 45 && !D.contains 46) = true) : RM τ o := by
  simp only [Bool.and_eq_true, Bool.not_eq_true'] at h0
  obtain ⟨⟨⟨h18, h20⟩, d45⟩, d46⟩ := h0
  cases o with
  | none => exact (f.i h20).trans h
  | some E =>
    obtain ⟨b, len, c, hb, q1, q2, q3, q4, q5, q6⟩ := h
    refine ⟨b, len, c, hb, (f.r (dn_nil h18)).trans q1, (f.i h20).trans q2, q3, q4, ⟨q5.1, fun p hp => ?_⟩, q6⟩
    rw [f.i (show dn D F G b p = true by
      rcases hb with rfl | rfl
      · exact dn_out d45 (by decide) (by decide)
      · exact dn_out d46 (by decide) (by decide))]
    exact q5.2 p hp
theorem MP.fr (h : MP σ P) (f : Fr D F G σ τ) (h0 : (dn D F G 37 3 && dn D F G 37 1 && dn D F G 37 2 && !D.contains 39 && !D.contains 40 && !D.contains 41 && (dn D F G 37 18 && dn D F G 37 20 && !D.contains 45 && !D.contains 46)) = true) : MP τ P := by
  rw [Bool.and_eq_true] at h0
  obtain ⟨h0, hR⟩ := h0
  simp only [Bool.and_eq_true, Bool.not_eq_true'] at h0
  obtain ⟨⟨⟨⟨⟨h3, h1⟩, h2⟩, d39⟩, d40⟩, d41⟩ := h0
  refine ⟨(f.i h3).trans h.1, (f.i h1).trans h.2.1, (f.i h2).trans h.2.2.1, fun r hr' => ?_, h.2.2.2.2.fr f hR⟩
  rw [f.i (dn_out d39 (by decide) (by decide)), f.i (dn_out d40 (by decide) (by decide)), f.i (dn_out d41 (by decide) (by decide))]
  exact h.2.2.2.1 r hr'
theorem m_thing_all (he : Ends c e) : ∀ n deep m, 4 * n ≤ m → deep ≤ 4 → MC (f_X3_thing m (some 37) (nI deep)) (thing c n deep) c e (e + 1 - n) := by
  intro n
  induction n with
  | zero => intro deep m _ _ σ p h h0; have := h.2.2.2.2; omega
  | succ n ih =>
    intro deep m hm hd
    obtain ⟨m, rfl⟩ : ∃ m', m = m' + 4 := ⟨m - 4, by omega⟩
    show MC (fb_X3_thing (f_X3_heldBy (m + 3)) (f_X3_sum (m + 3)) (f_X3_product (m + 3)) (f_X3_thing (m + 3)) (some 37) (nI deep)) (thing c (n + 1) deep) c e (e + 1 - (n + 1))
    refine m_thing hd (thing_good he n (deep + 1)) (ih deep (m + 3) (by omega) hd) (fun h4 => ?_) (thing_good he n deep)
    have h1 := ih (deep + 1) m (by omega) (by omega)
    have h2 : MC (f_X3_product (m + 1) (some 37) (nI (deep + 1))) _ c e (e + 1 - n) := m_product (rc0 := f_X3_heldBy m) (rc1 := f_X3_sum m) (rc2 := f_X3_product m) (rc3 := f_X3_thing m) (thing_good he n (deep + 1)) h1
    have h3 : MC (f_X3_sum (m + 2) (some 37) (nI (deep + 1))) _ c e (e + 1 - n) := m_sum (rc0 := f_X3_heldBy (m + 1)) (rc1 := f_X3_sum (m + 1)) (rc2 := f_X3_product (m + 1)) (rc3 := f_X3_thing (m + 1)) (lev_good he (thing_good he n (deep + 1)) ⟨by decide, by decide⟩) h2
    exact m_held (rc0 := f_X3_heldBy (m + 2)) (rc1 := f_X3_sum (m + 2)) (rc2 := f_X3_product (m + 2)) (rc3 := f_X3_thing (m + 2)) he (thing_good he n (deep + 1)) h3
/-- a whole text, from its beginning -/
theorem m_heldBy (h : MS σ c e 0) (h40 : e ≤ 40) : ∃ x, f_X3_heldBy 200 (some 37) 0 σ = some (x, endM σ (ruleP c)) ∧ ∀ E, (ruleP c).1 = some E → x = E (vvM σ) := by
  have he := h.ends
  have h1 := m_thing_all (e := e) he 45 0 197 (by decide) (by decide)
  have h2 : MC (f_X3_product 198 (some 37) (nI 0)) _ c e (e + 1 - 45) := m_product (rc0 := f_X3_heldBy 197) (rc1 := f_X3_sum 197) (rc2 := f_X3_product 197) (rc3 := f_X3_thing 197) (thing_good he 45 0) h1
  have h3 : MC (f_X3_sum 199 (some 37) (nI 0)) _ c e (e + 1 - 45) := m_sum (rc0 := f_X3_heldBy 198) (rc1 := f_X3_sum 198) (rc2 := f_X3_product 198) (rc3 := f_X3_thing 198) (lev_good he (thing_good he 45 0) ⟨by decide, by decide⟩) h2
  have h4 : MC (f_X3_heldBy 200 (some 37) (nI 0)) _ c e (e + 1 - 45) := m_held (rc0 := f_X3_heldBy 199) (rc1 := f_X3_sum 199) (rc2 := f_X3_product 199) (rc3 := f_X3_thing 199) he (thing_good he 45 0) h3
  exact h4 σ 0 h (by omega)
theorem m_begin (hs : Sh σ) {b : Nat} {x y : Int32} : f_X3_begin (some 37) (some b) x y σ = some ((), wI (wI (wI (wI (wR σ 37 12 (some b)) 37 13 x) 37 14 y) 37 15 0) 37 16 (-1)) := by
  have o := so_37 hs
  unfold f_X3_begin
  rw [e_pR o, e_pI (show Ok (wR σ 37 12 (some b)) 37 2 from o), e_pI (show Ok (wI (wR σ 37 12 (some b)) 37 13 x) 37 2 from o), e_pI (show Ok (wI (wI (wR σ 37 12 (some b)) 37 13 x) 37 14 y) 37 2 from o), e_pI (show Ok (wI (wI (wI (wR σ 37 12 (some b)) 37 13 x) 37 14 y) 37 15 0) 37 2 from o)]
theorem m_hardOf (hs : Sh σ) (hp : MP σ P) (pk : POK P) (ht : Ok σ t 100) (hl' : (hk σ t).2 = 27) (h0 : t ≠ 0 ∧ t ≠ 37 ∧ t ≠ 47) (ha : MH σ t 0 a) (hr' : r < P.n) (hh : h < 8) : wp (f_X3_hardOf (some 37) (some t) (nI r) (nI h) σ) (fun x τ => x = hardI P a r h ∧ Fr [47] [] [12, 13, 14, 15, 16, 21] σ τ) := by
  have hr8 : r < 8 := Nat.lt_of_lt_of_le hr' pk.1
  obtain ⟨p1, p2, p3, p4, p5⟩ := hp
  obtain ⟨m1, m2, m3⟩ := p4 r hr'
  obtain ⟨a1, a2, a3, a4, a5, a6⟩ := ha
  have t1 : hi σ t (8 + r) = a.tired r := by have := a2 r hr8; rw [Nat.zero_add] at this; exact this
  have t2 : hi σ t 24 = a.night := a4
  unfold f_X3_hardOf jn
  simp (disch := omega) only [n_8, nI_add, wp_lI, wp_gR, sp_37_5 hs, ht, hl', inb_nI, ix_nI, so_37 hs, so_40 hs, sl_40 hs, true_and, t1, m2]
  refine ⟨by omega, hr8, ?_⟩
  cases hR : P.rule with
  | none =>
    rw [hR] at p5
    have z : hi σ 37 20 = 0 := p5
    have fin : hardI P a r h = imax 0 (imin 999 (a.tired r + nI (P.width r) + (if h ≤ 5 then 0 else 9))) := by unfold hardI; rw [hR]
    by_cases h5 : h ≤ 5
    · rw [if_pos (by rw [n_5, nI_leI (by omega) (by decide)]; exact h5), wp_gI]
      refine ⟨so_37 hs, ?_⟩
      rw [z, if_pos (by decide), wp_some, fin, if_pos h5]
      exact ⟨rfl, Fr.refl⟩
    · rw [if_neg (by rw [n_5, nI_leI (by omega) (by decide)]; exact h5), wp_gI]
      refine ⟨so_37 hs, ?_⟩
      rw [z, if_pos (by decide), wp_some, fin, if_neg h5]
      exact ⟨rfl, Fr.refl⟩
  | some E =>
    rw [hR] at p5
    obtain ⟨b, len, c, hb, b1, b2', b3, b4, b5, b6⟩ := p5
    have z : ¬ hi σ 37 20 ≤ 0 := by rw [b2']; exact nI_nle b3 (by omega)
    have fin : hardI P a r h = imax 0 (imin 999 (E (askV P a r h))) := by unfold hardI; rw [hR]
    rw [fin]
    have key : ∀ τ0, Fr [47] [] [] σ τ0 → (∀ k, k < 7 → hi τ0 47 k = askV P a r h k) → wp (f_X3_begin (some 37) (hr σ 37 18) (hi σ 37 20) 40 τ0) (fun _ σ_1 => wp (pI 2 2 21 σ_1 (some 37) 1 fun σ =>
        ob 2 σ (some 37) fun x => bnd (f_X3_heldBy 200 (some 37) 0 σ) fun x27 σ =>
        pI 2 2 21 σ (some 37) 0 fun σ => some (imax 0 (imin 999 x27), σ)) (fun x τ => x = imax 0 (imin 999 (E (askV P a r h))) ∧ Fr [47] [] [12, 13, 14, 15, 16, 21] σ τ)) := by
      intro τ0 f0 hA
      have hs0 : Sh τ0 := f0.sh hs rfl
      rw [b1, b2', m_begin hs0, wp_some, wp_pI]
      generalize hτ1 : wI (wI (wI (wI (wR τ0 37 12 (some b)) 37 13 (nI len)) 37 14 40) 37 15 0) 37 16 (-1) = τ1
      have f1 : Fr [47] [] [12, 13, 14, 15, 16, 21] τ0 τ1 := by
        rw [← hτ1]
        exact ((((Fr.refl.putR rfl).putI rfl).putI rfl).putI rfl).putI rfl
      have hs1 : Sh τ1 := f1.sh hs0 rfl
      refine ⟨so_37 hs1, rfl, ?_⟩
      generalize hτ2 : wI τ1 37 21 1 = τ2
      have f2 : Fr [47] [] [12, 13, 14, 15, 16, 21] τ0 τ2 := by
        rw [← hτ2]; exact f1.putI rfl
      have hs2 : Sh τ2 := f2.sh hs0 rfl
      have hMS : MS τ2 c len 0 := by
        refine ⟨hs2, ⟨b5.1, b, len, 40, Or.inr hb, ?_, ?_, ?_, by omega, by decide, by omega, ?_, fun p hp => ?_⟩, ?_, ?_, Nat.zero_le _⟩
        · rw [← hτ2, ← hτ1]; rfl
        · rw [← hτ2, ← hτ1]; rfl
        · rw [← hτ2, ← hτ1]; rfl
        · rw [f2.k, f0.k]
          rcases hb with rfl | rfl
          · rw [sl_45 hs]; omega
          · rw [sl_46 hs]; omega
        · have : hi τ2 b p = hi σ b p := by
            rcases hb with rfl | rfl <;> rw [f2.i rfl, f0.i rfl]
          rw [this]; exact b5.2 p hp
        · rw [← hτ2, ← hτ1]; rfl
        · rw [← hτ2, ← hτ1]; rfl
      rw [wp_ob]
      refine ⟨so_37 hs2, ?_⟩
      obtain ⟨x, hx, hE⟩ := m_heldBy hMS b4
      rw [wp_bnd, hx, wp_some, wp_pI]
      have hs3 : Sh (endM τ2 (ruleP c)) := endM_sh hs2
      refine ⟨so_37 hs3, rfl, ?_⟩
      rw [wp_some]
      refine ⟨?_, ?_⟩
      · rw [hE E (by rw [b6])]
        have hv : vvM τ2 = askV P a r h := by
          funext k
          unfold vvM
          rw [show hi τ2 37 21 = 1 by rw [← hτ2]; rfl, if_neg (by decide), show hi τ2 47 = hi τ0 47 by rw [← hτ2, ← hτ1]; rfl, hA _ (by split <;> omega)]
          by_cases hk6 : k < 6
          · rw [if_pos hk6]
          · rw [if_neg hk6]
            obtain ⟨j, rfl⟩ : ∃ j, k = j + 6 := ⟨k - 6, by omega⟩
            rfl
        rw [hv]
      · exact ((f0.mono rfl).trans (f2.trans (endM_fr.mono rfl))).putI rfl
    split
    all_goals
      rw [wp_gI]
      refine ⟨so_37 hs, ?_⟩
      rw [if_neg z]
      simp (disch := omega) only [n_8, nI_add, wp_lI, wp_sI, wp_gR, wp_gI, wp_idv, wp_ob, wp_bnd, e_bc, wp_some, sp_37_22 hs, hr_wI, hk_wI, Ok_wI, so_37 hs, so_47 hs, sl_47 hs, so_39 hs, sl_39 hs, so_40 hs, sl_40 hs, sp_37_5 hs, sp_37_4 hs, so_41 hs, sl_41 hs, sp_37_6 hs, ht, hl', inb_nI, ix_nI, true_and, hi_ne, t1, t2, m1, m2, m3]
      refine ⟨by unfold inb; decide, by omega, by unfold inb; decide, hr8, by unfold inb; decide, hr8, by unfold inb; decide, by unfold inb; decide, by unfold inb; decide, by decide, by unfold inb; decide, hr8, by unfold inb; decide, ?_⟩
      refine key _ (((((((Fr.refl.putI rfl).putI rfl).putI rfl).putI rfl).putI rfl).putI rfl).putI rfl) (fun k hk' => ?_)
      have hk7 : k = 0 ∨ k = 1 ∨ k = 2 ∨ k = 3 ∨ k = 4 ∨ k = 5 ∨ k = 6 := by omega
      rcases hk7 with rfl | rfl | rfl | rfl | rfl | rfl | rfl
      · rfl
      · rfl
      · rfl
      · rfl
      · rfl
      · show irm (hi σ t 24) 7 = _
        rw [t2]; rfl
      · show bcI (nI (P.can r)) = _
        rw [bc_nI (pk.2.2.2 r).2.2]; rfl
end mhard
