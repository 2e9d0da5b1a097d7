/-! PURE 9: the reference's readers -/
/-- the reference reads the signs c, ending at e, from a row of bytes -/
def Rd (σ : Hp) (c : Nat → Int32) (e : Nat) : Prop := Ends c e ∧ ∃ b len top, (b = 42 ∨ b = 45 ∨ b = 46) ∧ hr σ 37 12 = some b ∧ hi σ 37 13 = nI len ∧ hi σ 37 14 = nI top ∧ len ≤ 80 ∧ top ≤ 80 ∧ e = min len top ∧ e ≤ (hk σ b).2 ∧ ∀ p, p < e → c p = hi σ b p &&& 255 ∧ (c p < 128 → hi σ b p = c p)
def MS (σ : Hp) (c : Nat → Int32) (e p : Nat) : Prop := Sh σ ∧ Rd σ c e ∧ hi σ 37 15 = nI p ∧ hi σ 37 16 = -1 ∧ p ≤ e
section mread
variable {σ τ : Hp} {c : Nat → Int32} {e p : Nat}
theorem Rd.fr {D F G : List Nat} (h : Rd σ c e) (f : Fr D F G σ τ) (h0 : (dn D F G 37 12 && dn D F G 37 13 && dn D F G 37 14 && !D.contains 42 && !D.contains 45 && !D.contains 46) = true) : Rd τ c e := by
  simp only [Bool.and_eq_true, Bool.not_eq_true'] at h0
  obtain ⟨⟨⟨⟨⟨h12, h13⟩, h14⟩, d42⟩, d45⟩, d46⟩ := h0
  obtain ⟨he, b, len, top, hb, q1, q2, q3, q4, q5, q6, q7, q8⟩ := h
  have e0 : ∀ i, dn D F G b i = true := fun i => by
    rcases hb with rfl | rfl | rfl
    · exact dn_out d42 (by decide) (by decide)
    · exact dn_out d45 (by decide) (by decide)
    · exact dn_out d46 (by decide) (by decide)
  exact ⟨he, b, len, top, hb, (f.r (dn_nil h12)).trans q1, (f.i h13).trans q2, (f.i h14).trans q3, q4, q5, q6, by rw [f.k]; exact q7, fun p hp => by rw [f.i (e0 p)]; exact q8 p hp⟩
theorem MS.ends (h : MS σ c e p) : Ends c e := h.2.1.1
theorem MS.p80 (h : MS σ c e p) : p ≤ 80 := by
  obtain ⟨_, ⟨_, b, len, top, _, _, _, _, _, _, _, _⟩, _, _, _⟩ := h
  omega
theorem m_fine (h : Sh σ) : f_X3_fine (some 37) σ = some (b2 (hi σ 37 16 = -1), σ) := by
  unfold f_X3_fine
  rw [e_gI (so_37 h)]
  by_cases hx : hi σ 37 16 = -1
  · rw [if_pos hx, b2, if_pos hx]; rfl
  · rw [if_neg hx, b2, if_neg hx]; rfl
theorem m_here (h : MS σ c e p) : f_X3_here (some 37) σ = some (c p, σ) := by
  obtain ⟨hs, ⟨he, b, len, top, hb, q1, q2, q3, q4, q5, q6, q7, q8⟩, h1, h2, h3⟩ := h
  have hb' : Ok σ b 101 := by
    rcases hb with rfl | rfl | rfl
    · exact so_42 hs
    · exact so_45 hs
    · exact so_46 hs
  unfold f_X3_here
  rw [e_gI (so_37 hs), e_gI (so_37 hs), h1, q2]
  by_cases hx : len ≤ p
  · rw [if_pos (nI_le hx (by omega)), he p (by omega)]
  · rw [if_neg (nI_ge (by omega) (by omega)), e_gI (so_37 hs), e_gI (so_37 hs), h1, q3]
    by_cases hy : top ≤ p
    · rw [if_pos (nI_le hy (by omega)), he p (by omega)]
    · rw [if_neg (nI_ge (by omega) (by omega)), e_gR (so_37 hs), q1, e_gI (so_37 hs), h1, e_lI hb' (by rw [inb_nI (by omega)]; omega), ix_nI (by omega), (q8 p (by omega)).1]
theorem m_step (h : MS σ c e p) (hp : p < e) : MS (wI σ 37 15 (nI (p + 1))) c e (p + 1) := by
  have f : Fr [] [] [15] σ (wI σ 37 15 (nI (p + 1))) := Fr.refl.putI rfl
  exact ⟨f.sh h.1 rfl, h.2.1.fr f rfl, rfl, (f.i rfl).trans h.2.2.2.1, hp⟩
theorem m_passes (h : MS σ c e p) {x : Int32} (hx : x ≠ -1) : f_X3_passes (some 37) x σ = some (b2 (c p = x), if c p = x then wI σ 37 15 (nI (p + 1)) else σ) := by
  unfold f_X3_passes
  rw [e_ob (so_37 h.1), m_fine h.1, e_bnd, b2_ite, if_pos h.2.2.2.1, e_ob (so_37 h.1), m_here h, e_bnd]
  by_cases hc : c p = x
  · rw [if_pos hc, if_pos hc, e_gI (so_37 h.1), e_pI (so_37 h.1), h.2.2.1, nI_1, b2, if_pos hc]; rfl
  · rw [if_neg hc, if_neg hc, b2, if_neg hc]; rfl
/-- a fault is laid -/
def flt (σ : Hp) (p : Nat) : Hp := wI σ 37 16 (nI p)
theorem m_fault (h : Sh σ) (hw : hi σ 37 16 = -1) {x : Int32} : f_X3_fault (some 37) x σ = some ((), wI σ 37 16 x) := by
  unfold f_X3_fault
  rw [e_ob (so_37 h), m_fine h, e_bnd, b2_ite, if_pos hw, e_pI (so_37 h)]
theorem m_fault' (h : Sh σ) (hw : ¬ hi σ 37 16 = -1) {x : Int32} : f_X3_fault (some 37) x σ = some ((), σ) := by
  unfold f_X3_fault
  rw [e_ob (so_37 h), m_fine h, e_bnd, b2_ite, if_neg hw]
theorem m_passes' (h : Sh σ) (hw : ¬ hi σ 37 16 = -1) {x : Int32} : f_X3_passes (some 37) x σ = some (0, σ) := by
  unfold f_X3_passes
  rw [e_ob (so_37 h), m_fine h, e_bnd, b2_ite, if_neg hw]; rfl
theorem m_need (h : MS σ c e p) {x : Int32} (hx : x ≠ -1) : f_X3_need (some 37) x σ = some ((), if c p = x then wI σ 37 15 (nI (p + 1)) else wI σ 37 16 (nI p)) := by
  unfold f_X3_need
  rw [e_ob (so_37 h.1), m_passes h hx, e_bnd, b2_ite]
  by_cases hc : c p = x
  · rw [if_pos hc, if_pos hc, if_pos hc]
  · rw [if_neg hc, if_neg hc, if_neg hc, e_gI (so_37 h.1), e_ob (so_37 h.1), m_fault h.1 h.2.2.2.1, e_bnd, h.2.2.1]
theorem m_need' (h : Sh σ) (hw : ¬ hi σ 37 16 = -1) {x : Int32} : f_X3_need (some 37) x σ = some ((), σ) := by
  unfold f_X3_need
  rw [e_ob (so_37 h), m_passes' h hw, e_bnd, if_pos rfl, e_gI (so_37 h), e_ob (so_37 h), m_fault' h hw, e_bnd]
theorem m_oneOf (h : MS σ c e p) {x y : Int32} (hx : ¬ (x ≤ -1)) (hy : (x + y) - 1 < 128) : f_X3_oneOf (some 37) x y σ = some (if x ≤ c p ∧ c p ≤ (x + y) - 1 then (c p - x, wI σ 37 15 (nI (p + 1))) else (0, wI σ 37 16 (nI p))) := by
  have hk' := h
  obtain ⟨hs, ⟨he, b, len, top, hb, q1, q2, q3, q4, q5, q6, q7, q8⟩, h1, h2, h3⟩ := h
  have hb' : Ok σ b 101 := by
    rcases hb with rfl | rfl | rfl
    · exact so_42 hs
    · exact so_45 hs
    · exact so_46 hs
  unfold f_X3_oneOf
  rw [e_ob (so_37 hs), m_fine hs, e_bnd, b2_ite, if_pos h2, e_ob (so_37 hs), m_here hk', e_bnd, m_in, e_bnd, b2_ite]
  by_cases hc : x ≤ c p ∧ c p ≤ (x + y) - 1
  · rw [if_pos hc, if_pos hc, e_gI (so_37 hs), e_pI (so_37 hs), h1, nI_1]
    have hlt : p < e := he.lt rfl (fun z => hx (z ▸ hc.1))
    have hs' : Sh (wI σ 37 15 (nI (p + 1))) := hs
    rw [e_gR (so_37 hs'), e_gI (so_37 hs'), hr_wI, q1, hi_wI, if_pos ⟨rfl, rfl⟩, nI_pred]
    have hb2 : Ok (wI σ 37 15 (nI (p + 1))) b 101 := hb'
    rw [e_lI hb2 (by rw [inb_nI (by omega)]; show p < (hk σ b).2; omega), ix_nI (by omega), hi_wI, if_neg (by rintro ⟨rfl, _⟩; rcases hb with z | z | z <;> cases z)]
    rw [(q8 p hlt).2 (Int32.lt_of_le_of_lt hc.2 hy)]
  · rw [if_neg hc, if_neg hc, e_gI (so_37 hs), e_ob (so_37 hs), m_fault hs h2, e_bnd, h1]
theorem m_letterOf {x : Int32} : f_X3_letterOf x σ = some (match ltrI x with
    | none => -1
    | some k => nI k, σ) := by
  unfold f_X3_letterOf ltrI
  repeat' split
  all_goals first | rfl | contradiction | (next h => cases h; rfl)
end mread
