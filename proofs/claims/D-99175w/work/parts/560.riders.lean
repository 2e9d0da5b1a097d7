/-! PURE 102: riders come -/
def LC (σ : Hp) (n0 j : Nat) (l : LN) : Prop := hi σ 11 (n0 + j) = nI l.1 ∧ hi σ 12 (n0 + j) = nI l.2.1 ∧ hi σ 13 (n0 + j) = nI l.2.2
def LM (σ : Hp) (j : Nat) (l : LN) : Prop := hi σ 44 (3 * j) = nI l.1 ∧ hi σ 44 (3 * j + 1) = nI l.2.1 ∧ hi σ 44 (3 * j + 2) = nI l.2.2
theorem lnsP_good {c : Nat → Int32} {e n0 : Nat} (he : Ends c e) (hv : ∀ p, c p = -1 ∨ ∃ k, k < 256 ∧ c p = nI k) : ∀ m p k f, p ≤ e → n0 + k ≤ 8 → (∀ j, lnOK (f j)) → (lnsP c n0 m p k f).2.1 ≤ e ∧ n0 + (lnsP c n0 m p k f).2.2.1 ≤ 8 ∧ ∀ j, lnOK ((lnsP c n0 m p k f).2.2.2 j) := by
  intro m
  induction m with
  | zero => intro p k f hp hk' hf; exact ⟨hp, hk', hf⟩
  | succ m ih =>
    intro p k f hp hk' hf
    unfold lnsP
    by_cases h8 : n0 + k = 8
    · rw [if_pos h8]; exact ⟨hp, hk', hf⟩
    · rw [if_neg h8]
      have g := lineP_good he hv hp
      rcases hl : lineP c p with ⟨z, q⟩
      rw [hl] at g
      obtain ⟨g1, g2, g3⟩ := g
      cases z with
      | none => exact ⟨g2, hk', hf⟩
      | some l =>
        have hf' : ∀ j, lnOK (up1 f k l j) := fun j => by
          unfold up1
          by_cases e : j = k
          · rw [if_pos e]; exact (g3 l rfl).1
          · rw [if_neg e]; exact hf j
        dsimp only at g1 g2 ⊢
        by_cases h59 : c q = 59
        · rw [if_pos h59]
          exact ih (q + 1) (k + 1) _ (he.lt h59 (by decide)) (by omega) hf'
        · rw [if_neg h59]
          exact ⟨g2, by dsimp only; omega, hf'⟩
section riders
variable {σ τ υ : Hp} {c : Nat → Int32} {e p n0 : Nat}
theorem c_lns {k0 : Int32 → Hp → Option (Int32 × Hp)} {Q : Int32 → Hp → Prop} : ∀ m M k p f σ a1, 8 - (n0 + k) < m → m < M → n0 + k ≤ 8 → CS σ c e p → hi σ 0 17 = nI (n0 + k) → (∀ j, j < k → LC σ n0 j (f j)) → (∀ τ g, Fr [11, 12, 13] [11, 17] [] σ τ → CS τ c e (lnsP c n0 m p k f).2.1 → ((lnsP c n0 m p k f).1 = true → hi τ 0 17 = nI (n0 + (lnsP c n0 m p k f).2.2.1) ∧ ∀ j, j < (lnsP c n0 m p k f).2.2.1 → LC τ n0 j ((lnsP c n0 m p k f).2.2.2 j)) → (g ≠ 0 ↔ (lnsP c n0 m p k f).1 = true) → wp (k0 g τ) Q) → wp (lp M (f_X1_riders_b25 (some 0) k0) (a1, 1) σ) Q := by
  intro m
  induction m with
  | zero => intro M k p f σ a1 h; omega
  | succ m ih =>
    intro M k p f σ a1 hm hM hk8 cs e17 hf hk0
    obtain ⟨M, rfl⟩ : ∃ n, M = n + 2 := ⟨M - 2, by omega⟩
    have o0 := so_0 cs.1
    show wp (f_X1_riders_b25 (some 0) k0 (lp (M + 1) (f_X1_riders_b25 (some 0) k0)) (a1, 1) σ) Q
    have stop : ∀ g τ, lp (M + 1) (f_X1_riders_b25 (some 0) k0) (g, 0) τ = k0 g τ := fun g τ => by
      show f_X1_riders_b25 (some 0) k0 _ (g, 0) τ = _
      unfold f_X1_riders_b25
      rw [if_pos rfl]
    generalize hag : lp (M + 1) (f_X1_riders_b25 (some 0) k0) = ag at *
    unfold f_X1_riders_b25
    unfold lnsP at hk0
    dsimp only
    rw [if_neg (by decide), wp_ob]
    refine ⟨o0, ?_⟩
    by_cases h8 : n0 + k = 8
    · rw [if_pos h8] at hk0
      have er : f_X1_readsRider (some 0) σ = some (0, σ) := by
        unfold f_X1_readsRider
        rw [e_gI o0, e17, h8, if_pos (by decide), e_rz0]
      rw [er, e_bnd, y_jn, if_pos rfl]
      dsimp only
      rw [stop]
      exact hk0 σ 0 Fr.refl cs (fun z => by cases z) ⟨fun z => absurd rfl z, fun z => by cases z⟩
    · rw [if_neg h8] at hk0
      rw [wp_bnd]
      refine wp_mono (c_line cs e17 (show n0 + k < 8 by omega)) (fun x τ h => ?_)
      obtain ⟨f1, cs1, k1, h1⟩ := h
      rw [y_jn]
      rcases hl : lineP c p with ⟨z, q⟩
      rw [hl] at cs1 h1 hk0
      cases z with
      | none =>
        dsimp only at cs1 h1 hk0
        subst h1
        rw [if_pos rfl]
        dsimp only
        rw [stop]
        exact hk0 τ 0 f1 cs1 (fun z => by cases z) ⟨fun z => absurd rfl z, fun z => by cases z⟩
      | some l =>
        dsimp only at cs1 h1 hk0
        obtain ⟨rfl, g17, g1, g2, g3⟩ := h1
        have hf' : ∀ j, j < k + 1 → LC τ n0 j (up1 f k l j) := fun j hj => by
          unfold up1
          by_cases ej : j = k
          · rw [if_pos ej, ej]; exact ⟨g1, g2, g3⟩
          · rw [if_neg ej]
            obtain ⟨a1, a2, a3⟩ := k1 (n0 + j) (by omega)
            obtain ⟨b1, b2', b3⟩ := hf j (by omega)
            exact ⟨a1.trans b1, a2.trans b2', a3.trans b3⟩
        rw [if_neg (by decide), wp_ob]
        refine ⟨so_0 cs1.1, ?_⟩
        rw [c_takes cs1 (by decide), e_bnd]
        by_cases h59 : c q = 59
        · rw [if_pos h59] at hk0
          have hlt := cs1.2.1.lt h59 (by decide)
          rw [b2, if_pos h59, if_pos h59, if_neg (by decide), ← hag]
          refine ih (M + 1) (k + 1) (q + 1) (up1 f k l) _ 1 (by omega) (by omega) (by omega) (cs1.go hlt) ((atC_fr.i rfl).trans (by rw [g17, Nat.add_assoc])) (fun j hj => ?_) (fun ω g f2 cs2 h2 h3 => hk0 ω g ((f1.trans (atC_fr.mono rfl)).trans f2) cs2 h2 h3)
          obtain ⟨b1, b2', b3⟩ := hf' j hj
          exact ⟨(atC_fr.i rfl).trans b1, (atC_fr.i rfl).trans b2', (atC_fr.i rfl).trans b3⟩
        · rw [if_neg h59] at hk0
          rw [b2, if_neg h59, if_neg h59, if_pos rfl]
          dsimp only
          rw [stop]
          exact hk0 τ 1 f1 cs1 (fun _ => ⟨by rw [g17, Nat.add_assoc], hf'⟩) ⟨fun _ => rfl, fun _ => by decide⟩
theorem m_lns {k0 : Int32 → Hp → Option (Int32 × Hp)} {Q : Int32 → Hp → Prop} (hv : ∀ p, c p = -1 ∨ ∃ k, k < 256 ∧ c p = nI k) : ∀ m M k p f σ, 8 - (n0 + k) < m → m < M → n0 + k ≤ 8 → MS σ c e p → hi σ 37 3 = nI n0 → (∀ j, j < k → LM σ j (f j)) → (∀ τ n', Fr [44] [] [15, 16] σ τ → ((lnsP c n0 m p k f).1 = true → n' = nI (lnsP c n0 m p k f).2.2.1 ∧ (∀ j, j < (lnsP c n0 m p k f).2.2.1 → LM τ j ((lnsP c n0 m p k f).2.2.2 j)) ∧ (MS τ c e (lnsP c n0 m p k f).2.1 ∨ BadM τ c (lnsP c n0 m p k f).2.1)) → ((lnsP c n0 m p k f).1 = false → hi τ 37 16 = nI (lnsP c n0 m p k f).2.1 ∧ hi τ 37 15 = nI (lnsP c n0 m p k f).2.1) → wp (k0 n' τ) Q) → wp (lp M (f_X3_riders_b24 (some 37) k0) (nI k, 1) σ) Q := by
  intro m
  induction m with
  | zero => intro M k p f σ h; omega
  | succ m ih =>
    intro M k p f σ hm hM hk8 ms e3 hf hk0
    obtain ⟨M, rfl⟩ : ∃ n, M = n + 2 := ⟨M - 2, by omega⟩
    have o0 := so_37 ms.1
    have e80 := ms.e80
    have hpe := ms.2.2.2.2
    show wp (f_X3_riders_b24 (some 37) k0 (lp (M + 1) (f_X3_riders_b24 (some 37) k0)) (nI k, 1) σ) Q
    have stop : ∀ g τ, lp (M + 1) (f_X3_riders_b24 (some 37) k0) (g, 0) τ = k0 g τ := fun g τ => by
      show f_X3_riders_b24 (some 37) k0 _ (g, 0) τ = _
      unfold f_X3_riders_b24
      rw [if_pos rfl]
    generalize hag : lp (M + 1) (f_X3_riders_b24 (some 37) k0) = ag at *
    unfold f_X3_riders_b24
    unfold lnsP at hk0
    dsimp only
    rw [if_neg (by decide), wp_ob]
    refine ⟨o0, ?_⟩
    rw [m_fine ms.1, e_bnd, b2_ite, if_pos ms.2.2.2.1, wp_gI, e3]
    refine ⟨o0, ?_⟩
    rw [y_jn, nI_add, show (8 : Int32) = nI 8 from rfl, ite_eq (by omega) (by decide)]
    by_cases h8 : n0 + k = 8
    · rw [if_pos h8] at hk0
      have s2 : Sh (wI σ 37 16 (nI p)) := sw_I ms.1
      rw [if_pos h8, wp_gI, ms.2.2.1]
      refine ⟨o0, ?_⟩
      rw [wp_ob]
      refine ⟨o0, ?_⟩
      rw [m_fault ms.1 ms.2.2.2.1, e_bnd, wp_ob]
      refine ⟨so_37 s2, ?_⟩
      rw [m_passes' s2 (by rw [hi_eq]; exact m1_ne (by omega)), e_bnd, nI_1, stop]
      exact hk0 _ _ (Fr.refl.putI rfl) (fun z => by cases z) (fun _ => ⟨hi_eq, by rw [hi_ni (by decide)]; exact ms.2.2.1⟩)
    · rw [if_neg h8] at hk0
      rw [if_neg h8, wp_ob]
      refine ⟨o0, ?_⟩
      rw [n_3, nI_mul, wp_bnd]
      refine wp_mono (m_line (show k < 8 by omega) hv ms) (fun _ τ h => ?_)
      obtain ⟨f1, k1, h1⟩ := h
      have sτ := f1.sh ms.1 rfl
      rw [wp_ob]
      refine ⟨so_37 sτ, ?_⟩
      rcases hl : lineP c p with ⟨z, q⟩
      have hgood := lineP_good ms.ends hv hpe
      rw [hl] at h1 hk0 hgood
      cases z with
      | none =>
        dsimp only at h1 hk0 hgood
        rw [m_passes' sτ (by rw [h1.1]; exact m1_ne (by omega)), e_bnd, nI_1, stop]
        exact hk0 _ _ f1 (fun z => by cases z) (fun _ => h1)
      | some l =>
        dsimp only at h1 hk0 hgood
        obtain ⟨hL, hms⟩ := h1
        have hf' : ∀ j, j < k + 1 → LM τ j (up1 f k l j) := fun j hj => by
          unfold up1
          by_cases ej : j = k
          · rw [if_pos ej, ej]; exact hL
          · rw [if_neg ej]
            obtain ⟨b1, b2', b3⟩ := hf j (by omega)
            exact ⟨(k1 _ (by omega)).trans b1, (k1 _ (by omega)).trans b2', (k1 _ (by omega)).trans b3⟩
        rcases hms with ms1 | bad
        · rw [m_passes ms1 (by decide), e_bnd, nI_1]
          by_cases h59 : c q = 59
          · rw [if_pos h59] at hk0
            have hlt := ms1.ends.lt h59 (by decide)
            rw [b2, if_pos h59, if_pos h59, ← hag]
            have g2 : Fr [] [] [15] τ (wI τ 37 15 (nI (q + 1))) := Fr.refl.putI rfl
            refine ih (M + 1) (k + 1) (q + 1) (up1 f k l) _ (by omega) (by omega) (by omega) (m_step ms1 hlt) ((g2.i rfl).trans ((f1.i rfl).trans e3)) (fun j hj => ?_) (fun ω n' f2 h2 h3 => hk0 ω n' ((f1.trans (g2.mono rfl)).trans f2) h2 h3)
            obtain ⟨b1, b2', b3⟩ := hf' j hj
            exact ⟨(g2.i rfl).trans b1, (g2.i rfl).trans b2', (g2.i rfl).trans b3⟩
          · rw [if_neg h59] at hk0
            rw [b2, if_neg h59, if_neg h59, stop]
            exact hk0 τ _ f1 (fun _ => ⟨rfl, hf', Or.inl ms1⟩) (fun z => by cases z)
        · have n59 : ¬ c q = 59 := fun z => by have := bad.2.2.2.1; rw [z] at this; exact absurd this (by decide)
          rw [if_neg n59] at hk0
          rw [m_passes' sτ (by rw [bad.2.1]; exact m1_ne (by omega)), e_bnd, nI_1, stop]
          exact hk0 τ _ f1 (fun _ => ⟨rfl, hf', Or.inr bad⟩) (fun z => by cases z)
end riders
