/-! PURE 110: acts of a year read (the class) -/
abbrev AC : Type := Int32 × Int32 × Int32
abbrev isAct (v : Int32) : Prop := v = 110 ∨ v = 105 ∨ v = 103 ∨ v = 120
def actP (c : Nat → Int32) (p : Nat) : Option AC × Nat := if isAct (c p) then (if isDig (c (p + 1)) then (if c p = 110 ∨ c p = 105 then (some (c p, c (p + 1) - 48, 0), p + 2) else if c p = 103 ∧ c (p + 2) = 45 then (some (c p, c (p + 1) - 48, -1), p + 3) else if isDig (c (p + 2)) then (some (c p, c (p + 1) - 48, c (p + 2) - 48), p + 3) else (none, p + 2)) else (none, p + 1)) else (none, p)
def actsP (c : Nat → Int32) (e : Nat) : Nat → Nat → Nat → (Nat → AC) → Bool × Nat × Nat × (Nat → AC)
  | 0, p, k, f => (false, p, k, f)
  | m + 1, p, k, f => if e ≤ p then (true, p, k, f) else match actP c p with
    | (none, q) => (false, q, k, f)
    | (some l, q) => actsP c e m q (k + 1) (up1 f k l)
def acOK (l : AC) : Prop := isAct l.1 ∧ (∃ j, j ≤ 9 ∧ l.2.1 = nI j) ∧ (l.2.2 = -1 ∨ ∃ j, j ≤ 9 ∧ l.2.2 = nI j)
theorem dig9 {v : Int32} (h : isDig v) : ∃ j, j ≤ 9 ∧ v - 48 = nI j := by
  obtain ⟨k, hk', rfl⟩ := lo_pos (x := v) (Int32.le_trans (show (0 : Int32) ≤ 48 by decide) h.1)
  have h1 := h.1
  have h2 := h.2
  rw [show (48 : Int32) = nI 48 from rfl, nI_le_l (by decide) hk'] at h1
  rw [show (57 : Int32) = nI 57 from rfl, nI_le_l hk' (by decide)] at h2
  exact ⟨k - 48, by omega, by rw [show (48 : Int32) = nI 48 from rfl, nI_sub h1]⟩
theorem act_ne {v : Int32} (h : isAct v) : v ≠ -1 := by
  rcases h with rfl | rfl | rfl | rfl <;> decide
theorem actP_good {c : Nat → Int32} {e p : Nat} (he : Ends c e) (hp : p ≤ e) : p ≤ (actP c p).2 ∧ (actP c p).2 ≤ e ∧ ∀ l, (actP c p).1 = some l → acOK l ∧ p < (actP c p).2 := by
  unfold actP
  by_cases h1 : isAct (c p)
  · have hlt := he.lt rfl (act_ne h1)
    rw [if_pos h1]
    by_cases h2 : isDig (c (p + 1))
    · have hlt2 := he.lt rfl (dig_ne h2)
      have d1 := dig9 h2
      rw [if_pos h2]
      by_cases h3 : c p = 110 ∨ c p = 105
      · rw [if_pos h3]
        refine ⟨by dsimp only; omega, by dsimp only; omega, fun l hl => ?_⟩
        cases hl
        exact ⟨⟨h1, d1, Or.inr ⟨0, by decide, rfl⟩⟩, by dsimp only; omega⟩
      · rw [if_neg h3]
        by_cases h4 : c p = 103 ∧ c (p + 2) = 45
        · have hlt3 := he.lt h4.2 (by decide)
          rw [if_pos h4]
          refine ⟨by dsimp only; omega, by dsimp only; omega, fun l hl => ?_⟩
          cases hl
          exact ⟨⟨h1, d1, Or.inl rfl⟩, by dsimp only; omega⟩
        · rw [if_neg h4]
          by_cases h5 : isDig (c (p + 2))
          · have hlt3 := he.lt rfl (dig_ne h5)
            rw [if_pos h5]
            refine ⟨by dsimp only; omega, by dsimp only; omega, fun l hl => ?_⟩
            cases hl
            exact ⟨⟨h1, d1, Or.inr (dig9 h5)⟩, by dsimp only; omega⟩
          · rw [if_neg h5]
            exact ⟨by dsimp only; omega, by dsimp only; omega, fun l hl => by cases hl⟩
    · rw [if_neg h2]
      exact ⟨by dsimp only; omega, by dsimp only; omega, fun l hl => by cases hl⟩
  · rw [if_neg h1]
    exact ⟨Nat.le_refl _, hp, fun l hl => by cases hl⟩
theorem actsP_good {c : Nat → Int32} {e : Nat} (he : Ends c e) : ∀ m p k f, p ≤ e → e - p < m → (∀ j, j < k → acOK (f j)) → (actsP c e m p k f).2.1 ≤ e ∧ (actsP c e m p k f).2.2.1 + p ≤ k + e ∧ (∀ j, j < (actsP c e m p k f).2.2.1 → acOK ((actsP c e m p k f).2.2.2 j)) ∧ ((actsP c e m p k f).1 = true → (actsP c e m p k f).2.1 = e) := by
  intro m
  induction m with
  | zero => intro p k f hp h; omega
  | succ m ih =>
    intro p k f hp hm hf
    unfold actsP
    by_cases h8 : e ≤ p
    · rw [if_pos h8]
      exact ⟨hp, by dsimp only; omega, hf, fun _ => by dsimp only; omega⟩
    · rw [if_neg h8]
      have g := actP_good he hp
      rcases hl : actP c p with ⟨z, q⟩
      rw [hl] at g
      obtain ⟨g1, g2, g3⟩ := g
      dsimp only at g1 g2
      cases z with
      | none => exact ⟨g2, by dsimp only; omega, hf, fun z => by cases z⟩
      | some l =>
        obtain ⟨g4, g5⟩ := g3 l rfl
        dsimp only at g5 ⊢
        have hf' : ∀ j, j < k + 1 → acOK (up1 f k l j) := fun j hj => by
          unfold up1
          by_cases ej : j = k
          · rw [if_pos ej]; exact g4
          · rw [if_neg ej]; exact hf j (by omega)
        have := ih q (k + 1) (up1 f k l) g2 (by omega) hf'
        exact ⟨this.1, by omega, this.2.2.1, this.2.2.2⟩
def AcC (σ : Hp) (j : Nat) (l : AC) : Prop := hi σ 21 j = l.1 ∧ hi σ 22 j = l.2.1 ∧ (l.1 = 103 ∨ l.1 = 120 → hi σ 23 j = l.2.2)
def AcM (σ : Hp) (j : Nat) (l : AC) : Prop := hi σ 53 (3 * j) = l.1 ∧ hi σ 53 (3 * j + 1) = l.2.1 ∧ (l.1 = 103 ∨ l.1 = 120 → hi σ 53 (3 * j + 2) = l.2.2)
section cacts
variable {σ τ υ : Hp} {c : Nat → Int32} {e p k : Nat} {D F G : List Nat}
theorem CS.fr (h : CS σ c e p) (f : Fr D F G σ τ) (q1 : okS F G = true) (q2 : dn D F G 0 11 = true) (q3 : dn D F G 0 12 = true) (q4 : D.contains 10 = false) : CS τ c e p := ⟨f.sh h.1 q1, h.2.1, h.2.2.1, h.2.2.2.1, (f.i q2).trans h.2.2.2.2.1, (f.i q3).trans h.2.2.2.2.2.1, fun q hq => ⟨(f.i (dn_out q4 (by decide) (by decide))).trans (h.2.2.2.2.2.2 q hq).1, (h.2.2.2.2.2.2 q hq).2⟩⟩
theorem c_rdAct (cs : CS σ c e p) (hp : p < e) (e34 : hi σ 0 34 = nI k) (k60 : k < 60) : wp (f_X1_readsAct (some 0) σ) (fun x τ => Fr [21, 22, 23] [11, 34] [] σ τ ∧ CS τ c e (actP c p).2 ∧ (∀ i, i < k → hi τ 21 i = hi σ 21 i ∧ hi τ 22 i = hi σ 22 i ∧ hi τ 23 i = hi σ 23 i) ∧ (match (actP c p).1 with
    | none => x = 0
    | some l => x = 1 ∧ hi τ 0 34 = nI (k + 1) ∧ AcC τ k l)) := by
  have e80 := cs.2.2.1
  have o0 := so_0 cs.1
  have pl := (pl_ops cs.val).2.2.2
  generalize hQ : (fun (x : Int32) τ => Fr [21, 22, 23] [11, 34] [] σ τ ∧ CS τ c e (actP c p).2 ∧ (∀ i, i < k → hi τ 21 i = hi σ 21 i ∧ hi τ 22 i = hi σ 22 i ∧ hi τ 23 i = hi σ 23 i) ∧ (match (actP c p).1 with
    | none => x = 0
    | some l => x = 1 ∧ hi τ 0 34 = nI (k + 1) ∧ AcC τ k l)) = Q
  unfold f_X1_readsAct
  rw [wp_gI, e34]
  refine ⟨o0, ?_⟩
  rw [wp_ob]
  refine ⟨o0, ?_⟩
  rw [c_among' cs (by decide), e_bnd]
  by_cases h1 : isAct (c p)
  · have hn : 0 ≤ plI 7 (c p) := Int32.not_lt.mp (fun z => pl.mp z h1)
    rw [if_pos hn, wp_gR, sp_0_9 cs.1]
    refine ⟨o0, ?_⟩
    rw [wp_gI, cs.2.2.2.2.1]
    refine ⟨o0, ?_⟩
    rw [wp_lI, ix_nI (by omega), sl_10 cs.1, inb_nI (by omega), (cs.2.2.2.2.2.2 p hp).1]
    refine ⟨⟨so_10 cs.1, by omega⟩, ?_⟩
    rw [wp_gR, sp_0_31 cs.1]
    refine ⟨o0, ?_⟩
    rw [wp_sI, ix_nI (by omega), sl_21 cs.1, inb_nI (by omega)]
    refine ⟨⟨so_21 cs.1, k60⟩, ?_⟩
    have g1 : Fr [21, 22, 23] [11, 34] [] σ (wI σ 21 k (c p)) := Fr.refl.putI rfl
    have gg : Fr [21] [] [] σ (wI σ 21 k (c p)) := Fr.refl.putI rfl
    have cs1 := cs.fr gg rfl rfl rfl rfl
    have a1 : hi (wI σ 21 k (c p)) 21 k = c p := hi_eq
    have k1 : ∀ i, i < k → hi (wI σ 21 k (c p)) 21 i = hi σ 21 i ∧ hi (wI σ 21 k (c p)) 22 i = hi σ 22 i ∧ hi (wI σ 21 k (c p)) 23 i = hi σ 23 i := fun i hi' => ⟨hi_ni (by omega), by rw [hi_ne (by decide)], by rw [hi_ne (by decide)]⟩
    have b1 : hi (wI σ 21 k (c p)) 0 34 = nI k := (gg.i rfl).trans e34
    generalize wI σ 21 k (c p) = σ1 at *
    rw [wp_gI, cs1.2.2.2.2.1]
    refine ⟨so_0 cs1.1, ?_⟩
    rw [wp_pI]
    refine ⟨so_0 cs1.1, rfl, ?_⟩
    have cs2 := cs1.go (q := p + 1) hp
    rw [nI_1, show wI σ1 0 11 (nI (p + 1)) = atC σ1 (p + 1) from rfl, wp_gI, show hi (atC σ1 (p + 1)) 0 34 = nI k from (atC_fr.i rfl).trans b1]
    refine ⟨so_0 cs2.1, ?_⟩
    rw [wp_pI]
    refine ⟨so_0 cs2.1, rfl, ?_⟩
    rw [nI_1]
    have g3 : Fr [21, 22, 23] [11, 34] [] σ (wI (atC σ1 (p + 1)) 0 34 (nI (k + 1))) := (g1.trans (atC_fr.mono rfl)).putI rfl
    have gh : Fr [] [11, 34] [] σ1 (wI (atC σ1 (p + 1)) 0 34 (nI (k + 1))) := (atC_fr.mono rfl).putI rfl
    have cs3 := cs2.fr (show Fr [] [34] [] (atC σ1 (p + 1)) (wI (atC σ1 (p + 1)) 0 34 (nI (k + 1))) from Fr.refl.putI rfl) rfl rfl rfl rfl
    have b3 : hi (wI (atC σ1 (p + 1)) 0 34 (nI (k + 1))) 0 34 = nI (k + 1) := hi_eq
    have a3 := (gh.i (a := 21) (i := k) rfl).trans a1
    have k3 : ∀ i, i < k → hi (wI (atC σ1 (p + 1)) 0 34 (nI (k + 1))) 21 i = hi σ 21 i ∧ hi (wI (atC σ1 (p + 1)) 0 34 (nI (k + 1))) 22 i = hi σ 22 i ∧ hi (wI (atC σ1 (p + 1)) 0 34 (nI (k + 1))) 23 i = hi σ 23 i := fun i hi' => ⟨(gh.i rfl).trans (k1 i hi').1, (gh.i rfl).trans (k1 i hi').2.1, (gh.i rfl).trans (k1 i hi').2.2⟩
    generalize wI (atC σ1 (p + 1)) 0 34 (nI (k + 1)) = σ3 at *
    clear k1 a1 b1 g1 gg gh cs1 cs2
    rw [wp_gR, sp_0_32 cs3.1]
    refine ⟨so_0 cs3.1, ?_⟩
    rw [wp_ob]
    refine ⟨so_0 cs3.1, ?_⟩
    by_cases h2 : isDig (c (p + 1))
    · have hlt := cs3.2.1.lt rfl (dig_ne h2)
      have en := c_number cs3 (k := 1) (by decide) h2
      have ep : pNum c 1 0 (p + 1) = (c (p + 1) - 48, p + 2) := by
        show (if isDig (c (p + 1)) then (10 * 0 + (c (p + 1) - 48), p + 1 + 1) else _) = _
        rw [if_pos h2, i32_z]
      rw [ep, show nI 1 = (1 : Int32) from rfl] at en
      have cs4 := cs3.go (q := p + 2) hlt
      obtain ⟨d, d9, ed⟩ := dig9 h2
      rw [en, e_bnd, ed]
      dsimp only
      rw [wp_sI, ix_nI (by omega), sl_22 cs4.1, inb_nI (by omega)]
      refine ⟨⟨so_22 cs4.1, k60⟩, ?_⟩
      have g5 : Fr [21, 22, 23] [11, 34] [] σ (wI (atC σ3 (p + 2)) 22 k (nI d)) := (g3.trans (atC_fr.mono rfl)).putI rfl
      have gg : Fr [22] [] [] (atC σ3 (p + 2)) (wI (atC σ3 (p + 2)) 22 k (nI d)) := Fr.refl.putI rfl
      have cs5 := cs4.fr gg rfl rfl rfl rfl
      have b5 : hi (wI (atC σ3 (p + 2)) 22 k (nI d)) 0 34 = nI (k + 1) := (gg.i rfl).trans ((atC_fr.i rfl).trans b3)
      have a5 : hi (wI (atC σ3 (p + 2)) 22 k (nI d)) 21 k = c p := (gg.i rfl).trans ((atC_fr.i rfl).trans a3)
      have d5 : hi (wI (atC σ3 (p + 2)) 22 k (nI d)) 22 k = nI d := hi_eq
      have k5 : ∀ i, i < k → hi (wI (atC σ3 (p + 2)) 22 k (nI d)) 21 i = hi σ 21 i ∧ hi (wI (atC σ3 (p + 2)) 22 k (nI d)) 22 i = hi σ 22 i ∧ hi (wI (atC σ3 (p + 2)) 22 k (nI d)) 23 i = hi σ 23 i := fun i hi' => ⟨(gg.i rfl).trans ((atC_fr.i rfl).trans (k3 i hi').1), (hi_ni (by omega)).trans ((atC_fr.i rfl).trans (k3 i hi').2.1), (gg.i rfl).trans ((atC_fr.i rfl).trans (k3 i hi').2.2)⟩
      generalize wI (atC σ3 (p + 2)) 22 k (nI d) = σ5 at *
      clear k3 a3 b3 g3 gg cs3 cs4 en ep
      rw [wp_gR, sp_0_32 cs5.1]
      refine ⟨so_0 cs5.1, ?_⟩
      rw [wp_lI, ix_nI (by omega), sl_22 cs5.1, inb_nI (by omega), d5]
      refine ⟨⟨so_22 cs5.1, k60⟩, ?_⟩
      rw [y_jn, if_neg (nI_pos (by omega))]
      have j14 : c p = 110 ∨ c p = 105 → wp (gR 0 32 σ5 (some 0) fun y15 => lI 100 σ5 y15 (nI k) fun x16 => if x16 < 0 then rz1 0 σ5 else rz1 1 σ5) Q := fun h3 => by
        rw [wp_gR, sp_0_32 cs5.1]
        refine ⟨so_0 cs5.1, ?_⟩
        rw [wp_lI, ix_nI (by omega), sl_22 cs5.1, inb_nI (by omega), d5]
        refine ⟨⟨so_22 cs5.1, k60⟩, ?_⟩
        have eP : actP c p = (some (c p, nI d, 0), p + 2) := by
          unfold actP
          rw [if_pos h1, if_pos h2, if_pos h3, ed]
        rw [if_neg (nI_pos (by omega)), wp_r1, ← hQ, eP]
        exact ⟨g5, cs5, k5, rfl, b5, a5, d5, fun z => by rcases h3 with h3 | h3 <;> rcases z with z | z <;> (have z' : c p = _ := z; rw [h3] at z'; exact absurd z' (by decide))⟩
      by_cases h110 : c p = 110
      · rw [if_pos h110]; exact j14 (Or.inl h110)
      · rw [if_neg h110]
        by_cases h105 : c p = 105
        · rw [if_pos h105]; exact j14 (Or.inr h105)
        · have n3 : ¬ (c p = 110 ∨ c p = 105) := fun z => by rcases z with z | z; exact h110 z; exact h105 z
          rw [if_neg h105, y_jn]
          -- a digit is wanted
          have tail0 : ¬ (c p = 103 ∧ c (p + 2) = 45) → wp (gR 0 33 σ5 (some 0) fun y19 => jn (fun (a20 : Int32) σ => sI σ y19 (nI k) a20 fun σ => if (0 : Int32) = 0 then gR 0 33 σ (some 0) fun y22 => lI 100 σ y22 (nI k) fun x23 => if x23 < 0 then rz1 0 σ else rz1 1 σ else rz1 1 σ) fun j21 => if (0 : Int32) = 0 then ob 0 σ5 (some 0) fun _ => bnd (f_X1_number (some 0) 1 σ5) fun x24 σ => j21 x24 σ else j21 (-1) σ5) Q := fun n4 => by
            rw [wp_gR, sp_0_33 cs5.1]
            refine ⟨so_0 cs5.1, ?_⟩
            rw [y_jn, if_pos rfl, wp_ob]
            refine ⟨so_0 cs5.1, ?_⟩
            by_cases h5 : isDig (c (p + 2))
            · have hlt2 := cs5.2.1.lt rfl (dig_ne h5)
              have en := c_number cs5 (k := 1) (by decide) h5
              have ep : pNum c 1 0 (p + 2) = (c (p + 2) - 48, p + 3) := by
                show (if isDig (c (p + 2)) then (10 * 0 + (c (p + 2) - 48), p + 2 + 1) else _) = _
                rw [if_pos h5, i32_z]
              rw [ep, show nI 1 = (1 : Int32) from rfl] at en
              have cs6 := cs5.go (q := p + 3) hlt2
              obtain ⟨d', d9', ed'⟩ := dig9 h5
              rw [en, e_bnd, ed']
              dsimp only
              rw [wp_sI, ix_nI (by omega), sl_23 cs6.1, inb_nI (by omega)]
              refine ⟨⟨so_23 cs6.1, k60⟩, ?_⟩
              have gg : Fr [23] [] [] (atC σ5 (p + 3)) (wI (atC σ5 (p + 3)) 23 k (nI d')) := Fr.refl.putI rfl
              have cs7 := cs6.fr gg rfl rfl rfl rfl
              have g7 : Fr [21, 22, 23] [11, 34] [] σ (wI (atC σ5 (p + 3)) 23 k (nI d')) := (g5.trans (atC_fr.mono rfl)).putI rfl
              rw [if_pos rfl, wp_gR, sp_0_33 cs7.1]
              refine ⟨so_0 cs7.1, ?_⟩
              rw [wp_lI, ix_nI (by omega), sl_23 cs7.1, inb_nI (by omega), hi_eq]
              refine ⟨⟨so_23 cs7.1, k60⟩, ?_⟩
              have eP : actP c p = (some (c p, nI d, nI d'), p + 3) := by
                unfold actP
                rw [if_pos h1, if_pos h2, if_neg n3, if_neg n4, if_pos h5, ed, ed']
              rw [if_neg (nI_pos (by omega)), wp_r1, ← hQ, eP]
              exact ⟨g7, cs7, fun i hi' => ⟨(gg.i rfl).trans ((atC_fr.i rfl).trans (k5 i hi').1), (gg.i rfl).trans ((atC_fr.i rfl).trans (k5 i hi').2.1), (hi_ni (by omega)).trans ((atC_fr.i rfl).trans (k5 i hi').2.2)⟩, rfl, (gg.i rfl).trans ((atC_fr.i rfl).trans b5), (gg.i rfl).trans ((atC_fr.i rfl).trans a5), (gg.i rfl).trans ((atC_fr.i rfl).trans d5), fun _ => hi_eq⟩
            · rw [c_numberNot cs5 h5, e_bnd, wp_sI, ix_nI (by omega), sl_23 cs5.1, inb_nI (by omega)]
              refine ⟨⟨so_23 cs5.1, k60⟩, ?_⟩
              have gg : Fr [23] [] [] σ5 (wI σ5 23 k (-1)) := Fr.refl.putI rfl
              have cs7 := cs5.fr gg rfl rfl rfl rfl
              rw [if_pos rfl, wp_gR, sp_0_33 cs7.1]
              refine ⟨so_0 cs7.1, ?_⟩
              rw [wp_lI, ix_nI (by omega), sl_23 cs7.1, inb_nI (by omega), hi_eq]
              refine ⟨⟨so_23 cs7.1, k60⟩, ?_⟩
              have eP : actP c p = (none, p + 2) := by
                unfold actP
                rw [if_pos h1, if_pos h2, if_neg n3, if_neg n4, if_neg h5]
              rw [if_pos (by decide), wp_r0, ← hQ, eP]
              exact ⟨g5.putI rfl, cs7, fun i hi' => ⟨(gg.i rfl).trans (k5 i hi').1, (gg.i rfl).trans (k5 i hi').2.1, (hi_ni (by omega)).trans (k5 i hi').2.2⟩, rfl⟩
          by_cases h103 : c p = 103
          · rw [if_pos h103, wp_ob]
            refine ⟨so_0 cs5.1, ?_⟩
            rw [c_takes cs5 (by decide), e_bnd]
            by_cases h45 : c (p + 2) = 45
            · have hlt2 := cs5.2.1.lt h45 (by decide)
              have cs6 := cs5.go (q := p + 3) hlt2
              rw [b2, if_pos h45, if_pos h45, if_neg (by decide), wp_gR]
              rw [show p + 2 + 1 = p + 3 from rfl, sp_0_33 cs6.1]
              refine ⟨so_0 cs6.1, ?_⟩
              rw [y_jn, if_neg (by decide), wp_sI, ix_nI (by omega), sl_23 cs6.1, inb_nI (by omega)]
              refine ⟨⟨so_23 cs6.1, k60⟩, ?_⟩
              have gg : Fr [23] [] [] (atC σ5 (p + 3)) (wI (atC σ5 (p + 3)) 23 k (-1)) := Fr.refl.putI rfl
              have cs7 := cs6.fr gg rfl rfl rfl rfl
              have g7 : Fr [21, 22, 23] [11, 34] [] σ (wI (atC σ5 (p + 3)) 23 k (-1)) := (g5.trans (atC_fr.mono rfl)).putI rfl
              have eP : actP c p = (some (c p, nI d, -1), p + 3) := by
                unfold actP
                rw [if_pos h1, if_pos h2, if_neg n3, if_pos ⟨h103, h45⟩, ed]
              rw [if_neg (by decide), wp_r1, ← hQ, eP]
              exact ⟨g7, cs7, fun i hi' => ⟨(gg.i rfl).trans ((atC_fr.i rfl).trans (k5 i hi').1), (gg.i rfl).trans ((atC_fr.i rfl).trans (k5 i hi').2.1), (hi_ni (by omega)).trans ((atC_fr.i rfl).trans (k5 i hi').2.2)⟩, rfl, (gg.i rfl).trans ((atC_fr.i rfl).trans b5), (gg.i rfl).trans ((atC_fr.i rfl).trans a5), (gg.i rfl).trans ((atC_fr.i rfl).trans d5), fun _ => hi_eq⟩
            · rw [b2, if_neg h45, if_neg h45, if_pos rfl]
              exact tail0 (fun z => h45 z.2)
          · rw [if_neg h103]
            exact tail0 (fun z => h103 z.1)
    · rw [c_numberNot cs3 h2, e_bnd, wp_sI, ix_nI (by omega), sl_22 cs3.1, inb_nI (by omega)]
      refine ⟨⟨so_22 cs3.1, k60⟩, ?_⟩
      have gg : Fr [22] [] [] σ3 (wI σ3 22 k (-1)) := Fr.refl.putI rfl
      have cs7 := cs3.fr gg rfl rfl rfl rfl
      rw [wp_gR, sp_0_32 cs7.1]
      refine ⟨so_0 cs7.1, ?_⟩
      rw [wp_lI, ix_nI (by omega), sl_22 cs7.1, inb_nI (by omega), hi_eq]
      refine ⟨⟨so_22 cs7.1, k60⟩, ?_⟩
      rw [y_jn, if_pos (by decide), wp_gR, sp_0_32 cs7.1]
      refine ⟨so_0 cs7.1, ?_⟩
      rw [wp_lI, ix_nI (by omega), sl_22 cs7.1, inb_nI (by omega), hi_eq]
      refine ⟨⟨so_22 cs7.1, k60⟩, ?_⟩
      have eP : actP c p = (none, p + 1) := by
        unfold actP
        rw [if_pos h1, if_neg h2]
      rw [if_pos (by decide), wp_r0, ← hQ, eP]
      exact ⟨g3.putI rfl, cs7, fun i hi' => ⟨(gg.i rfl).trans (k3 i hi').1, (hi_ni (by omega)).trans (k3 i hi').2.1, (gg.i rfl).trans (k3 i hi').2.2⟩, rfl⟩
  · have hn : ¬ 0 ≤ plI 7 (c p) := fun z => Int32.not_lt.mpr z (pl.mpr h1)
    have eP : actP c p = (none, p) := by
      unfold actP
      rw [if_neg h1]
    rw [if_neg hn, wp_r0, ← hQ, eP]
    exact ⟨Fr.refl, cs, fun i _ => ⟨rfl, rfl, rfl⟩, rfl⟩
end cacts
