/-! PURE 13: a night looked through -/
def up1 {α : Type} (f : Nat → α) (i : Nat) (v : α) : Nat → α := fun j => if j = i then v else f j
theorem up1_eq {α : Type} {f : Nat → α} {i : Nat} {v : α} : up1 f i v i = v := if_pos rfl
theorem up1_ne {α : Type} {f : Nat → α} {i j : Nat} {v : α} (h : j ≠ i) : up1 f i v j = f j := if_neg h
def absd (x y : Nat) : Nat := if x ≤ y then y - x else x - y
theorem absd_nI {x y : Nat} (hx : x ≤ 9) (hy : y ≤ 9) : iabs (nI x - nI y) = nI (absd x y) := by
  have : ∀ x, x < 10 → ∀ y, y < 10 → iabs (nI x - nI y) = nI (absd x y) := by decide +kernel
  exact this x (by omega) y (by omega)
/-- whether the hour is ridden, so much being ridden before -/
def isRd (P : Pk) (a : HS) (rode : Nat → Nat) (h : Nat) : Bool := decide (¬ a.rota h < 0) && (P.can (ix (a.rota h))).testBit h && !(a.ill.testBit (ix (a.rota h))) && decide (rode (ix (a.rota h)) < P.most (ix (a.rota h)))
def isWd (P : Pk) (a : HS) (last : Int32) (h : Nat) : Bool := decide (¬ last < 0) && decide (¬ last = a.rota h) && decide (P.beats < absd (P.width (ix last)) (P.width (ix (a.rota h))))
/-- last, gaps, ridden, how often each rode, how hard it was, after so many hours -/
abbrev RS : Type := Int32 × Nat × Nat × (Nat → Nat) × (Nat → Int32)
def rdS (P : Pk) (a : HS) : Nat → RS
  | 0 => (-1, 0, 0, fun _ => 0, fun _ => 0)
  | h + 1 => if isRd P a (rdS P a h).2.2.2.1 h then
      (a.rota h, (rdS P a h).2.1 ||| (if isWd P a (rdS P a h).1 h then 2 ^ h else 0), (rdS P a h).2.2.1 ||| 2 ^ h, up1 (rdS P a h).2.2.2.1 (ix (a.rota h)) ((rdS P a h).2.2.2.1 (ix (a.rota h)) + 1), up1 (rdS P a h).2.2.2.2 (ix (a.rota h)) ((rdS P a h).2.2.2.2 (ix (a.rota h)) + hardI P a (ix (a.rota h)) h))
    else (-1, (rdS P a h).2.1 ||| 2 ^ h, (rdS P a h).2.2.1, (rdS P a h).2.2.2.1, (rdS P a h).2.2.2.2)
def gapN (P : Pk) (a : HS) : Nat := (rdS P a P.hrs).2.1
def ridN (P : Pk) (a : HS) : Nat := (rdS P a P.hrs).2.2.1
def goN (P : Pk) (a : HS) : HS := (a.rota, (fun r => if r < P.n then (if (rdS P a P.hrs).2.2.2.1 r = 0 then imax 0 (a.tired r - 5) else imin 99 (a.tired r + (rdS P a P.hrs).2.2.2.2 r)) else a.tired r), a.ill, a.night + 1, a.gaps + nI (pop (gapN P a)), a.rid + nI (pop (ridN P a)))
section night
variable {σ τ : Hp} {P : Pk} {a : HS} {s r h : Nat}
theorem or_pow_lt {x h : Nat} (hx : x < 2 ^ h) : x ||| 2 ^ h < 2 ^ (h + 1) := Nat.or_lt_two_pow (Nat.lt_of_lt_of_le hx (Nat.pow_le_pow_right (by decide) (Nat.le_succ _))) (Nat.pow_lt_pow_right (by decide) (Nat.lt_succ_self _))
theorem rdS_ok (hok : HOK P.n a) : ∀ h, h ≤ 8 → okR P.n (rdS P a h).1 ∧ (rdS P a h).2.1 < 2 ^ h ∧ (rdS P a h).2.2.1 < 2 ^ h ∧ ∀ r, (rdS P a h).2.2.2.1 r ≤ h := by
  intro h
  induction h with
  | zero => intro _; exact ⟨Or.inl rfl, by show 0 < 1; decide, by show 0 < 1; decide, fun r => Nat.le_refl _⟩
  | succ h ih =>
    intro h8
    obtain ⟨i1, i2, i3, i4⟩ := ih (by omega)
    unfold rdS
    split
    · refine ⟨hok.2 h (by omega), ?_, or_pow_lt i3, fun r => ?_⟩
      · dsimp only
        split
        · exact or_pow_lt i2
        · rw [Nat.or_zero]; exact Nat.lt_of_lt_of_le i2 (Nat.pow_le_pow_right (by decide) (Nat.le_succ _))
      · dsimp only
        unfold up1
        have := i4 r
        split
        · rename_i e; subst e; omega
        · omega
    · refine ⟨Or.inl rfl, or_pow_lt i2, Nat.lt_of_lt_of_le i3 (Nat.pow_le_pow_right (by decide) (Nat.le_succ _)), fun r => ?_⟩
      have := i4 r
      dsimp only
      omega
theorem pow_le8 {h : Nat} (h8 : h ≤ 8) : 2 ^ h ≤ 256 := by
  have : ∀ h, h < 9 → 2 ^ h ≤ 256 := by decide
  exact this h (by omega)
theorem gapN_lt (pk : POK P) (hok : HOK P.n a) : gapN P a < 256 := Nat.lt_of_lt_of_le (rdS_ok hok P.hrs pk.2.1.2).2.1 (pow_le8 pk.2.1.2)
theorem ridN_lt (pk : POK P) (hok : HOK P.n a) : ridN P a < 256 := Nat.lt_of_lt_of_le (rdS_ok hok P.hrs pk.2.1.2).2.2.1 (pow_le8 pk.2.1.2)
theorem goN_ok (hok : HOK P.n a) : HOK P.n (goN P a) := hok
theorem ill_lt {n : Nat} (hn' : n ≤ 8) (hok : HOK n a) : a.ill < 256 := Nat.lt_of_lt_of_le hok.1 (pow_le8 hn')
theorem isRd_none {rode : Nat → Nat} (e : a.rota h = -1) : isRd P a rode h = false := by
  unfold isRd; rw [e]; rfl
theorem isWd_none {l : Int32} (e : l = -1) : isWd P a l h = false := by
  unfold isWd; rw [e]; rfl
theorem c_rides (hs : Sh σ) (hp : CP σ P) (pk : POK P) (ha : CH σ s a) (hok : HOK P.n a) (hs1 : s = 1 ∨ s = 4) : wp (f_X1_rides (some 0) (some s) σ) (fun _ τ => Fr [18, 19] [18, 19, 20, 28, 29] [] σ τ ∧ hi τ 0 28 = nI (gapN P a) ∧ hi τ 0 29 = nI (ridN P a) ∧ ∀ r, r < P.n → hi τ 18 r = nI ((rdS P a P.hrs).2.2.2.1 r) ∧ hi τ 19 r = (rdS P a P.hrs).2.2.2.2 r) := by
  have n8 := pk.1
  unfold f_X1_rides
  rw [wp_pI]
  refine ⟨so_0 hs, rfl, ?_⟩
  rw [wp_pI]
  refine ⟨so_0 hs, rfl, ?_⟩
  refine wp_up P.n (fun i x τ => x = nI i ∧ Fr [18, 19] [18, 19, 20, 28, 29] [] σ τ ∧ hi τ 0 28 = 0 ∧ hi τ 0 29 = 0 ∧ ∀ r, r < i → hi τ 18 r = 0 ∧ hi τ 19 r = 0) (fun ag i x τ hi' hJ hag => ?_) (fun ag x τ hJ => ?_) (by omega) ⟨rfl, (Fr.refl.putI rfl).putI rfl, rfl, rfl, fun r hr' => by omega⟩
  · obtain ⟨rfl, f, j1, j2, j3⟩ := hJ
    have hsτ : Sh τ := f.sh hs rfl
    have hpτ : CP τ P := hp.fr hs f rfl rfl
    unfold f_X1_rides_b12
    rw [wp_gI, hpτ.1, if_neg (nI_ge hi' (by omega))]
    simp (disch := omega) only [wp_gR, wp_sI, sp_0_26 hsτ, sp_0_27 hsτ, so_0 hsτ, so_18 hsτ, so_19 hsτ, sl_18 hsτ, sl_19 hsτ, inb_nI, ix_nI, Ok_wI, hk_wI, hr_wI, true_and]
    refine ⟨by omega, by omega, ?_⟩
    rw [nI_1]
    refine hag _ _ ⟨rfl, (f.putI rfl).putI rfl, j1, j2, fun r hr' => ?_⟩
    by_cases e : r = i
    · subst e
      exact ⟨by rw [hi_ne (by decide), hi_eq], by rw [hi_eq]⟩
    · obtain ⟨k1, k2⟩ := j3 r (by omega)
      exact ⟨by rw [hi_ne (by decide), hi_ni e]; exact k1, by rw [hi_ni e, hi_ne (by decide)]; exact k2⟩
  · obtain ⟨rfl, f, j1, j2, j3⟩ := hJ
    have hsτ : Sh τ := f.sh hs rfl
    have hpτ : CP τ P := hp.fr hs f rfl rfl
    unfold f_X1_rides_b12
    rw [wp_gI, hpτ.1, if_pos (nI_le (Nat.le_refl _) (by omega))]
    refine ⟨so_0 hsτ, ?_⟩
    refine wp_up P.hrs (fun i x τ => x = ((rdS P a i).1, nI i) ∧ Fr [18, 19] [18, 19, 20, 28, 29] [] σ τ ∧ hi τ 0 28 = nI (rdS P a i).2.1 ∧ hi τ 0 29 = nI (rdS P a i).2.2.1 ∧ ∀ r, r < P.n → hi τ 18 r = nI ((rdS P a i).2.2.2.1 r) ∧ hi τ 19 r = (rdS P a i).2.2.2.2 r) (fun ag i x τ hi' hJ hag => ?_) (fun ag x τ hJ => ?_) (by have := pk.2.1.2; omega) ⟨rfl, f, j1, j2, j3⟩
    · obtain ⟨rfl, f, j1, j2, j3⟩ := hJ
      have hsτ : Sh τ := f.sh hs rfl
      have hpτ : CP τ P := hp.fr hs f rfl rfl
      have h8 := pk.2.1.2
      have haτ : CH τ s a := by
        rcases hs1 with rfl | rfl
        · exact ha.fr f (by decide) (by decide) rfl rfl rfl
        · exact ha.fr f (by decide) (by decide) rfl rfl rfl
      obtain ⟨⟨q1, q2, q3, q4, q5, q6, q7⟩, q8, q9, q10, q11, q12, q13⟩ := haτ
      have hro := hok.2 i (by omega)
      obtain ⟨hla, hgl, hrl, hrode⟩ := rdS_ok hok i (by omega)
      have hill := ill_lt n8 hok
      unfold f_X1_rides_b44
      rw [wp_gI, hpτ.2.1, if_neg (nI_ge hi' (by omega))]
      refine ⟨so_0 hsτ, ?_⟩
      simp (disch := omega) only [wp_gR, wp_lI, q1, q2, q4, q5, inb_nI, ix_nI, true_and, q8]
      refine ⟨by omega, ?_⟩
      refine wp_jn (fun x σ' => x = b2 (isRd P a (rdS P a i).2.2.2.1 i = true) ∧ τ = σ') (fun j hj => ?_) (fun x σ' hx => ?_)
      · rcases hro with e | ⟨r, hr', e⟩
        · rw [e, if_pos (by decide)]
          refine hj _ _ ⟨?_, rfl⟩
          unfold isRd; rw [e]; rfl
        · obtain ⟨m1, m2, m3⟩ := hpτ.2.2.2.1 r hr'
          obtain ⟨g1, g2, g3⟩ := pk.2.2.2 r
          have hk1 : isRd P a (rdS P a i).2.2.2.1 i = ((P.can r).testBit i && !(a.ill.testBit r) && decide ((rdS P a i).2.2.2.1 r < P.most r)) := by
            unfold isRd
            rw [e, ix_nI (by omega), show decide (¬ nI r < 0) = true from decide_eq_true (nI_pos (by omega)), Bool.true_and]
          have hj' := fun x (hx : x = b2 (isRd P a (rdS P a i).2.2.2.1 i = true)) => hj x τ ⟨hx, rfl⟩
          rw [hk1] at hj'
          rw [e, if_neg (nI_pos (by omega))]
          simp (disch := omega) only [wp_gR, wp_gI, wp_lI, wp_bnd, c_has, wp_some, sp_0_4 hsτ, so_0 hsτ, so_9 hsτ, sl_9 hsτ, inb_nI, ix_nI, true_and, m3, q1, q10, b2_ite, bit_nI]
          refine ⟨by omega, ?_⟩
          by_cases t1 : (P.can r).testBit i = true
          · rw [if_pos t1]
            rw [t1] at hj'
            simp (disch := omega) only [wp_gI, wp_bnd, wp_some, true_and, q1, q10, b2_ite, bit_nI]
            by_cases t2 : a.ill.testBit r = true
            · rw [if_pos t2]
              rw [t2] at hj'
              exact hj' _ rfl
            · rw [if_neg t2]
              rw [Bool.eq_false_iff.mpr t2] at hj'
              simp (disch := omega) only [wp_gR, wp_lI, sp_0_26 hsτ, sp_0_2 hsτ, so_0 hsτ, so_18 hsτ, sl_18 hsτ, so_7 hsτ, sl_7 hsτ, inb_nI, ix_nI, true_and, m1, (j3 r hr').1]
              refine ⟨by omega, by omega, ?_⟩
              have := hrode r
              by_cases t3 : (rdS P a i).2.2.2.1 r < P.most r
              · rw [if_neg (nI_ge t3 (by omega))]
                exact hj' _ (by rw [decide_eq_true t3]; rfl)
              · rw [if_pos (nI_le (by omega) (by omega))]
                exact hj' _ (by rw [decide_eq_false t3]; rfl)
          · rw [if_neg t1]
            rw [Bool.eq_false_iff.mpr t1] at hj'
            exact hj' _ rfl
      · obtain ⟨rfl, rfl⟩ := hx
        refine wp_jn (fun y σ' => y = b2 (isRd P a (rdS P a i).2.2.2.1 i = true ∧ isWd P a (rdS P a i).1 i = true) ∧ τ = σ') (fun j hj => ?_) (fun y σ' hy => ?_)
        · rw [b2_ite]
          by_cases hR : isRd P a (rdS P a i).2.2.2.1 i = true
          · have hj' := fun y (hy : y = b2 (isWd P a (rdS P a i).1 i = true)) => hj y τ ⟨by rw [hy]; unfold b2; simp only [hR, true_and], rfl⟩
            rw [if_pos hR]
            rcases hro with e | ⟨r, hr', e⟩
            · exact absurd hR (by rw [isRd_none e]; decide)
            · obtain ⟨m1, m2, m3⟩ := hpτ.2.2.2.1 r hr'
              obtain ⟨g1, g2, g3⟩ := pk.2.2.2 r
              rcases hla with el | ⟨q, hq', el⟩
              · rw [el, if_pos (by decide)]
                exact hj' _ (by rw [isWd_none el]; rfl)
              · obtain ⟨l1, l2, l3⟩ := hpτ.2.2.2.1 q hq'
                obtain ⟨k1, k2, k3⟩ := pk.2.2.2 q
                have hw1 : isWd P a (rdS P a i).1 i = (decide (¬ q = r) && decide (P.beats < absd (P.width q) (P.width r))) := by
                  unfold isWd
                  rw [e, el, ix_nI (by omega), ix_nI (by omega), show decide (¬ nI q < 0) = true from decide_eq_true (nI_pos (by omega)), Bool.true_and]
                  congr 1
                  exact decide_eq_decide.mpr (not_congr (nI_eq (by omega) (by omega)))
                rw [hw1] at hj'
                rw [el, if_neg (nI_pos (by omega)), e]
                by_cases t1 : q = r
                · rw [if_pos (by rw [t1])]
                  exact hj' _ (by rw [decide_eq_false (fun z => z t1)]; rfl)
                · rw [if_neg (by rw [nI_eq (by omega) (by omega)]; exact t1)]
                  simp (disch := omega) only [wp_gR, wp_gI, wp_lI, sp_0_3 hsτ, so_0 hsτ, so_8 hsτ, sl_8 hsτ, inb_nI, ix_nI, true_and, m2, l2, hpτ.2.2.1, absd_nI]
                  refine ⟨by omega, by omega, ?_⟩
                  have hb9 := pk.2.2.1
                  have ha9 : absd (P.width q) (P.width r) ≤ 9 := by unfold absd; split <;> omega
                  by_cases t2 : absd (P.width q) (P.width r) ≤ P.beats
                  · rw [if_pos (nI_le t2 (by omega))]
                    exact hj' _ (by rw [decide_eq_false (show ¬ P.beats < absd (P.width q) (P.width r) by omega), Bool.and_false]; rfl)
                  · rw [if_neg (nI_ge (by omega) (by omega))]
                    exact hj' _ (by rw [decide_eq_true (show P.beats < absd (P.width q) (P.width r) by omega), decide_eq_true t1]; rfl)
          · rw [if_neg hR]
            exact hj _ _ ⟨by unfold b2; rw [if_neg (fun z => hR z.1)], rfl⟩
        · obtain ⟨rfl, rfl⟩ := hy
          have hw31 : 2 ^ i < 2 ^ 31 := Nat.pow_lt_pow_right (by decide) (by omega)
          unfold jn
          by_cases hR : isRd P a (rdS P a i).2.2.2.1 i = true
          · rcases hro with e | ⟨r, hr', e⟩
            · exact absurd hR (by rw [isRd_none e]; decide)
            · obtain ⟨m1, m2, m3⟩ := hpτ.2.2.2.1 r hr'
              obtain ⟨g1, g2, g3⟩ := pk.2.2.2 r
              have hst : rdS P a (i + 1) = (nI r, (rdS P a i).2.1 ||| (if isWd P a (rdS P a i).1 i then 2 ^ i else 0), (rdS P a i).2.2.1 ||| 2 ^ i, up1 (rdS P a i).2.2.2.1 r ((rdS P a i).2.2.2.1 r + 1), up1 (rdS P a i).2.2.2.2 r ((rdS P a i).2.2.2.2 r + hardI P a r i)) := by
                show (if isRd P a (rdS P a i).2.2.2.1 i then _ else _) = _
                rw [if_pos hR, e, ix_nI (by omega)]
              simp only [b2_ite, hR, true_and, if_true, e, shl_1 (show i < 31 by omega)]
              rw [wp_gI, j1]
              refine ⟨so_0 hsτ, ?_⟩
              have haτ : CH τ s a := ⟨⟨q1, q2, q3, q4, q5, q6, q7⟩, q8, q9, q10, q11, q12, q13⟩
              have hW : ∀ g, g = (if isWd P a (rdS P a i).1 i then 2 ^ i else 0) → wp (pI 0 0 28 τ (some 0) (nI (rdS P a i).2.1 ||| nI g) fun σ =>
                gI 0 29 σ (some 0) fun x15 => pI 0 0 29 σ (some 0) (x15 ||| nI (2 ^ i)) fun σ =>
                gR 0 26 σ (some 0) fun y22 => lI 100 σ y22 (nI r) fun x23 => sI σ y22 (nI r) (x23 + 1) fun σ =>
                gR 0 27 σ (some 0) fun y24 => lI 100 σ y24 (nI r) fun x25 => ob 0 σ (some 0) fun x =>
                bnd (f_X1_hardOf (some 0) (some s) (nI r) (nI i) σ) fun x26 σ => sI σ y24 (nI r) (x25 + x26) fun σ => ag (nI r, nI i + 1) σ) (fun _ τ => Fr [18, 19] [18, 19, 20, 28, 29] [] σ τ ∧ hi τ 0 28 = nI (gapN P a) ∧ hi τ 0 29 = nI (ridN P a) ∧ ∀ r, r < P.n → hi τ 18 r = nI ((rdS P a P.hrs).2.2.2.1 r) ∧ hi τ 19 r = (rdS P a P.hrs).2.2.2.2 r) := by
                intro g hg
                simp (disch := omega) only [wp_pI, okv0, wp_gI, wp_gR, wp_lI, wp_sI, wp_ob, sp_0_26 hsτ, sp_0_27 hsτ, so_0 hsτ, so_18 hsτ, so_19 hsτ, sl_18 hsτ, sl_19 hsτ, inb_nI, ix_nI, Ok_wI, hk_wI, hr_wI, true_and, hi_ne, hi_ni, j2, (j3 r hr').1, (j3 r hr').2, nI_or, shl_1, nI_1]
                refine ⟨by omega, by omega, by omega, ?_⟩
                generalize hυ : wI (wI (wI τ 0 28 (nI ((rdS P a i).2.1 ||| g))) 0 29 (nI ((rdS P a i).2.2.1 ||| 2 ^ i))) 18 r (nI ((rdS P a i).2.2.2.1 r + 1)) = υ
                have fυ : Fr [18, 19] [18, 19, 20, 28, 29] [] τ υ := by rw [← hυ]; exact ((Fr.refl.putI rfl).putI rfl).putI rfl
                have hsυ : Sh υ := fυ.sh hsτ rfl
                have haυ : CH υ s a := by
                  rcases hs1 with rfl | rfl
                  · exact haτ.fr fυ (by decide) (by decide) rfl rfl rfl
                  · exact haτ.fr fυ (by decide) (by decide) rfl rfl rfl
                rw [c_hardOf hsυ (hpτ.fr hsτ fυ rfl rfl) pk haυ (by omega) hr' (by omega), e_bnd]
                have fω : Fr [18, 19] [18, 19, 20, 28, 29] [] υ (asked υ s r i) := asked_fr.mono rfl
                have hsω : Sh (asked υ s r i) := asked_sh hsυ
                simp (disch := omega) only [wp_sI, so_19 hsω, sl_19 hsω, inb_nI, ix_nI, true_and]
                refine ⟨by omega, hag _ _ ⟨by rw [hst], (f.trans (fυ.trans fω)).putI rfl, ?_, ?_, fun r' hr'' => ?_⟩⟩
                · rw [hst, hi_ne (by decide), asked_fr.i (σ := υ) rfl, ← hυ, hi_ne (by decide), hi_ni (by decide), hi_eq, hg]
                · rw [hst, hi_ne (by decide), asked_fr.i (σ := υ) rfl, ← hυ, hi_ne (by decide), hi_eq]
                · rw [hst]
                  dsimp only
                  by_cases er : r' = r
                  · subst er
                    rw [up1_eq, up1_eq, hi_ne (by decide), hi_eq, asked_fr.i (σ := υ) rfl, ← hυ, hi_eq]
                    exact ⟨rfl, rfl⟩
                  · rw [up1_ne er, up1_ne er, hi_ne (by decide), hi_ni er, asked_fr.i (σ := υ) rfl, asked_fr.i (σ := υ) rfl, ← hυ, hi_ni er, hi_ne (by decide), hi_ne (by decide), hi_ne (by decide), hi_ne (by decide), hi_ne (by decide)]
                    exact j3 r' hr''
              by_cases hw : isWd P a (rdS P a i).1 i = true
              · rw [if_pos hw]
                exact hW (2 ^ i) (by rw [if_pos hw])
              · rw [if_neg hw]
                exact hW 0 (by rw [if_neg hw])
          · have hst : rdS P a (i + 1) = (-1, (rdS P a i).2.1 ||| 2 ^ i, (rdS P a i).2.2.1, (rdS P a i).2.2.2.1, (rdS P a i).2.2.2.2) := if_neg hR
            simp (disch := omega) only [b2_ite, hR, false_and, if_false, Bool.false_eq_true, wp_pI, okv0, wp_gI, so_0 hsτ, Ok_wI, hk_wI, hr_wI, true_and, hi_ne, hi_ni, j1, j2, nI_or, shl_1, nI_1]
            refine hag _ _ ⟨by rw [hst], (f.putI rfl).putI rfl, ?_, ?_, fun r' hr'' => ?_⟩
            · rw [hst, hi_ni (by decide), hi_eq]
            · rw [hst, hi_eq, n_0, nI_or, Nat.or_zero]
            · rw [hst, hi_ne (by decide), hi_ne (by decide), hi_ne (by decide), hi_ne (by decide)]
              exact j3 r' hr''
    · obtain ⟨rfl, f, j1, j2, j3⟩ := hJ
      have hsτ : Sh τ := f.sh hs rfl
      have hpτ : CP τ P := hp.fr hs f rfl rfl
      unfold f_X1_rides_b44
      rw [wp_gI, hpτ.2.1, if_pos (nI_le (Nat.le_refl _) (by have := pk.2.1.2; omega)), wp_some]
      exact ⟨so_0 hsτ, f, j1, j2, j3⟩
end night
