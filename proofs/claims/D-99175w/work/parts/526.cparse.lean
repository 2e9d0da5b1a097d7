/-! PURE 82: the class reads a rule -/
/-- what a reader of the class's does -/
def CC (g : Hp → Option (Option Nat × Hp)) (th : Nat → PR) (c : Nat → Int32) (e p0 deep : Nat) : Prop := ∀ σ p, CS σ c e p → hi σ 0 13 = nI deep → p0 ≤ p → ∃ y τ, g σ = some (y, τ) ∧ NR σ τ ((th p).2 - p) ∧ hi τ 0 11 = nI (th p).2 ∧ ((th p).1 = none → y = none) ∧ ∀ E, (th p).1 = some E → ∃ a, y = some a ∧ TR τ ((th p).2 - p) a E ∧ hi τ 0 13 = nI deep
section cparse
variable {σ τ υ : Hp} {c : Nat → Int32} {e p p0 deep d : Nat} {th : Nat → PR} {rc0 : (Option Nat) → Int32 → Hp → Option (Option Nat × Hp)} {rc1 : (Option Nat) → Hp → Option (Option Nat × Hp)} {o1 o2 : Int32} {E F : RE}
theorem i2c_nI {k : Nat} (h : k < 256) : i2c (nI k) = nI k ∧ okv 3 (nI k) = true := by
  have : ∀ k, k < 256 → i2c (nI k) = nI k ∧ okv 3 (nI k) = true := by decide +kernel
  exact this k h
/-- an act is made of what was read left and right -/
theorem c_act {l r k : Nat} (hl' : TR τ d l E) (hr' : TR τ d r F) (hk' : k < 256) : ∃ υ, (∀ {β : Type} (K : Option Nat → Hp → Option (β × Hp)), (nO 6 5 τ fun y13 σ => nn y13 <| bnd (f_X8_init y13 (some 0) (i2c (nI k)) (some l) (some r) σ) fun _ σ => K y13 σ) = K (some (hn τ)) υ) ∧ NR τ υ 1 ∧ TR υ (d + 1) (hn τ) (opE (nI k) E F) ∧ (0 < hn τ → hi υ 0 = hi τ 0) := by
  obtain ⟨c1, c2⟩ := i2c_nI hk'
  have ho : Ok (nw τ 6 5) (hn τ) 6 := ⟨Nat.lt_succ_self _, by show (if hn τ = hn τ then (6, 5) else _).1 = 6; rw [if_pos rfl]⟩
  have hN : NR τ (wR (wR (wI (wR (nw τ 6 5) (hn τ) 3 (some 0)) (hn τ) 0 (nI k)) (hn τ) 1 (some l)) (hn τ) 2 (some r)) 1 := ((((NR.new (by decide)).putR (Nat.le_refl _)).putI (Nat.le_refl _)).putR (Nat.le_refl _)).putR (Nat.le_refl _)
  refine ⟨wR (wR (wI (wR (nw τ 6 5) (hn τ) 3 (some 0)) (hn τ) 0 (nI k)) (hn τ) 1 (some l)) (hn τ) 2 (some r), fun K => ?_, hN, ?_, fun h0 => ?_⟩
  · unfold nO
    dsimp only
    rw [e_nn, c1, n8_init ho c2, e_bnd]
  · have hk2 : NK τ (wR (wR (wI (wR (nw τ 6 5) (hn τ) 3 (some 0)) (hn τ) 0 (nI k)) (hn τ) 1 (some l)) (hn τ) 2 (some r)) := by
      refine ⟨hN.1.1, fun b hb => ?_⟩
      obtain ⟨a1, a2, a3, a4⟩ := hN.2.2 b hb
      refine ⟨a1, fun _ _ => ⟨?_, a2⟩⟩
      have hne : b ≠ hn τ := by omega
      show hi (wI (wR (nw τ 6 5) (hn τ) 3 (some 0)) (hn τ) 0 (nI k)) b = _
      rw [hi_ne hne]
      show hi (nw τ 6 5) b = _
      exact funext fun j => if_neg (show ¬ b = τ.1 from hne)
    refine tr_act ho ?_ hr_eq ?_ (hl'.nk hk2) (hr'.nk hk2)
    · rw [hr_ni (by decide), hr_eq]
    · show hi (wI (wR (nw τ 6 5) (hn τ) 3 (some 0)) (hn τ) 0 (nI k)) (hn τ) 0 = _
      rw [hi_eq]
  · have hne : 0 ≠ hn τ := by omega
    show hi (wI (wR (nw τ 6 5) (hn τ) 3 (some 0)) (hn τ) 0 (nI k)) 0 = _
    rw [hi_ne hne]
    show hi (nw τ 6 5) 0 = _
    exact funext fun j => if_neg (show ¬ 0 = τ.1 from hne)
/-- the chain of acts of one rank -/
theorem c_chain {v1 x : Nat} (hv : v1 = 1 ∨ v1 = 2) (hg : Gd th e p0) (hm : CC (rc0 (some 0) (nI v1 + 1)) th c e p0 deep) (hx : x < 8) (hax : ∀ σ, f_X1_acts (nI v1) σ = some (x, σ)) (hpl : ∀ p, (c p = -1 ∨ ∃ k, k < 256 ∧ c p = nI k) → (plI x (c p) < 0 ↔ ¬ (c p = o1 ∨ c p = o2))) (ho : o1 ≠ -1 ∧ o2 ≠ -1) : ∀ k m f a d σ p, k + 1 < m → e < k + p → CS σ c e p → hi σ 0 13 = nI deep → p0 ≤ p → TR σ d a f → ∃ y τ, lp m (f_X1_reads_b20 rc0 rc1 (some 0) (nI v1) (fun a σ => some (a, σ))) (some a, 1) σ = some (y, τ) ∧ NR σ τ ((chn c o1 o2 th k f p).2 - p) ∧ p ≤ (chn c o1 o2 th k f p).2 ∧ hi τ 0 11 = nI (chn c o1 o2 th k f p).2 ∧ ((chn c o1 o2 th k f p).1 = none → y = none) ∧ ∀ E, (chn c o1 o2 th k f p).1 = some E → ∃ a, y = some a ∧ TR τ (d + ((chn c o1 o2 th k f p).2 - p)) a E ∧ hi τ 0 13 = nI deep := by
  intro k
  induction k with
  | zero => intro m f a d σ p _ he' hs; have := hs.2.2.2.1; omega
  | succ k ih =>
    intro m f a d σ p hkm hep hs hne hp0 ht
    obtain ⟨m, rfl⟩ : ∃ n, m = n + 1 := ⟨m - 1, by omega⟩
    obtain ⟨m', hm'⟩ : ∃ n, m = n + 1 := ⟨m - 1, by omega⟩
    show ∃ y τ, f_X1_reads_b20 rc0 rc1 (some 0) (nI v1) (fun a σ => some (a, σ)) (lp m (f_X1_reads_b20 rc0 rc1 (some 0) (nI v1) (fun a σ => some (a, σ)))) (some a, 1) σ = some (y, τ) ∧ _
    generalize hag : lp m (f_X1_reads_b20 rc0 rc1 (some 0) (nI v1) (fun a σ => some (a, σ))) = ag
    have hcp := hpl p hs.val
    have h80 := hs.2.2.1
    have hpe := hs.2.2.2.1
    have h4 := hs.2.2.2.2.1
    have o0 := so_0 hs.1
    have hv1 : ¬ nI v1 ≤ (0 : Int32) := by rw [l_le0 (by omega)]; omega
    unfold f_X1_reads_b20 chn jn nul
    dsimp only
    rw [if_neg (by decide), hax, e_bnd, e_ob o0, c_among' hs hx, e_bnd]
    by_cases hop : c p = o1 ∨ c p = o2
    · have hlt : p < e := by
        rcases hop with h | h
        · exact hs.2.1.lt h ho.1
        · exact hs.2.1.lt h ho.2
      obtain ⟨g1, kk, g2, g3⟩ := hs.2.2.2.2.2.2 p hlt
      have hs1 := hs.go (q := p + 1) hlt
      have hd := hg (p + 1) (by omega) (by omega)
      obtain ⟨y, τ, t1, t2, t3, t4, t5⟩ := hm (atC σ (p + 1)) (p + 1) hs1 (by show hi (wI σ 0 11 _) 0 13 = _; rw [hi_ni (by decide)]; exact hne) (by omega)
      rw [if_neg (fun z => hcp.mp z hop), e_gR o0, sp_0_9 hs.1, e_gI o0, h4, e_lI (so_10 hs.1) (by rw [sl_10 hs.1, inb_nI (by omega)]; omega), ix_nI (by omega), g1, e_gI o0, h4, e_pI o0, nI_1]
      rw [show wI σ 0 11 (nI (p + 1)) = atC σ (p + 1) from rfl, e_ob (so_0 hs1.1), t1, e_bnd, if_pos hop]
      have t2' : NR σ τ ((th (p + 1)).2 - (p + 1)) := by have := (NR.at (σ := σ) (q := p + 1)).trans t2; rw [Nat.zero_add] at this; exact this
      rcases hth : th (p + 1) with ⟨z, q⟩
      rw [hth] at hd t2 t2' t3 t4 t5
      cases z with
      | none =>
        dsimp only at *
        obtain rfl := t4 rfl
        dsimp only
        rw [if_neg hv1, ← hag, hm']
        refine ⟨none, τ, rfl, t2'.le (by omega), by omega, t3, fun _ => rfl, fun E hE => by cases hE⟩
      | some g =>
        dsimp only at *
        obtain ⟨b, rfl, tb, tn⟩ := t5 g rfl
        have hNK : NK σ τ := t2'.nk hs.1
        have hτ := t2'.sh hs.1
        have tl : TR τ (d + (q - (p + 1))) a f := (ht.nk hNK).up (by omega)
        have tr : TR τ (d + (q - (p + 1))) b g := tb.up (by omega)
        obtain ⟨υ, u1, u2, u3, u4⟩ := c_act tl tr g2
        have u4' := u4 (by have := hτ.1; omega)
        have hN2 : NR σ υ (q - p) := (t2'.trans u2).le (by omega)
        have hs2 : CS υ c e q := hN2.cs hs (by rw [u4']; exact t3) hd.2.1
        dsimp only
        rw [g3, u1 (fun a9 σ => if nI v1 ≤ 0 then ag (a9, 0) σ else ag (a9, 1) σ), if_neg hv1, ← hag]
        obtain ⟨y2, τ2, w1, w2, w3, w4, w5, w6⟩ := ih m (opE (nI kk) f g) (hn τ) (d + (q - (p + 1)) + 1) υ q (by omega) (by have := hd.2.2 (by simp); omega) hs2 (by rw [u4']; exact tn) (by omega) u3
        have hq := hd.2.2 (by simp)
        refine ⟨y2, τ2, w1, (hN2.trans w2).le (by omega), by omega, w4, w5, fun E hE => ?_⟩
        obtain ⟨a2, v1', v2, v3⟩ := w6 E hE
        exact ⟨a2, v1', v2.up (by omega), v3⟩
    · rw [if_pos (hcp.mpr hop), if_neg hop]
      refine ⟨some a, σ, rfl, NR.refl.le (Nat.zero_le _), Nat.le_refl _, h4, fun z => (by cases z), fun E hE => ?_⟩
      cases hE
      exact ⟨a, rfl, ht.up (by omega), hne⟩
/-- a rank above the lowest -/
theorem c_rank {v1 x : Nat} (hv : v1 = 1 ∨ v1 = 2) (he40 : e ≤ 40) (hg : Gd th e p0) (hm : CC (rc0 (some 0) (nI v1 + 1)) th c e p0 deep) (hx : x < 8) (hax : ∀ σ, f_X1_acts (nI v1) σ = some (x, σ)) (hpl : ∀ p, (c p = -1 ∨ ∃ k, k < 256 ∧ c p = nI k) → (plI x (c p) < 0 ↔ ¬ (c p = o1 ∨ c p = o2))) (ho : o1 ≠ -1 ∧ o2 ≠ -1) : CC (fb_X1_reads rc0 rc1 (some 0) (nI v1)) (lev c o1 o2 th) c e p0 deep := by
  intro σ p hs hne hp0
  obtain ⟨y, τ, t1, t2, t3, t4, t5⟩ := hm σ p hs hne hp0
  have hpe := hs.2.2.2.1
  have hd := hg p hp0 hpe
  have hv3 : ¬ nI v1 = 3 := by rcases hv with rfl | rfl <;> decide
  unfold fb_X1_reads lev
  rw [if_neg hv3, e_ob (so_0 hs.1), t1, e_bnd]
  rcases hth : th p with ⟨z, q⟩
  rw [hth] at hd t2 t3 t4 t5
  cases z with
  | none =>
    dsimp only at *
    obtain rfl := t4 rfl
    exact ⟨none, τ, rfl, t2, t3, fun _ => rfl, fun E hE => by cases hE⟩
  | some g =>
    dsimp only at *
    obtain ⟨b, rfl, tb, tn⟩ := t5 g rfl
    obtain ⟨y2, τ2, w1, w2, w3, w4, w5, w6⟩ := c_chain (rc1 := rc1) hv hg hm hx hax hpl ho 100 2000 g b (q - p) τ q (by decide) (by omega) (t2.cs hs t3 hd.2.1) tn (by omega) tb
    refine ⟨y2, τ2, w1, (t2.trans w2).le (by omega), w4, w5, fun E hE => ?_⟩
    obtain ⟨a2, v1', v2, v3⟩ := w6 E hE
    exact ⟨a2, v1', v2.up (by omega), v3⟩
/-- the highest rank is a thing -/
theorem c_rank3 (hm : CC (rc1 (some 0)) th c e p0 deep) : CC (fb_X1_reads rc0 rc1 (some 0) 3) th c e p0 deep := by
  intro σ p hs hne hp0
  obtain ⟨y, τ, t1, t2⟩ := hm σ p hs hne hp0
  refine ⟨y, τ, ?_, t2⟩
  unfold fb_X1_reads
  rw [if_pos rfl, e_ob (so_0 hs.1), t1, e_bnd]
/-- the lowest rank: one act at the most -/
theorem c_rank0 (he : Ends c e) (hg : Gd th e p0) (hm : CC (rc0 (some 0) (0 + 1)) (lev c 43 45 (lev c 42 47 th)) c e p0 deep) : CC (fb_X1_reads rc0 rc1 (some 0) 0) (held c th) c e p0 deep := by
  intro σ p hs hne hp0
  obtain ⟨y, τ, t1, t2, t3, t4, t5⟩ := hm σ p hs hne hp0
  have hpe := hs.2.2.2.1
  have h80 := hs.2.2.1
  have hG := sum_good he hg
  have hd := hG p hp0 hpe
  have hlp : ∀ a σ, lp 2000 (f_X1_reads_b20 rc0 rc1 (some 0) 0 (fun a σ => some (a, σ))) a σ = f_X1_reads_b20 rc0 rc1 (some 0) 0 (fun a σ => some (a, σ)) (fun a σ => f_X1_reads_b20 rc0 rc1 (some 0) 0 (fun a σ => some (a, σ)) (lp 1998 (f_X1_reads_b20 rc0 rc1 (some 0) 0 (fun a σ => some (a, σ)))) a σ) a σ := fun a σ => rfl
  unfold fb_X1_reads held
  rw [if_neg (by decide), e_ob (so_0 hs.1), t1, e_bnd, hlp]
  generalize lp 1998 (f_X1_reads_b20 rc0 rc1 (some 0) 0 (fun a σ => some (a, σ))) = ag
  rcases hth : lev c 43 45 (lev c 42 47 th) p with ⟨z, q⟩
  rw [hth] at hd t2 t3 t4 t5
  cases z with
  | none =>
    dsimp only at *
    obtain rfl := t4 rfl
    exact ⟨none, τ, rfl, t2, t3, fun _ => rfl, fun E hE => by cases hE⟩
  | some g =>
    dsimp only at *
    obtain ⟨b, rfl, tb, tn⟩ := t5 g rfl
    have hs1 := t2.cs hs t3 hd.2.1
    have hcp := (pl_ops hs1.val).1
    have o0 := so_0 hs1.1
    have hq80 := hd.2.1
    have hgt := hd.2.2 (by simp)
    have hax : f_X1_acts 0 τ = some (4, τ) := rfl
    have nxt : ∀ (y : Option Nat) (υ : Hp), f_X1_reads_b20 rc0 rc1 (some 0) 0 (fun a σ => some (a, σ)) ag (y, 0) υ = some (y, υ) := fun y υ => by
      unfold f_X1_reads_b20 nul
      cases y with
      | none => rfl
      | some w => dsimp only; rw [if_pos rfl]
    generalize hag2 : (fun a σ => f_X1_reads_b20 rc0 rc1 (some 0) 0 (fun a σ => some (a, σ)) ag a σ) = ag2
    have nxt' : ∀ (y : Option Nat) (υ : Hp), ag2 (y, 0) υ = some (y, υ) := fun y υ => by rw [← hag2]; exact nxt y υ
    unfold f_X1_reads_b20 jn nul
    dsimp only
    rw [if_neg (by decide), hax, e_bnd, e_ob o0, c_among' hs1 (by decide), e_bnd]
    by_cases hop : c q = 60 ∨ c q = 62 ∨ c q = 61
    · have hlt : q < e := by
        rcases hop with h | h | h <;> exact he.lt h (by decide)
      obtain ⟨g1, kk, g2, g3⟩ := hs1.2.2.2.2.2.2 q hlt
      have hs2 := hs1.go (q := q + 1) hlt
      have hd2 := hG (q + 1) (by omega) (by omega)
      obtain ⟨y, τ', r1, r2, r3, r4, r5⟩ := hm (atC τ (q + 1)) (q + 1) hs2 (by show hi (wI τ 0 11 _) 0 13 = _; rw [hi_ni (by decide)]; exact tn) (by omega)
      rw [if_neg (fun z => hcp.mp z hop), e_gR o0, sp_0_9 hs1.1, e_gI o0, t3, e_lI (so_10 hs1.1) (by rw [sl_10 hs1.1, inb_nI (by omega)]; omega), ix_nI (by omega), g1, e_gI o0, t3, e_pI o0, nI_1]
      rw [show wI τ 0 11 (nI (q + 1)) = atC τ (q + 1) from rfl, e_ob (so_0 hs2.1), r1, e_bnd, if_pos hop]
      have r2' : NR τ τ' ((lev c 43 45 (lev c 42 47 th) (q + 1)).2 - (q + 1)) := by have := (NR.at (σ := τ) (q := q + 1)).trans r2; rw [Nat.zero_add] at this; exact this
      rcases hth2 : lev c 43 45 (lev c 42 47 th) (q + 1) with ⟨z2, q2⟩
      rw [hth2] at hd2 r2 r2' r3 r4 r5
      cases z2 with
      | none =>
        dsimp only at *
        obtain rfl := r4 rfl
        dsimp only
        rw [if_pos (by decide), nxt']
        exact ⟨none, τ', rfl, (t2.trans r2').le (by omega), r3, fun _ => rfl, fun E hE => by cases hE⟩
      | some g' =>
        dsimp only at *
        obtain ⟨b2', rfl, tb2, tn2⟩ := r5 g' rfl
        have hgt2 := hd2.2.2 (by simp)
        have hNK : NK τ τ' := r2'.nk hs1.1
        have hτ := r2'.sh hs1.1
        have tl : TR τ' ((q - p) + (q2 - (q + 1))) b g := (tb.nk hNK).up (by omega)
        have tr : TR τ' ((q - p) + (q2 - (q + 1))) b2' g' := tb2.up (by omega)
        obtain ⟨υ, u1, u2, u3, u4⟩ := c_act tl tr g2
        have u4' := u4 (by have := hτ.1; omega)
        dsimp only
        rw [g3, u1 (fun a9 σ => if (0 : Int32) ≤ 0 then ag2 (a9, 0) σ else ag2 (a9, 1) σ), if_pos (by decide), nxt']
        refine ⟨some (hn τ'), υ, rfl, ((t2.trans r2').trans u2).le (by omega), by rw [u4']; exact r3, fun z => (by cases z), fun E hE => ?_⟩
        cases hE
        exact ⟨hn τ', rfl, u3.up (by omega), by rw [u4']; exact tn2⟩
    · rw [if_pos (hcp.mpr hop), if_neg hop]
      refine ⟨some b, τ, rfl, t2, t3, fun z => (by cases z), fun E hE => ?_⟩
      cases hE
      exact ⟨b, rfl, tb, tn⟩
end cparse
